/-! PURE: calls that ask: shut, way, thick, lift, heat -/
set_option maxRecDepth 100000
/-- both answer alike, and all holds again -/
def Ans (c : Option (Int32 × c_S)) (t : Option (Int32 × g_V)) (x : Nat) (L2 : g_L) : Prop := ∃ r Z' V', c = some (r, Z') ∧ t = some (r, V') ∧ G Z' x V' L2
def AnQ (c t : Option Int32) : Prop := ∃ r, c = some r ∧ t = some r
section Q1
variable {Sh : g_Sh} {V : g_V} {L : g_L} {n x : Nat} {m u mt q ρ : Nat → Nat} {V2 : g_V} {L2 : g_L}
theorem GG.g {Z : c_S} (h : GG Z x ρ m u mt q V2 L2) : G Z x V2 L2 := ⟨ρ, m, u, mt, q, h⟩
theorem GG.fr {Z : c_S} (h : GG Z x ρ m u mt q V2 L2) : FR Z m u (fun a => ρ a = 1) (V2 1) := h.1.1
theorem GG.rd {Z : c_S} (h : GG Z x ρ m u mt q V2 L2) : RD Z m u (fun a => ρ a = 1) (V2 1) := h.1.1.1.1
theorem GG.gm {Z : c_S} (h : GG Z x ρ m u mt q V2 L2) : GM Z.Sh x (m 0) (mt 0) q := h.2.2.1
theorem GG.f0 {Z : c_S} (h : GG Z x ρ m u mt q V2 L2) : FS0 Z.Sh m (u 0) := h.1.1.1.1.1
theorem GG.fa {Z : c_S} (h : GG Z x ρ m u mt q V2 L2) : FSa Z.Sh m := h.1.1.1.1.2.1
theorem GG.ts {Z : c_S} (h : GG Z x ρ m u mt q V2 L2) : TS Z.Sh Z.V (fun a => ρ a = 1) u (V2 1) := h.1.1.1.1.2.2.1
theorem GG.va {Z : c_S} (h : GG Z x ρ m u mt q V2 L2) : VA Z.V m (V2 1) := h.1.1.1.1.2.2.2.1
theorem GG.kok {Z : c_S} (h : GG Z x ρ m u mt q V2 L2) : pKok (V2 1) := h.1.1.1.1.2.2.2.2
theorem GG.inv {Z : c_S} (h : GG Z x ρ m u mt q V2 L2) : pInv (V2 1) := h.1.2.2.2.2
theorem GG.lt {Z : c_S} (h : GG Z x ρ m u mt q V2 L2) {i : Nat} (hi : i < 13) : m i < Z.n := h.2.2.2.2.2.2.1 _ (by rw [h.1.2.1 i (by omega)]; omega)
theorem TwK_rf : TwK V2 V2 := ⟨rfl, rfl, rfl, rfl, rfl, rfl, rfl, rfl, rfl, rfl, rfl⟩
theorem TwK_row {a : Nat} {g : Nat → Int32} (h : a ≠ 0 ∧ a ≠ 3 ∧ a ≠ 4 ∧ a ≠ 5 ∧ a ≠ 33 ∧ a ≠ 36 ∧ a ≠ 37) : TwK V2 (rowV V2 a g) := by
  obtain ⟨h0, h3, h4, h5, h33, h36, h37⟩ := h
  refine ⟨?_, ?_, ?_, ?_, ?_, ?_, ?_, ?_, ?_, ?_, ?_⟩ <;> rw [rowV_ne (by omega)]
theorem TwK_G {V2' : g_V} (h : EqG V2 V2') : TwK V2 V2' := by
  obtain ⟨h1, h2⟩ := h
  exact ⟨h1 3 (by omega) (by omega) (by omega) (by omega) (by omega) (by omega), h1 4 (by omega) (by omega) (by omega) (by omega) (by omega) (by omega), h1 5 (by omega) (by omega) (by omega) (by omega) (by omega) (by omega), h1 33 (by omega) (by omega) (by omega) (by omega) (by omega) (by omega), h1 36 (by omega) (by omega) (by omega) (by omega) (by omega) (by omega), h1 37 (by omega) (by omega) (by omega) (by omega) (by omega) (by omega), h2 6 (by omega), h2 13 (by omega), h2 14 (by omega), h2 34 (by omega), h2 35 (by omega)⟩
/-- scratch of a way alone changed -/
theorem GG_way (h : GG (Sh, V, L, n) x ρ m u mt q V2 L2) (A B g : Nat → Int32) : GG (st9 Sh V L n m A B) x ρ m u mt q (rowV V2 26 g) L2 :=
  GG_scr h (Nat.le_refl n) (fun _ _ => rfl) (fun a _ h3 h9 h10 => by rw [rowV_ne h10, rowV_ne h9]) (fun _ _ => rfl) (TwK_row (by omega)) (fun j _ => by rw [rowV_ne (by omega)])
theorem GG_thk (h : GG (Sh, V, L, n) x ρ m u mt q V2 L2) (A g : Nat → Int32) : GG (stF Sh V L n m A) x ρ m u mt q (rowV V2 26 g) L2 :=
  GG_scr h (Nat.le_refl n) (fun _ _ => rfl) (fun a _ h3 h9 h10 => by rw [rowV_ne h9]) (fun _ _ => rfl) (TwK_row (by omega)) (fun j _ => by rw [rowV_ne (by omega)])
theorem x_has (h : GG (Sh, V, L, n) x ρ m u mt q V2 L2) : cm_X0_hasShaft (Sh, V, L, n) x = some (b2i (pHas (V2 1))) := by
  have hM : GM Sh x (m 0) (mt 0) q := h.gm
  have hF : FS0 Sh m (u 0) := h.f0
  have hT : TS Sh V (fun a => ρ a = 1) u (V2 1) := h.ts
  have h2 := cm_hasShaft2_eq h.ts
  unfold cm_X0_hasShaft
  simp only [zSh_T, zV_T, zL_T, zn_T, x_now hM, f_t hF, t_KT hT, h2, bnd_S, okI_b]
theorem q_way (h : GG (Sh, V, L, n) x ρ m u mt q V2 L2) : Ans (cm_X0_way (Sh, V, L, n) x) (tw_way V2) x L2 := by
  have hM : GM Sh x (m 0) (mt 0) q := h.gm
  have hF : FS0 Sh m (u 0) := h.f0
  obtain ⟨A, B, e1⟩ := cm_way_eq h.fr.1
  obtain ⟨g, e2⟩ := tw_lo_way h.kok
  unfold cm_X0_way tw_way
  simp only [zSh_T, zV_T, zL_T, zn_T, x_K hM, x_has h, tw_hasShaft_eq, bnd_S, b2iF, x_now hM, f_KT hF, e1, e2, un2_S]
  cases pHas (V2 1) with
  | false => exact ⟨_, _, _, rfl, rfl, h.g⟩
  | true => exact ⟨_, _, _, rfl, rfl, (GG_way h A B g).g⟩
theorem q_shut (h : GG (Sh, V, L, n) x ρ m u mt q V2 L2) : Ans (cm_X0_shut (Sh, V, L, n) x) (tw_shut V2) x L2 := by
  have hM : GM Sh x (m 0) (mt 0) q := h.gm
  have hF : FS0 Sh m (u 0) := h.f0
  obtain ⟨A, B, e1⟩ := cm_isShut_eq h.fr.1 (pWayO_lt h.kok)
  obtain ⟨g, e2⟩ := tw_isShut_eq h.kok
  unfold cm_X0_shut tw_shut
  simp only [zSh_T, zV_T, zL_T, zn_T, x_K hM, x_has h, tw_hasShaft_eq, bnd_S, b2iF, x_now hM, f_KT hF, e1, e2, un2_S]
  cases pHas (V2 1) with
  | false => exact ⟨_, _, _, rfl, rfl, h.g⟩
  | true =>
    cases pShut (V2 1) with
    | false => exact ⟨_, _, _, rfl, rfl, (GG_way h A B g).g⟩
    | true => exact ⟨_, _, _, rfl, rfl, (GG_way h A B g).g⟩
theorem q_thick (h : GG (Sh, V, L, n) x ρ m u mt q V2 L2) : Ans (cm_X0_thick (Sh, V, L, n) x) (tw_thick V2) x L2 := by
  have hM : GM Sh x (m 0) (mt 0) q := h.gm
  have hF : FS0 Sh m (u 0) := h.f0
  unfold cm_X0_thick tw_thick
  simp only [zSh_T, zV_T, zL_T, zn_T, x_K hM, x_has h, tw_hasShaft_eq, bnd_S, b2iF]
  cases h7 : pHas (V2 1) with
  | false => exact ⟨_, _, _, rfl, rfl, h.g⟩
  | true =>
    obtain ⟨A, v, hv, e0, e1⟩ := cm_thick_eq h.fr.1 h.inv.2.2.1 h7
    obtain ⟨g, e2⟩ := tw_lo_thk h.kok
    simp only [zSh_T, zV_T, zL_T, zn_T, bnd_S, x_now hM, f_KT hF, e1, e2, un2_S, e0]
    exact ⟨_, _, _, rfl, rfl, (GG_thk h A g).g⟩
theorem in_N {a : Int32} {hi : Int64} {N : Nat} (hN : N ≤ 2 ^ 31) (h : hi.toInt = (N : Int) - 1) : tw_in a.toInt64 0 hi = some 0 ∨ ∃ k, k < N ∧ a = nI k ∧ tw_in a.toInt64 0 hi = some 1 := by
  rw [tw_inI, h, show (0 : Int64).toInt = 0 from rfl]
  by_cases hc : 0 ≤ a.toInt ∧ a.toInt ≤ (N : Int) - 1
  · right
    have hk : a.toInt.toNat < N := by omega
    refine ⟨a.toInt.toNat, hk, ?_, by rw [if_pos hc]⟩
    apply Int32.toInt_inj.mp
    rw [nI_toInt (by omega)]
    omega
  · left
    rw [if_neg hc]
theorem hi_S {t : Nat} (ht : t < 2 ^ 31) : ((nI t - 1).toInt64).toInt = (t : Int) - 1 := by
  rw [Int32.toInt_toInt64]
  have h1 : (1 : Int32).toInt = 1 := rfl
  have h2 := nI_toInt ht
  rw [Int32.toInt_sub, h1, h2, Int.bmod_eq_of_le] <;> omega
theorem in_pl (a b : Int32) : (cm_X0_isCell a b = some 0 ∧ tw_isPlace a b = some 0) ∨ ∃ k y, k < 12 ∧ y < 12 ∧ a = nI k ∧ b = nI y ∧ cm_X0_isCell a b = some 1 ∧ tw_isPlace a b = some 1 := by
  unfold cm_X0_isCell tw_isPlace
  simp only [cm_in_tw]
  rcases in_N (a := a) (hi := 11) (N := 12) (by omega) (by decide) with h1 | ⟨k, hk, ek, h1⟩
  · left; rw [h1]; exact ⟨rfl, rfl⟩
  · rcases in_N (a := b) (hi := 11) (N := 12) (by omega) (by decide) with h2 | ⟨y, hy, ey, h2⟩
    · left; rw [h1, h2]; exact ⟨rfl, rfl⟩
    · right; rw [h1, h2]; exact ⟨k, y, hk, hy, ek, ey, rfl, rfl⟩
theorem q_lift (h : GG (Sh, V, L, n) x ρ m u mt q V2 L2) (a : Int32) : AnQ (cm_X0_lift (Sh, V, L, n) x a) (tw_lift V2 a) := by
  have hM : GM Sh x (m 0) (mt 0) q := h.gm
  have hF : FS0 Sh m (u 0) := h.f0
  unfold cm_X0_lift tw_lift
  simp only [cm_in_tw]
  rcases in_N (a := a) (hi := 11) (N := 12) (by omega) (by decide) with h1 | ⟨k, hk, ek, h1⟩
  · rw [h1]; exact ⟨_, rfl, rfl⟩
  · rw [h1]
    subst ek
    have z1 : ¬ (1 : Int32) = 0 := by decide
    simp only [zSh_T, zV_T, zL_T, zn_T, bnd_S, z1, if_false, x_now hM, f_KT hF, cm_lift_eq h.rd hk, tw_liftOf_eq hk]
    exact ⟨_, rfl, rfl⟩
theorem q_gap (h : GG (Sh, V, L, n) x ρ m u mt q V2 L2) (a : Int32) : AnQ (cm_X0_gap (Sh, V, L, n) x a) (tw_gap V2 a) := by
  have hM : GM Sh x (m 0) (mt 0) q := h.gm
  obtain ⟨-, -, -, h4, t, t1, t2, t3, t4⟩ := h.2.2.2.1
  simp only [zSh_T, zV_T, zL_T, zn_T] at h4 t2 t4
  unfold cm_X0_gap tw_gap
  simp (disch := omega) only [zSh_T, zV_T, zL_T, zn_T, cm_in_tw, x_I hM, t2, t3]
  rcases in_N (a := a) (hi := (nI t - 1).toInt64) (N := t) (by omega) (hi_S (by omega)) with h1 | ⟨k, hk, ek, h1⟩
  · rw [h1]; exact ⟨_, rfl, rfl⟩
  · rw [h1]
    subst ek
    have z1 : ¬ (1 : Int32) = 0 := by decide
    simp (disch := omega) only [zSh_T, zV_T, zL_T, zn_T, bnd_S, z1, if_false, x_tg hM, caI_eq h4, rdI_in, t4 k hk]
    exact ⟨_, rfl, rfl⟩
theorem q_fault (h : GG (Sh, V, L, n) x ρ m u mt q V2 L2) (a : Int32) : AnQ (cm_X0_fault (Sh, V, L, n) x a) (tw_fault V2 a) := by
  have hM : GM Sh x (m 0) (mt 0) q := h.gm
  obtain ⟨⟨h1, h2, h3⟩, -⟩ := h.2.2.2.1
  simp only [zSh_T, zV_T, zL_T, zn_T] at h1 h2
  unfold cm_X0_fault tw_fault
  simp (disch := omega) only [zSh_T, zV_T, zL_T, zn_T, x_I hM, h1, h2]
  split
  · exact ⟨_, rfl, rfl⟩
  · split
    · exact ⟨_, rfl, rfl⟩
    · exact ⟨_, rfl, rfl⟩
theorem q_chosen (h : GG (Sh, V, L, n) x ρ m u mt q V2 L2) : AnQ (cm_X0_chosen (Sh, V, L, n) x) (tw_chosen V2) := by
  have hM : GM Sh x (m 0) (mt 0) q := h.gm
  obtain ⟨⟨h1, h2, h3⟩, -⟩ := h.2.2.2.1
  simp only [zSh_T, zV_T, zL_T, zn_T] at h3
  unfold cm_X0_chosen tw_chosen
  simp (disch := omega) only [zSh_T, zV_T, zL_T, zn_T, x_I hM, h3]
  exact ⟨_, rfl, rfl⟩
theorem q_heat (h : GG (Sh, V, L, n) x ρ m u mt q V2 L2) (a : Int32) : AnQ (cm_X0_heat (Sh, V, L, n) x a) (tw_heat V2 a) := by
  have hM : GM Sh x (m 0) (mt 0) q := h.gm
  have hF : FS0 Sh m (u 0) := h.f0
  obtain ⟨i9, i10, i11, i12, i13, i14, i15, i16, i17⟩ := h.fr.2.2.1
  simp only [zSh_T, zV_T, zL_T, zn_T] at i11 i12 i13 i14 i15
  have hin : tw_in a.toInt64 1 5 = some (if a = 1 ∨ a = 2 ∨ a = 3 ∨ a = 4 ∨ a = 5 then 1 else 0) := by
    rw [tw_inI, show (1 : Int64).toInt = 1 from rfl, show (5 : Int64).toInt = 5 from rfl]
    have e : ∀ k : Nat, k < 6 → (a = nI k ↔ a.toInt = k) := fun k hk => by rw [← Int32.toInt_inj, nI_toInt (by omega)]
    have e1 := e 1 (by omega)
    have e2 := e 2 (by omega)
    have e3 := e 3 (by omega)
    have e4 := e 4 (by omega)
    have e5 := e 5 (by omega)
    congr 1
    have : (1 ≤ a.toInt ∧ a.toInt ≤ 5) ↔ (a = nI 1 ∨ a = nI 2 ∨ a = nI 3 ∨ a = nI 4 ∨ a = nI 5) := by rw [e1, e2, e3, e4, e5]; omega
    by_cases hc : (1 ≤ a.toInt ∧ a.toInt ≤ 5)
    · rw [if_pos hc]; exact (if_pos (this.mp hc)).symm
    · rw [if_neg hc]; exact (if_neg (fun z => hc (this.mpr z))).symm
  unfold cm_X0_heat tw_heat
  simp (disch := omega) only [zSh_T, zV_T, zL_T, zn_T, x_now hM, f_KT hF, f_I hF, cm_heat_eq h.rd, tw_heatNow_eq, bnd_S, hin, i11, i12, i13, i14, i15]
  have z1 : ¬ (1 : Int32) = 0 := by decide
  by_cases c0 : a = 0
  · rw [if_pos c0, if_pos c0]; exact ⟨_, rfl, rfl⟩
  · rw [if_neg c0, if_neg c0]
    by_cases c : a = 1 ∨ a = 2 ∨ a = 3 ∨ a = 4 ∨ a = 5
    · rw [if_pos c, if_neg z1]
      rcases c with rfl | rfl | rfl | rfl | rfl
      · rw [if_pos rfl, show (14 : Int32) + 1 - 1 = nI 14 from rfl, rdI_in (by omega) (by omega)]; exact ⟨_, rfl, rfl⟩
      · rw [if_neg (by decide), if_pos rfl, show (14 : Int32) + 2 - 1 = nI 15 from rfl, rdI_in (by omega) (by omega)]; exact ⟨_, rfl, rfl⟩
      · rw [if_neg (by decide), if_neg (by decide), if_pos rfl, show (14 : Int32) + 3 - 1 = nI 16 from rfl, rdI_in (by omega) (by omega)]; exact ⟨_, rfl, rfl⟩
      · rw [if_neg (by decide), if_neg (by decide), if_neg (by decide), if_pos rfl, show (14 : Int32) + 4 - 1 = nI 17 from rfl, rdI_in (by omega) (by omega)]; exact ⟨_, rfl, rfl⟩
      · rw [if_neg (by decide), if_neg (by decide), if_neg (by decide), if_neg (by decide), if_pos rfl, show (14 : Int32) + 5 - 1 = nI 18 from rfl, rdI_in (by omega) (by omega)]; exact ⟨_, rfl, rfl⟩
    · rw [if_neg c, if_pos rfl, if_neg (fun e => c (by simp [e])), if_neg (fun e => c (by simp [e])), if_neg (fun e => c (by simp [e])), if_neg (fun e => c (by simp [e])), if_neg (fun e => c (by simp [e]))]
      exact ⟨_, rfl, rfl⟩
end Q1
