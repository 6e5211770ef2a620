/-! PURE: the component: pipes, what a cell does -/
set_option maxRecDepth 100000
section LR
variable {σ ρ : Type} {F : (σ → Option ρ) → σ → Option ρ}
/-- a loop of N turns, told by what holds at each -/
theorem lp_rel {N : Nat} {P : ρ → Prop} (R : Nat → σ → Prop) (hs : ∀ i s, i < N → R i s → ∃ s', (∀ rec, F rec s = rec s') ∧ R (i + 1) s') (he : ∀ s, R N s → ∃ out, (∀ rec, F rec s = some out) ∧ P out) : ∀ n i s, i ≤ N → N - i < n → R i s → ∃ out, lp F n s = some out ∧ P out := by
  intro n
  induction n with
  | zero => intro i s _ h; omega
  | succ n ih =>
    intro i s hi hn hR
    rw [lp_s]
    by_cases h : i = N
    · subst h
      obtain ⟨out, h1, h2⟩ := he s hR
      exact ⟨out, h1 _, h2⟩
    · obtain ⟨s', h1, h2⟩ := hs i s (by omega) hR
      rw [h1]
      exact ih (i + 1) s' (by omega) (by omega) h2
end LR
theorem upd_self' {f : Nat → Int32} {i : Nat} {x : Int32} (h : x = f i) : upd f i x = f := by rw [h, upd_self]
theorem r_rise (a r h t : Int32) : a + r + (h - r - t) = a + (h - t) := by
  apply Int32.toBitVec_inj.mp
  simp only [Int32.toBitVec_add, Int32.toBitVec_sub]
  generalize a.toBitVec = a
  generalize r.toBitVec = r
  generalize h.toBitVec = h
  generalize t.toBitVec = t
  apply BitVec.eq_of_toNat_eq
  simp only [BitVec.toNat_add, BitVec.toNat_sub]
  omega
theorem r_fall (a f h z : Int32) : a - f + (h + f + z) = a + (h + z) := by
  apply Int32.toBitVec_inj.mp
  simp only [Int32.toBitVec_add, Int32.toBitVec_sub]
  generalize a.toBitVec = a
  generalize f.toBitVec = f
  generalize h.toBitVec = h
  generalize z.toBitVec = z
  apply BitVec.eq_of_toNat_eq
  simp only [BitVec.toNat_add, BitVec.toNat_sub]
  omega
theorem r_neg (h f : Int32) : -(h + f) = -h - f := by
  apply Int32.toBitVec_inj.mp
  simp only [Int32.toBitVec_add, Int32.toBitVec_sub, Int32.toBitVec_neg]
  generalize h.toBitVec = h
  generalize f.toBitVec = f
  apply BitVec.eq_of_toNat_eq
  simp only [BitVec.toNat_add, BitVec.toNat_sub, BitVec.toNat_neg]
  omega
/-- values of a field: its ints, its pipes, its houses, its gauges -/
def VI (V : g_V) (m : Nat → Nat) (w : Nat → Int32) : Prop := V (m 0) 9 = w 1 ∧ V (m 0) 10 = w 6 ∧ V (m 0) 11 = w 14 ∧ V (m 0) 12 = w 15 ∧ V (m 0) 13 = w 16 ∧ V (m 0) 14 = w 17 ∧ V (m 0) 15 = w 18 ∧ V (m 0) 16 = w 13 ∧ V (m 0) 17 = w 12
def VLi (V : g_V) (m : Nat → Nat) (w : Nat → Int32) : Prop := V (m 5) 2 = w 2 ∧ V (m 6) 2 = w 3
def VPi (V : g_V) (m : Nat → Nat) (w : Nat → Int32) : Prop := ∀ p i, p < pNp w → i < 6 → V (m (13 + p)) i = w (624 + 6 * p + i)
def VHo (V : g_V) (m : Nat → Nat) (w : Nat → Int32) : Prop := ∀ h i, h < pNh w → i < 3 → V (m (31 + h)) i = w (732 + 3 * h + i)
def VGa (V : g_V) (m : Nat → Nat) (w : Nat → Int32) : Prop := ∀ g, g < 10 → V (m 7) g = w (790 + 2 * g) ∧ (w (790 + 2 * g) = -1 ∨ V (m 8) g = w (790 + 2 * g + 1))
section LI
variable {ρ : Type} {Sh : g_Sh} {V : g_V} {L : g_L} {n l e q : Nat} {g : Nat → Nat}
theorem l_K (h : LSt Sh l e q g) {k : Option ρ} : zK (Sh, V, L, n) l 14 3 k = k := by obtain ⟨⟨rf, h1, -⟩, -⟩ := h; exact zK_T h1
theorem l_size (h : LSt Sh l e q g) : cm_J2_size (Sh, V, L, n) l = some (V l 2) := by
  obtain ⟨⟨rf, h1, -, -, h2⟩, -⟩ := h
  unfold cm_J2_size
  exact cI_eq h1 h2
theorem l_get (h : LSt Sh l e q g) {p : Nat} (hq : V l 2 = nI q) (hp : p < q) : cm_J2_get (Sh, V, L, n) l (nI p) = some (some (g p)) := by
  have hK : ∀ k : Option (Option Nat), zK (Sh, V, L, n) l 14 3 k = k := fun k => l_K h
  obtain ⟨⟨rf, h1, -, h3, h2⟩, cap, el, h4, h5, h6, h7⟩ := h
  have hi : cm_J4_checkIndex (nI p) (nI q) none = some (nI p) := by
    unfold cm_J4_checkIndex
    rw [if_neg (nI_pos (by omega)), if_pos (nI_lt hp (by omega))]
  have he : cm_J2_elementData (Sh, V, L, n) l (nI p) = some (some (g p)) := by
    unfold cm_J2_elementData
    simp only [zSh_T]
    rw [cA_eq h1 h3, caR_eq h4 (show p < cap by omega) (by omega), h7 p hp]
  unfold cm_J2_get cm_J3_checkIndex
  rw [cI_eq h1 h2]
  simp only [zV_T, hq, hi, bnd_S]
  rw [hK, he, bnd_S]
end LI
/-- no sum of warmth and cold goes beyond its bounds -/
def pBnd (w : Nat → Int32) : Prop := (∀ c, c < 144 → -3900 ≤ (w (192 + c)).toInt ∧ (w (192 + c)).toInt ≤ 300) ∧ ∀ p, p < pNp w → (-400 ≤ (w (624 + 6 * p + 1)).toInt ∧ (w (624 + 6 * p + 1)).toInt ≤ 0) ∧ (w (624 + 6 * p + 3) = 0 ∨ w (624 + 6 * p + 3) = 1)
theorem sub_pos_iff {a b : Int32} (ha : -3900 ≤ a.toInt ∧ a.toInt ≤ 300) (hb : -400 ≤ b.toInt ∧ b.toInt ≤ 0) : (0 < a - b) ↔ ¬ a ≤ b := by
  have h1 : (a - b).toInt = a.toInt - b.toInt := by
    rw [Int32.toInt_sub]
    exact Int.bmod_eq_of_le (by omega) (by omega)
  rw [Int32.lt_iff_toInt_lt, Int32.le_iff_toInt_le, h1]
  have h0 : (0 : Int32).toInt = 0 := rfl
  rw [h0]
  omega
theorem zero_m (x : Int32) : 0 * x / 100 = 0 := by
  rw [Int32.zero_mul]
  decide
section CW
variable {Sh : g_Sh} {V : g_V} {L : g_L} {n : Nat} {m u : Nat → Nat} {Fz : Nat → Prop} {np nh : Nat} {w : Nat → Int32} {c p : Nat}
theorem p_I {ρ : Type} (hP : FSp Sh m np nh) (hp : p < np) {i : Nat} (hi : i < 6) {k : Int32 → Option ρ} : cI Sh V (m (13 + p)) 5 6 i k = k (V (m (13 + p)) i) := by obtain ⟨rf, h1, h2⟩ := hP.2.2.1 p hp; exact cI_eq h1 (h2 i hi)
theorem p_P {ρ : Type} (hP : FSp Sh m np nh) (hp : p < np) {i : Nat} (hi : i < 6) {x : Int32} {k : c_S → Option ρ} : zPI (Sh, V, L, n) (m (13 + p)) 5 6 i x k = k (Sh, upd2 V (m (13 + p)) i x, L, n) := by obtain ⟨rf, h1, h2⟩ := hP.2.2.1 p hp; exact zPI_T h1 (h2 i hi)
theorem p_C {ρ : Type} (hP : FSp Sh m np nh) (hp : p < np) {k : Option ρ} : zCk (Sh, V, L, n) (some (m (13 + p))) 5 6 k = k := by obtain ⟨rf, h1, h2⟩ := hP.2.2.1 p hp; exact zK_T h1
theorem p_K {ρ : Type} (hP : FSp Sh m np nh) (hp : p < np) {k : Option ρ} : zK (Sh, V, L, n) (m (13 + p)) 5 6 k = k := by obtain ⟨rf, h1, h2⟩ := hP.2.2.1 p hp; exact zK_T h1
theorem h_I {ρ : Type} (hP : FSp Sh m np nh) (hp : p < nh) {i : Nat} (hi : i < 3) {k : Int32 → Option ρ} : cI Sh V (m (31 + p)) 6 3 i k = k (V (m (31 + p)) i) := by obtain ⟨rf, h1, h2⟩ := hP.2.2.2 p hp; exact cI_eq h1 (h2 i hi)
theorem h_P {ρ : Type} (hP : FSp Sh m np nh) (hp : p < nh) {i : Nat} (hi : i < 3) {x : Int32} {k : c_S → Option ρ} : zPI (Sh, V, L, n) (m (31 + p)) 6 3 i x k = k (Sh, upd2 V (m (31 + p)) i x, L, n) := by obtain ⟨rf, h1, h2⟩ := hP.2.2.2 p hp; exact zPI_T h1 (h2 i hi)
theorem h_C {ρ : Type} (hP : FSp Sh m np nh) (hp : p < nh) {k : Option ρ} : zCk (Sh, V, L, n) (some (m (31 + p))) 6 3 k = k := by obtain ⟨rf, h1, h2⟩ := hP.2.2.2 p hp; exact zK_T h1
/-- a pipe's place and what it would take -/
theorem cm_wants_eq (hR : RD (Sh, V, L, n) m u Fz w) (hP : FSp Sh m np nh) (hpo : pPok w) (hb : pBnd w) (hp : p < pNp w) (hnp : pNp w = np) (hv : ∀ i, i < 4 → V (m (13 + p)) i = w (624 + 6 * p + i)) : cm_X1_wants (Sh, V, L, n) (m 0) (m (13 + p)) = some (pWant w p) := by
  obtain ⟨hF, hA, hT, hV, hk⟩ := hR
  simp only [zSh_T, zV_T, zL_T, zn_T] at hF hA hT hV
  obtain ⟨hc1, hc2⟩ := hpo.2.2.1 p hp
  have hdu : V (m 4) (pPc w p) = b2i (pDug w (pPc w p)) := VA_dug (Z := (Sh, V, L, n)) hV hc2
  have v0 := hv 0 (by omega)
  have v1 := hv 1 (by omega)
  have v2 := hv 2 (by omega)
  have v3 := hv 3 (by omega)
  rw [Nat.add_zero, hc1] at v0
  unfold cm_X1_wants
  have hp2 : p < np := by omega
  simp (disch := omega) only [zSh_T, zV_T, zL_T, zn_T, p_I hP hp2, f_A hF, v0, v1, v2, v3, caI_eq hA.2.2.2.1, caI_eq hA.1, hdu, b2iF, (hV _ hc2).1, nmI_S]
  obtain ⟨b1, b2⟩ := hb.2 p hp
  have b3 := sub_pos_iff (hb.1 _ hc2) b1
  unfold pWant
  rcases b2 with h3 | h3
  · have z : ¬ (0 : Int32) = 1 := by decide
    simp only [h3, if_true, z, false_and, if_false]
  · have z : ¬ (1 : Int32) = 0 := by decide
    simp only [h3, z, if_false, true_and]
    cases hd : pDug w (pPc w p)
    · simp only [if_true, true_and, b3]
      by_cases h4 : w (192 + pPc w p) ≤ w (624 + 6 * p + 1)
      · simp only [h4, not_true_eq_false, if_false, zero_m]
      · simp only [h4, not_false_eq_true, if_true]
    · simp
theorem RD_frame {V' : g_V} {L' : g_L} {n' : Nat} (h : RD (Sh, V, L, n) m u Fz w) (h1 : V' (m 1) = V (m 1)) (h2 : V' (m 2) = V (m 2)) (h4 : V' (m 4) = V (m 4)) (hz : ∀ a, Fz a → V' a = V a) : RD (Sh, V', L', n') m u Fz w := by
  obtain ⟨hF, hA, hT, hV, hk⟩ := h
  refine ⟨hF, hA, TS_mono hT (fun _ _ => rfl) hz, fun c hc => ?_, hk⟩
  show V' (m 1) c = _ ∧ V' (m 2) c = _ ∧ V' (m 4) c = _ ∧ _
  rw [h1, h2, h4]
  exact hV c hc
/-- what pipes took -/
def CoolR (V V' : g_V) (m : Nat → Nat) (np : Nat) (q : (Nat → Int32) × (Nat → Int32)) : Prop := V' (m 0) = upd (V (m 0)) 11 (q.1 14) ∧ V' (m 3) = q.2 ∧ (∀ p i, p < np → i < 6 → V' (m (13 + p)) i = q.1 (624 + 6 * p + i)) ∧ ∀ a, a ≠ m 0 → a ≠ m 3 → (∀ p, p < np → a ≠ m (13 + p)) → V' a = V a
theorem cm_cools_eq (h : FM (Sh, V, L, n) m u Fz (pNp w) nh w) (hP : FSp Sh m (pNp w) nh) (hpo : pPok w) (hb : pBnd w) (hvp : VPi V m w) (h5 : V (m 5) 2 = w 2) (h10 : V (m 0) 10 = w 6) (h11 : V (m 0) 11 = w 14) : ∃ V', cm_X1_cools (Sh, V, L, n) (m 0) = some (Sh, V', L, n) ∧ CoolR V V' m (pNp w) (pPip w (V (m 3))) := by
  obtain ⟨hR, hm, hz⟩ := h
  have hF : FS0 Sh m (u 0) := hR.1
  have hA : FSa Sh m := hR.2.1
  have hn18 := hpo.2.1
  have h5n : V (m 5) 2 = nI (pNp w) := h5.trans hpo.1
  have w1 : cm_X1_cools_L4 (m 0) (Sh, V, L, n) 1000 0 0 = some (pAll w) := by
    have hh := lp_itr (F := cm_X1_cools_F4 (m 0) (Sh, V, L, n)) (N := pNp w) (mk := fun (a : Int64) i => (a, nI i)) (f := fun p (a : Int64) => a + (pWant w p).toInt64) (out := fun x => x) (n := 1000) (a := 0) ?_ ?_ (by omega)
    · rw [nI_0] at hh
      exact hh
    · intro rec i a hi
      have hg := l_get (V := V) (L := L) (n := n) hP.1 h5n hi
      have hw := cm_wants_eq hR hP hpo hb hi rfl (fun j hj => hvp i j hi (by omega))
      unfold cm_X1_cools_F4
      simp (disch := omega) only [cm_X1_cools_B4, zSh_T, zV_T, zL_T, zn_T, L_add, L_addR, L_mul, L_mulR, L_div, N_div, N_rem, L_sub, L_subN, nI_add, nI_mul, L_le, L_leR, L_lt, L_ltR, L_eq, N_leT, N_leF, N_ltT, N_ltF, N_eqT, N_eqF, N_m1, bnd_S, un2_S, un3_S, nmI_S, nmL_S, ptI_S, cs2_L, cs2_R, okI_b, okI_1, okI_0, rdI_in, wrI_in, rdI_L, wrI_L, rdL_in, wrL_in, if_true, if_false, f_A hF, l_K hP.1, l_size hP.1, h5n, hg, p_C hP hi, nn_eq, f_KT hF, hw]
    · intro rec a
      unfold cm_X1_cools_F4
      simp (disch := omega) only [cm_X1_cools_B4, zSh_T, zV_T, zL_T, zn_T, L_add, L_addR, L_mul, L_mulR, L_div, N_div, N_rem, L_sub, L_subN, nI_add, nI_mul, L_le, L_leR, L_lt, L_ltR, L_eq, N_leT, N_leF, N_ltT, N_ltF, N_eqT, N_eqF, N_m1, bnd_S, un2_S, un3_S, nmI_S, nmL_S, ptI_S, cs2_L, cs2_R, okI_b, okI_1, okI_0, rdI_in, wrI_in, rdI_L, wrI_L, rdL_in, wrL_in, if_true, if_false, f_A hF, l_K hP.1, l_size hP.1, h5n]
  have w2 := lp_rel (F := cm_X1_cools_F46 (m 0) (pAll w)) (N := pNp w) (P := fun out => ∃ V', out = (Sh, V', L, n) ∧ CoolR V V' m (pNp w) (pPip w (V (m 3)))) (fun i s => s.1 = nI i ∧ ∃ V', s.2 = (Sh, V', L, n) ∧ CoolR V V' m (pNp w) (itr (pPipF w) (w, V (m 3)) i) ∧ pA w (itr (pPipF w) (w, V (m 3)) i).1) ?_ ?_ 1000 0 (0, (Sh, V, L, n)) (by omega) (by omega) ⟨nI_0.symm, V, rfl, ⟨?_, rfl, hvp, fun _ _ _ _ => rfl⟩, fun _ _ _ => rfl⟩
  · obtain ⟨out, h1, V', rfl, h2⟩ := w2
    refine ⟨V', ?_, h2⟩
    unfold cm_X1_cools cm_X1_cools_L46
    rw [w1, bnd_S, h1, bnd_S]
  · intro i s hi hs
    obtain ⟨x, Z'⟩ := s
    obtain ⟨hx, V', hZ, hC, hpa⟩ := hs
    simp only at hx hZ
    subst hx hZ
    rw [itr_s]
    generalize hq : itr (pPipF w) (w, V (m 3)) i = q at hC hpa
    obtain ⟨c0, c3, cp, co⟩ := hC
    have hlo : ∀ j, j < 13 → j ≠ 0 → j ≠ 3 → V' (m j) = V (m j) := fun j hj h0 h3 => co _ (hm.ne (by omega) (by omega) h0) (hm.ne (by omega) (by omega) h3) (fun p hp => hm.ne (by omega) (by omega) (by omega))
    have hR' : RD (Sh, V', L, n) m u Fz w := RD_frame hR (hlo 1 (by omega) (by omega) (by omega)) (hlo 2 (by omega) (by omega) (by omega)) (hlo 4 (by omega) (by omega) (by omega)) (fun a ha => co a (fun e => hz 0 (by omega) (e ▸ ha)) (fun e => hz 3 (by omega) (e ▸ ha)) (fun p hp e => hz (13 + p) (by omega) (e ▸ ha)))
    have h5' : V' (m 5) 2 = nI (pNp w) := by rw [hlo 5 (by omega) (by omega) (by omega)]; exact h5n
    have hg := l_get (V := V') (L := L) (n := n) hP.1 h5' hi
    have hvi : ∀ j, j < 4 → V' (m (13 + i)) j = w (624 + 6 * i + j) := fun j hj => (cp i j hi (by omega)).trans (hpa _ (by omega) (by omega))
    have hw := cm_wants_eq hR' hP hpo hb hi rfl hvi
    have h10' : V' (m 0) 10 = w 6 := by rw [c0, upd_ne (by omega)]; exact h10
    obtain ⟨hc1, hc2⟩ := hpo.2.2.1 i hi
    have v0 := hvi 0 (by omega)
    rw [Nat.add_zero, hc1] at v0
    have hne0 : m 0 ≠ m (13 + i) := hm.ne (by omega) (by omega) (by omega)
    have hne3 : m 3 ≠ m (13 + i) := hm.ne (by omega) (by omega) (by omega)
    have hne03 : m 0 ≠ m 3 := hm.ne (by omega) (by omega) (by omega)
    have tail : ∀ z, z = pTake w i → ∃ s', (∀ rec : Int32 × c_S → Option c_S, cm_X1_cools_J111 (fun x3 Z => rec (x3, Z)) (m 0) (pAll w) (nI i) (m (13 + i)) (m (13 + i)) z (Sh, V', L, n) = rec s') ∧ (s'.1 = nI (i + 1) ∧ ∃ V'', s'.2 = (Sh, V'', L, n) ∧ CoolR V V'' m (pNp w) (pPipF w i q) ∧ pA w (pPipF w i q).1) := by
      intro z hz9
      subst hz9
      refine ⟨(nI (i + 1), (Sh, rowV (rowV (rowV V' (m 0) (upd (V' (m 0)) 11 (V' (m 0) 11 + pTake w i))) (m 3) (upd (V' (m 3)) (pPc w i) (V' (m 3) (pPc w i) - pTake w i))) (m (13 + i)) (upd (upd (V' (m (13 + i))) 4 (pTake w i)) 5 (V' (m (13 + i)) 5 + pTake w i)), L, n)), fun rec => ?_, rfl, _, rfl, ⟨?_, ?_, fun p j hp hj => ?_, fun a a0 a3 ap => ?_⟩, ?_⟩
      · simp (disch := omega) only [cm_X1_cools_J111, zSh_T, zV_T, zL_T, zn_T, L_add, L_addR, L_mul, L_mulR, L_div, N_div, N_rem, L_sub, L_subN, nI_add, nI_mul, L_le, L_leR, L_lt, L_ltR, L_eq, N_leT, N_leF, N_ltT, N_ltF, N_eqT, N_eqF, N_m1, bnd_S, un2_S, un3_S, nmI_S, nmL_S, ptI_S, cs2_L, cs2_R, okI_b, okI_1, okI_0, rdI_in, wrI_in, rdI_L, wrI_L, rdL_in, wrL_in, if_true, if_false, p_P hP hi, p_I hP hi, f_A hF, upd2_row, rowV_eq, rowM_ne hm, upd_eq, upd_ne, v0, caI_eq hA.2.2.1, zsI_T hA.2.2.1, f_I hF, f_pT hF]
        simp (disch := omega) only [upd2_row, rowV_eq, rowM_ne hm, rowV_over, rowM_swap hm, upd_eq, upd_ne, upd_over, Nat.zero_add]
      · rw [rowM_ne hm (by omega) (by omega) (by omega), rowM_ne hm (by omega) (by omega) (by omega), rowV_eq, c0, upd_over, upd_eq]
        unfold pPipF
        simp only
        rw [upd_eq]
      · rw [rowM_ne hm (by omega) (by omega) (by omega), rowV_eq, c3]
        rfl
      · by_cases hpi : p = i
        · subst hpi
          rw [rowV_eq]
          have hc := cp p j hi hj
          have hc5 := cp p 5 hi (by omega)
          unfold pPipF
          simp only
          rw [upd_ne (show 624 + 6 * p + j ≠ 14 by omega)]
          by_cases hj5 : j = 5
          · subst hj5
            rw [upd_eq, upd_eq, hc5]
          · rw [upd_ne hj5, upd_ne (show 624 + 6 * p + j ≠ 624 + 6 * p + 5 by omega)]
            by_cases hj4 : j = 4
            · subst hj4
              rw [upd_eq, upd_eq]
            · rw [upd_ne hj4, upd_ne (show 624 + 6 * p + j ≠ 624 + 6 * p + 4 by omega), hc]
        · rw [rowM_ne hm (by omega) (by omega) (by omega), rowM_ne hm (by omega) (by omega) (by omega), rowM_ne hm (by omega) (by omega) (by omega), cp p j hp hj]
          unfold pPipF
          simp only
          rw [upd_ne (by omega), upd_ne (by omega), upd_ne (by omega)]
      · rw [rowV_ne (ap i hi), rowV_ne a3, rowV_ne a0]
        exact co a a0 a3 ap
      · obtain ⟨q1, q2⟩ := q
        exact pA_step (by omega) hpa
    have h6 := hpo.2.2.2
    by_cases hl : pAll w ≤ (w 6).toInt64
    · obtain ⟨s', h1, h2⟩ := tail (pWant w i) (by unfold pTake; rw [if_pos hl])
      refine ⟨s', fun rec => ?_, h2⟩
      unfold cm_X1_cools_F46
      simp (disch := omega) only [cm_X1_cools_B46, zSh_T, zV_T, zL_T, zn_T, L_add, L_addR, L_mul, L_mulR, L_div, N_div, N_rem, L_sub, L_subN, nI_add, nI_mul, L_le, L_leR, L_lt, L_ltR, L_eq, N_leT, N_leF, N_ltT, N_ltF, N_eqT, N_eqF, N_m1, bnd_S, un2_S, un3_S, nmI_S, nmL_S, ptI_S, cs2_L, cs2_R, okI_b, okI_1, okI_0, rdI_in, wrI_in, rdI_L, wrI_L, rdL_in, wrL_in, if_true, if_false, f_A hF, l_K hP.1, l_size hP.1, h5', hg, p_C hP hi, nn_eq, f_KT hF, hw, f_I hF, h10', lg_cmp_le, hl]
      exact h1 rec
    · obtain ⟨s', h1, h2⟩ := tail _ (show ((pWant w i).toInt64 * (w 6).toInt64 / pAll w).toInt32 = pTake w i by unfold pTake; rw [if_neg hl])
      refine ⟨s', fun rec => ?_, h2⟩
      unfold cm_X1_cools_F46
      simp (disch := omega) only [cm_X1_cools_B46, zSh_T, zV_T, zL_T, zn_T, L_add, L_addR, L_mul, L_mulR, L_div, N_div, N_rem, L_sub, L_subN, nI_add, nI_mul, L_le, L_leR, L_lt, L_ltR, L_eq, N_leT, N_leF, N_ltT, N_ltF, N_eqT, N_eqF, N_m1, bnd_S, un2_S, un3_S, nmI_S, nmL_S, ptI_S, cs2_L, cs2_R, okI_b, okI_1, okI_0, rdI_in, wrI_in, rdI_L, wrI_L, rdL_in, wrL_in, if_true, if_false, f_A hF, l_K hP.1, l_size hP.1, h5', hg, p_C hP hi, nn_eq, f_KT hF, hw, f_I hF, h10', lg_cmp_le, hl, okI, all_ne h6 hl]
      exact h1 rec
  · intro s hs
    obtain ⟨x, Z'⟩ := s
    obtain ⟨hx, V', hZ, hC, hpa⟩ := hs
    simp only at hx hZ
    subst hx hZ
    have hlo : V' (m 5) = V (m 5) := hC.2.2.2 _ (hm.ne (by omega) (by omega) (by omega)) (hm.ne (by omega) (by omega) (by omega)) (fun p hp => hm.ne (by omega) (by omega) (by omega))
    have h5' : V' (m 5) 2 = nI (pNp w) := by rw [hlo]; exact h5n
    refine ⟨_, fun rec => ?_, V', rfl, hC⟩
    unfold cm_X1_cools_F46
    simp (disch := omega) only [cm_X1_cools_B46, zSh_T, zV_T, zL_T, zn_T, L_add, L_addR, L_mul, L_mulR, L_div, N_div, N_rem, L_sub, L_subN, nI_add, nI_mul, L_le, L_leR, L_lt, L_ltR, L_eq, N_leT, N_leF, N_ltT, N_ltF, N_eqT, N_eqF, N_m1, bnd_S, un2_S, un3_S, nmI_S, nmL_S, ptI_S, cs2_L, cs2_R, okI_b, okI_1, okI_0, rdI_in, wrI_in, rdI_L, wrI_L, rdL_in, wrL_in, if_true, if_false, f_A hF, l_K hP.1, l_size hP.1, h5']
  · show V (m 0) = upd (V (m 0)) 11 (w 14)
    rw [← h11, upd_self]
end CW
