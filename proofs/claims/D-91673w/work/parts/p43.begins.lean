/-! PURE: a field begins by what is told -/
set_option maxRecDepth 100000
/-- what is told: its lists (u 8, 9: pipes, 20 + p; u 10, 11: houses, 40 + h) -/
def TL (Sh : g_Sh) (V : g_V) (Fz : Nat → Prop) (u : Nat → Nat) (tp th : Nat) : Prop := (∃ rf, Sh (u 0) = some (d_obj 2 13 rf) ∧ rf 3 = some (some (u 8)) ∧ rf 4 = some (some (u 10)) ∧ ∀ i, 6 ≤ i → i ≤ 12 → rf i = none) ∧ LSt Sh (u 8) (u 9) tp (fun p => u (20 + p)) ∧ V (u 8) 2 = nI tp ∧ LSt Sh (u 10) (u 11) th (fun h => u (40 + h)) ∧ V (u 10) 2 = nI th ∧ (∀ p, p < tp → (∃ rf, Sh (u (20 + p)) = some (d_obj 5 6 rf) ∧ ∀ j, j < 6 → rf j = none) ∧ isB (V (u (20 + p)) 3) = true ∧ Fz (u (20 + p))) ∧ (∀ h, h < th → (∃ rf, Sh (u (40 + h)) = some (d_obj 6 3 rf) ∧ ∀ j, j < 3 → rf j = none) ∧ Fz (u (40 + h))) ∧ Fz (u 0) ∧ Fz (u 8) ∧ Fz (u 9) ∧ Fz (u 10) ∧ Fz (u 11) ∧ tp ≤ 12 ∧ th ≤ 6
theorem TL_mono {Sh Sh' : g_Sh} {V V' : g_V} {Fz : Nat → Prop} {u : Nat → Nat} {tp th : Nat} (h : TL Sh V Fz u tp th) (hS : ∀ a, Fz a → Sh' a = Sh a) (hV : ∀ a, Fz a → V' a = V a) : TL Sh' V' Fz u tp th := by
  obtain ⟨h0, h1, h2, h3, h4, h5, h6, z0, z8, z9, z10, z11, h7, h8⟩ := h
  have lk : ∀ {l e q : Nat} {g : Nat → Nat}, LSt Sh l e q g → Fz l → Fz e → LSt Sh' l e q g := by
    intro l e q g hl zl ze
    obtain ⟨⟨rf, b1, b2⟩, cap, el, b3, b4⟩ := hl
    exact ⟨⟨rf, by rw [hS _ zl]; exact b1, b2⟩, cap, el, by rw [hS _ ze]; exact b3, b4⟩
  refine ⟨by rw [hS _ z0]; exact h0, lk h1 z8 z9, by rw [hV _ z8]; exact h2, lk h3 z10 z11, by rw [hV _ z10]; exact h4, fun p hp => ?_, fun k hk => ?_, z0, z8, z9, z10, z11, h7, h8⟩
  · obtain ⟨c1, c2, c3⟩ := h5 p hp
    rw [hS _ c3, hV _ c3]; exact ⟨c1, c2, c3⟩
  · obtain ⟨c1, c3⟩ := h6 k hk
    rw [hS _ c3]; exact ⟨c1, c3⟩
section BG
variable {Sh : g_Sh} {V : g_V} {L : g_L} {n : Nat} {m u : Nat → Nat} {t np nh tp th : Nat} {gp : Nat → Nat} {Fz : Nat → Prop}
/-- the field after it began -/
def BegR (Sh : g_Sh) (V : g_V) (n : Nat) (m u : Nat → Nat) (np nh tp th : Nat) (Sh' : g_Sh) (V' : g_V) (n' : Nat) (m' : Nat → Nat) : Prop :=
  FX Sh' V' n' m' (u 0) tp th ∧ (∀ i, i < 11 → m' i = m i) ∧ n ≤ n'
  ∧ (∀ p j, p < tp → j < 6 → V' (m' (13 + p)) j = V (u (20 + p)) j) ∧ (∀ p j, p < th → j < 3 → V' (m' (31 + p)) j = V (u (40 + p)) j)
  ∧ (V' (m 0) 9 = 0 ∧ V' (m 0) 10 = V (u 0) 11 ∧ V' (m 0) 11 = 0 ∧ V' (m 0) 12 = 0 ∧ V' (m 0) 13 = 0 ∧ V' (m 0) 14 = 0 ∧ V' (m 0) 15 = 144 * V (u 0) 6 ∧ V' (m 0) 16 = 0 ∧ V' (m 0) 17 = 0)
  ∧ (∀ c, c < 144 → V' (m 1) c = V (u 0) 6 ∧ V' (m 2) c = 0 ∧ V' (m 4) c = 0) ∧ (∀ g, g < 10 → V' (m 7) g = -1)
  ∧ (∀ a, a < n → (∀ i, (i < 13 + np ∨ (31 ≤ i ∧ i < 31 + nh)) → a ≠ m i) → Sh' a = Sh a ∧ V' a = V a)
  ∧ ∀ i, (i < 13 + tp ∨ (31 ≤ i ∧ i < 31 + th)) → 11 ≤ i → (i < 13 ∧ m' i = m i) ∨ n ≤ m' i
/-- a field, its told one not yet known -/
def FN (Sh : g_Sh) (V : g_V) (n : Nat) (m : Nat → Nat) (np nh : Nat) : Prop := (∃ rf, Sh (m 0) = some (d_obj 1 20 rf) ∧ (rf 0).isSome = true ∧ (∀ i, 1 ≤ i → i ≤ 8 → rf i = some (some (m i))) ∧ rf 18 = some (some (m 9)) ∧ rf 19 = some (some (m 10)) ∧ ∀ i, 9 ≤ i → i ≤ 17 → rf i = none) ∧ FSa Sh m ∧ FSp Sh m np nh ∧ inj m np nh ∧ (∀ i, (i < 13 + np ∨ (31 ≤ i ∧ i < 31 + nh)) → m i < n) ∧ V (m 5) 2 = nI np ∧ V (m 6) 2 = nI nh ∧ np ≤ 18 ∧ nh ≤ 6
theorem cm_begins_n (hX : FN Sh V n m np nh) (hL : TL Sh V Fz u tp th) (hz : ∀ a, Fz a → a < n ∧ ∀ i, (i < 13 + np ∨ (31 ≤ i ∧ i < 31 + nh)) → a ≠ m i) : ∃ Sh' V' n' m', cm_X1_begins gp (Sh, V, L, n) (m 0) (u 0) = some (Sh', V', L, n') ∧ BegR Sh V n m u np nh tp th Sh' V' n' m' := by
  obtain ⟨hF, hA, hP, hm, hn, h5, h6, h18, hh6⟩ := hX
  obtain ⟨⟨rft, t1, t3, t4, t6⟩, t8, t9, t10, t11, tpp, thh, z0, z8, z9, z10, z11, tp12, th6⟩ := hL
  obtain ⟨rf, r1, r2, r3, r4, r5, r6⟩ := hF
  have hu0 : u 0 ≠ m 0 := (hz _ z0).2 0 (by omega)
  -- its own numbers first
  have hS1 : ∃ Sh1, Sh1 = updS Sh (m 0) (d_obj 1 20 (updR rf 0 (some (u 0)))) := ⟨_, rfl⟩
  obtain ⟨Sh1, hS1⟩ := hS1
  have sh1 : ∀ a, a ≠ m 0 → Sh1 a = Sh a := fun a ha => by rw [hS1, updS_ne ha]
  have hF1 : FS0 Sh1 m (u 0) := by
    refine ⟨updR rf 0 (some (u 0)), by rw [hS1, updS_eq], by unfold updR; rw [if_pos rfl], fun i hi h8 => ?_, ?_, ?_, fun i hi h8 => ?_⟩
    · unfold updR; rw [if_neg (by omega)]; exact r3 i hi h8
    · unfold updR; rw [if_neg (by omega)]; exact r4
    · unfold updR; rw [if_neg (by omega)]; exact r5
    · unfold updR; rw [if_neg (by omega)]; exact r6 i hi h8
  have hX0 : ∃ X, X = upd (upd (upd (upd (upd (upd (upd (upd (V (m 0)) 9 0) 10 (V (u 0) 11)) 11 0) 12 0) 13 0) 14 0) 16 0) 17 0 := ⟨_, rfl⟩
  obtain ⟨X, hX0⟩ := hX0
  have hV1 : ∃ V1, V1 = rowV V (m 0) X := ⟨_, rfl⟩
  obtain ⟨V1, hV1⟩ := hV1
  have v1 : ∀ a, a ≠ m 0 → V1 a = V a := fun a ha => by rw [hV1, rowV_ne ha]
  have v10 : V1 (m 0) = X := by rw [hV1, rowV_eq]
  have l1 : ∀ {l e q : Nat} {g : Nat → Nat}, LSt Sh l e q g → l ≠ m 0 → e ≠ m 0 → LSt Sh1 l e q g := by
    intro l e q g hl n1 n2
    obtain ⟨⟨rf, b1, b2⟩, cap, el, b3, b4⟩ := hl
    exact ⟨⟨rf, by rw [sh1 _ n1]; exact b1, b2⟩, cap, el, by rw [sh1 _ n2]; exact b3, b4⟩
  have ne0 : ∀ i, (i < 13 + np ∨ (31 ≤ i ∧ i < 31 + nh)) → i ≠ 0 → m i ≠ m 0 := fun i hi h0 => hm.ne hi (by omega) h0
  have hX1 : FX Sh1 V1 n m (u 0) np nh := by
    refine ⟨hF1, ?_, ⟨l1 hP.1 (ne0 5 (by omega) (by omega)) (ne0 11 (by omega) (by omega)), l1 hP.2.1 (ne0 6 (by omega) (by omega)) (ne0 12 (by omega) (by omega)), fun p hp => ?_, fun p hp => ?_⟩, hm, hn, ?_, ?_, h18, hh6⟩
    · unfold FSa
      rw [sh1 _ (ne0 1 (by omega) (by omega)), sh1 _ (ne0 2 (by omega) (by omega)), sh1 _ (ne0 3 (by omega) (by omega)), sh1 _ (ne0 4 (by omega) (by omega)), sh1 _ (ne0 7 (by omega) (by omega)), sh1 _ (ne0 8 (by omega) (by omega)), sh1 _ (ne0 9 (by omega) (by omega)), sh1 _ (ne0 10 (by omega) (by omega))]
      exact hA
    · rw [sh1 _ (ne0 _ (by omega) (by omega))]; exact hP.2.2.1 p hp
    · rw [sh1 _ (ne0 _ (by omega) (by omega))]; exact hP.2.2.2 p hp
    · rw [v1 _ (ne0 5 (by omega) (by omega))]; exact h5
    · rw [v1 _ (ne0 6 (by omega) (by omega))]; exact h6
  have zne : ∀ a, Fz a → a ≠ m 0 := fun a ha => (hz a ha).2 0 (by omega)
  have s1 : SrcO Sh1 V1 n m np nh (u 8) (u 9) tp 5 6 (fun p => u (20 + p)) (fun r => isB (r 3) = true) := by
    refine ⟨l1 t8 (zne _ z8) (zne _ z9), by rw [v1 _ (zne _ z8)]; exact t9, (hz _ z8).1, (hz _ z9).1, fun i hi => ⟨(hz _ z8).2 i hi, (hz _ z9).2 i hi⟩, fun p hp => ?_⟩
    obtain ⟨c1, c2, c3⟩ := tpp p hp
    show u (20 + p) < n ∧ (∃ rf, Sh1 (u (20 + p)) = _ ∧ _) ∧ isB (V1 (u (20 + p)) 3) = true ∧ _
    rw [sh1 _ (zne _ c3), v1 _ (zne _ c3)]
    exact ⟨(hz _ c3).1, c1, c2, (hz _ c3).2⟩
  have s2 : SrcO Sh1 V1 n m np nh (u 10) (u 11) th 6 3 (fun p => u (40 + p)) (fun _ => True) := by
    refine ⟨l1 t10 (zne _ z10) (zne _ z11), by rw [v1 _ (zne _ z10)]; exact t11, (hz _ z10).1, (hz _ z11).1, fun i hi => ⟨(hz _ z10).2 i hi, (hz _ z11).2 i hi⟩, fun p hp => ?_⟩
    obtain ⟨c1, c3⟩ := thh p hp
    show u (40 + p) < n ∧ (∃ rf, Sh1 (u (40 + p)) = _ ∧ _) ∧ True ∧ _
    rw [sh1 _ (zne _ c3)]
    exact ⟨(hz _ c3).1, c1, trivial, (hz _ c3).2⟩
  have fu0 : ∀ (Sh' : g_Sh) (V' : g_V), (∀ a, a < n → (∀ k, (k < 13 + np ∨ (31 ≤ k ∧ k < 31 + nh)) → a ≠ m k ∨ k ≠ 5 ∧ k ≠ 6 ∧ k ≠ 11 ∧ k ≠ 12) → Sh' a = Sh1 a ∧ V' a = V1 a) → Sh' (u 0) = some (d_obj 2 13 rft) ∧ V' (u 0) = V (u 0) := by
    intro Sh' V' h
    have h9 := h (u 0) (hz _ z0).1 (fun k hk => Or.inl ((hz _ z0).2 k hk))
    exact ⟨by rw [h9.1, sh1 _ hu0]; exact t1, by rw [h9.2, v1 _ hu0]⟩
  have fm0 : ∀ (Sh' : g_Sh) (V' : g_V), (∀ a, a < n → (∀ k, (k < 13 + np ∨ (31 ≤ k ∧ k < 31 + nh)) → a ≠ m k ∨ k ≠ 5 ∧ k ≠ 6 ∧ k ≠ 11 ∧ k ≠ 12) → Sh' a = Sh1 a ∧ V' a = V1 a) → FS0 Sh' m (u 0) := by
    intro Sh' V' h
    have h9 := h (m 0) (hn 0 (by omega)) (fun k hk => by
      by_cases hk0 : k = 0
      · right; omega
      · left; exact hm.ne (by omega) hk (fun z => hk0 z.symm))
    obtain ⟨rf', q1, q2⟩ := hF1
    exact ⟨rf', by rw [h9.1]; exact q1, q2⟩
  obtain ⟨ShA, VA, ShB, VB, ShC, VC, nC, ShD, VD, nD, m', k1, k9, k2, k3, k4, hXD, km, kn, kp, kh, kf, kc⟩ := relist (L := L) (gp := gp) hX1 s1 s2 cp_X5 cp_X6 (by omega) th6 (f1 := 13) (f2 := 7) (by omega) (by omega) (F1 := cm_X1_begins_F68 gp (m 0) (u 0)) (F2 := cm_X1_begins_F115 gp (m 0) (u 0))
    (fun rec i Sh' V' n' hi hfr hl hv => by
      obtain ⟨a1, -⟩ := fu0 Sh' V' hfr
      have a2 := fm0 Sh' V' hfr
      unfold cm_X1_begins_F68 turnC
      simp (disch := omega) only [cm_X1_begins_B68, zSh_T, zV_T, zL_T, zn_T, L_add, L_addR, L_mul, L_mulR, L_div, N_div, N_rem, L_sub, L_subN, nI_add, nI_mul, L_le, L_leR, L_lt, L_ltR, L_eq, N_leT, N_leF, N_ltT, N_ltF, N_eqT, N_eqF, N_m1, cA_eq a1 t3, l_K hl, l_size hl, bnd_S, hv, if_false, f_A a2, nmI_S])
    (fun rec Sh' V' n' hfr hl hv => by
      obtain ⟨a1, -⟩ := fu0 Sh' V' hfr
      unfold cm_X1_begins_F68
      simp (disch := omega) only [cm_X1_begins_B68, zSh_T, zV_T, zL_T, zn_T, L_add, L_addR, L_mul, L_mulR, L_div, N_div, N_rem, L_sub, L_subN, nI_add, nI_mul, L_le, L_leR, L_lt, L_ltR, L_eq, N_leT, N_leF, N_ltT, N_ltF, N_eqT, N_eqF, N_m1, cA_eq a1 t3, l_K hl, l_size hl, bnd_S, hv, if_true])
    (fun rec i Sh' V' n' hi hfr hl hv => by
      obtain ⟨a1, -⟩ := fu0 Sh' V' hfr
      have a2 := fm0 Sh' V' hfr
      unfold cm_X1_begins_F115 turnC
      simp (disch := omega) only [cm_X1_begins_B115, zSh_T, zV_T, zL_T, zn_T, L_add, L_addR, L_mul, L_mulR, L_div, N_div, N_rem, L_sub, L_subN, nI_add, nI_mul, L_le, L_leR, L_lt, L_ltR, L_eq, N_leT, N_leF, N_ltT, N_ltF, N_eqT, N_eqF, N_m1, cA_eq a1 t4, l_K hl, l_size hl, bnd_S, hv, if_false, f_A a2, nmI_S])
    (fun rec Sh' V' n' hfr hl hv => by
      obtain ⟨a1, -⟩ := fu0 Sh' V' hfr
      unfold cm_X1_begins_F115
      simp (disch := omega) only [cm_X1_begins_B115, zSh_T, zV_T, zL_T, zn_T, L_add, L_addR, L_mul, L_mulR, L_div, N_div, N_rem, L_sub, L_subN, nI_add, nI_mul, L_le, L_leR, L_lt, L_ltR, L_eq, N_leT, N_leF, N_ltT, N_ltF, N_eqT, N_eqF, N_m1, cA_eq a1 t4, l_K hl, l_size hl, bnd_S, hv, if_true])
  obtain ⟨hFD, hAD, hPD, hmD, hnD, h5D, h6D, -, -⟩ := hXD
  have hm := hmD
  have e0 : m' 0 = m 0 := km 0 (by omega)
  obtain ⟨u0D, vu0D⟩ := fu0 ShD VD kf
  have vD0 : VD (m' 0) = X := by
    rw [e0, (kf (m 0) (hn 0 (by omega)) (fun k hk => by
      by_cases hk0 : k = 0
      · right; omega
      · left; exact Ne.symm (ne0 k hk hk0))).2, v10]
  -- told cells are not the field's
  have uD : ∀ i, i < 11 → u 0 ≠ m' i := fun i hi => by rw [km i hi]; exact (hz _ z0).2 i (by omega)
  -- gauges
  have g1 : cm_X1_begins_L162 gp (m' 0) (u 0) 1000 0 (ShD, VD, L, nD) = some (ShD, rowV VD (m' 7) (fun g => if g < 10 then -1 else VD (m' 7) g), L, nD) := by
    have hr := lp_run (F := cm_X1_begins_F162 gp (m' 0) (u 0)) (N := 10) (st := fun i => (nI i, (ShD, rowV VD (m' 7) (fun g => if g < i then -1 else VD (m' 7) g), L, nD))) (out := (ShD, rowV VD (m' 7) (fun g => if g < 10 then -1 else VD (m' 7) g), L, nD)) ?_ ?_ 1000 0 (by omega) (by omega)
    · simp only [Nat.not_lt_zero, if_false, nI_0] at hr
      rw [show rowV VD (m' 7) (fun g => VD (m' 7) g) = VD from rowV_self VD (m' 7)] at hr
      exact hr
    · intro rec i hi
      unfold cm_X1_begins_F162
      simp (disch := omega) only [cm_X1_begins_B162, zSh_T, zV_T, zL_T, zn_T, L_add, L_addR, L_mul, L_mulR, L_div, N_div, N_rem, L_sub, L_subN, nI_add, nI_mul, L_le, L_leR, L_lt, L_ltR, L_eq, N_leT, N_leF, N_ltT, N_ltF, N_eqT, N_eqF, N_m1, bnd_S, un2_S, un3_S, nmI_S, nmL_S, ptI_S, cs2_L, cs2_R, okI_b, okI_1, okI_0, rdI_in, wrI_in, rdI_L, wrI_L, rdL_in, wrL_in, if_true, if_false, f_A hFD, zsI_T hAD.2.2.2.2.1, upd2_row, rowV_over, rowV_eq, upd_pre (f := fun _ => -1) rfl]
    · intro rec
      unfold cm_X1_begins_F162
      simp (disch := omega) only [cm_X1_begins_B162, L_add, L_addR, L_mul, L_mulR, L_div, N_div, N_rem, L_sub, L_subN, nI_add, nI_mul, L_le, L_leR, L_lt, L_ltR, L_eq, N_leT, N_leF, N_ltT, N_ltF, N_eqT, N_eqF, N_m1, bnd_S, un2_S, un3_S, nmI_S, nmL_S, ptI_S, cs2_L, cs2_R, okI_b, okI_1, okI_0, rdI_in, wrI_in, rdI_L, wrI_L, rdL_in, wrL_in, if_true, if_false]
  have hVE : ∃ VE, VE = rowV VD (m' 7) (fun g => if g < 10 then -1 else VD (m' 7) g) := ⟨_, rfl⟩
  obtain ⟨VE, hVE⟩ := hVE
  rw [← hVE] at g1
  have vE : ∀ a, a ≠ m' 7 → VE a = VD a := fun a ha => by rw [hVE, rowV_ne ha]
  have vE6 : VE (u 0) 6 = V (u 0) 6 := by rw [vE _ (uD 7 (by omega)), vu0D]
  -- warmth, ice, what is dug
  have g2 : cm_X1_begins_L183 gp (m' 0) (u 0) 1000 0 (ShD, VE, L, nD) = some (ShD, rowV (rowV (rowV VE (m' 1) (fun c => if c < 144 then V (u 0) 6 else VE (m' 1) c)) (m' 2) (fun c => if c < 144 then 0 else VE (m' 2) c)) (m' 4) (fun c => if c < 144 then 0 else VE (m' 4) c), L, nD) := by
    have hr := lp_run (F := cm_X1_begins_F183 gp (m' 0) (u 0)) (N := 144) (st := fun i => (nI i, (ShD, rowV (rowV (rowV VE (m' 1) (fun c => if c < i then V (u 0) 6 else VE (m' 1) c)) (m' 2) (fun c => if c < i then 0 else VE (m' 2) c)) (m' 4) (fun c => if c < i then 0 else VE (m' 4) c), L, nD))) (out := (ShD, rowV (rowV (rowV VE (m' 1) (fun c => if c < 144 then V (u 0) 6 else VE (m' 1) c)) (m' 2) (fun c => if c < 144 then 0 else VE (m' 2) c)) (m' 4) (fun c => if c < 144 then 0 else VE (m' 4) c), L, nD)) ?_ ?_ 1000 0 (by omega) (by omega)
    · simp only [Nat.not_lt_zero, if_false, nI_0] at hr
      rw [show rowV VE (m' 1) (fun c => VE (m' 1) c) = VE from rowV_self VE (m' 1), show rowV VE (m' 2) (fun c => VE (m' 2) c) = VE from rowV_self VE (m' 2), show rowV VE (m' 4) (fun c => VE (m' 4) c) = VE from rowV_self VE (m' 4)] at hr
      exact hr
    · intro rec i hi
      have hu : ∀ a b c, rowV (rowV (rowV VE (m' 1) a) (m' 2) b) (m' 4) c (u 0) 6 = V (u 0) 6 := by
        intro a b c
        rw [rowV_ne (uD 4 (by omega)), rowV_ne (uD 2 (by omega)), rowV_ne (uD 1 (by omega)), vE6]
      unfold cm_X1_begins_F183
      simp (disch := omega) only [cm_X1_begins_B183, zSh_T, zV_T, zL_T, zn_T, L_add, L_addR, L_mul, L_mulR, L_div, N_div, N_rem, L_sub, L_subN, nI_add, nI_mul, L_le, L_leR, L_lt, L_ltR, L_eq, N_leT, N_leF, N_ltT, N_ltF, N_eqT, N_eqF, N_m1, bnd_S, un2_S, un3_S, nmI_S, nmL_S, ptI_S, cs2_L, cs2_R, okI_b, okI_1, okI_0, rdI_in, wrI_in, rdI_L, wrI_L, rdL_in, wrL_in, if_true, if_false, f_A hFD, zsI_T hAD.1, zsI_T hAD.2.1, zsI_T hAD.2.2.2.1, cI_eq u0D (t6 6 (by omega) (by omega)), hu]
      simp (disch := omega) only [upd2_row, rowV_eq, rowM_ne hm, rowV_over, rowM_swap hm, upd_eq, upd_ne, upd_over, Nat.zero_add, upd_pre (f := fun _ => V (u 0) 6) rfl, upd_pre (f := fun _ => (0 : Int32)) rfl]
    · intro rec
      unfold cm_X1_begins_F183
      simp (disch := omega) only [cm_X1_begins_B183, L_add, L_addR, L_mul, L_mulR, L_div, N_div, N_rem, L_sub, L_subN, nI_add, nI_mul, L_le, L_leR, L_lt, L_ltR, L_eq, N_leT, N_leF, N_ltT, N_ltF, N_eqT, N_eqF, N_m1, bnd_S, un2_S, un3_S, nmI_S, nmL_S, ptI_S, cs2_L, cs2_R, okI_b, okI_1, okI_0, rdI_in, wrI_in, rdI_L, wrI_L, rdL_in, wrL_in, if_true, if_false]
  have hVG : ∃ VG, VG = rowV (rowV (rowV VE (m' 1) (fun c => if c < 144 then V (u 0) 6 else VE (m' 1) c)) (m' 2) (fun c => if c < 144 then 0 else VE (m' 2) c)) (m' 4) (fun c => if c < 144 then 0 else VE (m' 4) c) := ⟨_, rfl⟩
  obtain ⟨VG, hVG⟩ := hVG
  rw [← hVG] at g2
  have vG6 : VG (u 0) 6 = V (u 0) 6 := by
    rw [hVG, rowV_ne (uD 4 (by omega)), rowV_ne (uD 2 (by omega)), rowV_ne (uD 1 (by omega)), vE6]
  have vGo : ∀ i, (i < 13 + tp ∨ (31 ≤ i ∧ i < 31 + th)) → i ≠ 1 → i ≠ 2 → i ≠ 4 → i ≠ 7 → VG (m' i) = VD (m' i) := by
    intro i hi c1 c2 c4 c7
    rw [hVG, rowM_ne hm hi (by omega) c4, rowM_ne hm hi (by omega) c2, rowM_ne hm hi (by omega) c1, vE _ (hm.ne hi (by omega) c7)]
  refine ⟨ShD, rowV VG (m' 0) (upd (VG (m' 0)) 15 (144 * V (u 0) 6)), nD, m', ?_, ⟨hFD, hAD, hPD, hmD, hnD, ?_, ?_, by omega, th6⟩, km, kn, fun p j hp hj => ?_, fun p j hp hj => ?_, ?_, fun c hc => ?_, fun g hg => ?_, fun a ha hai => ?_, kc⟩
  · have hp9 : ∀ {ρ : Type} (V9 : g_V) (i : Nat) (x : Int32) (k : c_S → Option ρ), 9 ≤ i → i ≤ 17 → zPI (Sh1, V9, L, n) (m 0) 1 20 i x k = k (Sh1, upd2 V9 (m 0) i x, L, n) := fun V9 i x k h9 h17 => f_pT hF1 h9 h17
    have su0 : Sh1 (u 0) = some (d_obj 2 13 rft) := by rw [sh1 _ hu0]; exact t1
    unfold cm_X1_begins
    rw [zPR_T r1 r2, ← hS1]
    have hu0' : ∀ f, rowV V (m 0) f (u 0) = V (u 0) := fun f => rowV_ne hu0
    have lA : LSt Sh1 (m 5) (m 11) np (fun p => m (13 + p)) := hX1.2.2.1.1
    simp (disch := omega) only [zSh_T, zV_T, zL_T, zn_T, hp9, cI_eq su0 (t6 11 (by omega) (by omega)), upd2_row, rowV_eq, rowV_over, hu0', f_A hF1, l_K lA]
    rw [← hX0, ← hV1, k1, bnd_S]
    have hFA : FS0 ShA m (u 0) := by
      obtain ⟨rf', q1, q2⟩ := hF1
      exact ⟨rf', by rw [k9 _ (Ne.symm (ne0 11 (by omega) (by omega)))]; exact q1, q2⟩
    have lB : LSt ShA (m 6) (m 12) nh (fun h => m (31 + h)) := by
      obtain ⟨⟨rf, b1, b2⟩, cap, el, b3, b4⟩ := hX1.2.2.1.2.1
      have hmo := hX1.2.2.2.1
      exact ⟨⟨rf, by rw [k9 _ (hmo.ne (by omega) (by omega) (by omega))]; exact b1, b2⟩, cap, el, by rw [k9 _ (hmo.ne (by omega) (by omega) (by omega))]; exact b3, b4⟩
    simp (disch := omega) only [zSh_T, zV_T, zL_T, zn_T, f_A hFA, l_K lB]
    rw [k2, bnd_S]
    unfold cm_X1_begins_L68 cm_X1_begins_L115
    rw [k3, bnd_S, k4, bnd_S, ← e0, g1, bnd_S, g2, bnd_S]
    simp (disch := omega) only [zSh_T, zV_T, zL_T, zn_T, cI_eq u0D (t6 6 (by omega) (by omega)), vG6, f_pT hFD, upd2_row]
  · rw [rowM_ne hm (by omega) (by omega) (by omega), vGo 5 (by omega) (by omega) (by omega) (by omega) (by omega)]; exact h5D
  · rw [rowM_ne hm (by omega) (by omega) (by omega), vGo 6 (by omega) (by omega) (by omega) (by omega) (by omega)]; exact h6D
  · rw [rowM_ne hm (by omega) (by omega) (by omega), vGo _ (by omega) (by omega) (by omega) (by omega) (by omega), kp p j hp hj, v1 _ (zne _ (tpp p hp).2.2)]
  · rw [rowM_ne hm (by omega) (by omega) (by omega), vGo _ (by omega) (by omega) (by omega) (by omega) (by omega), kh p j hp hj, v1 _ (zne _ (thh p hp).2)]
  · rw [← e0, rowV_eq, vGo 0 (by omega) (by omega) (by omega) (by omega) (by omega), vD0, hX0]
    simp (disch := omega) only [upd_ne, upd_eq, and_self]
  · rw [← km 1 (by omega), ← km 2 (by omega), ← km 4 (by omega), rowM_ne hm (by omega) (by omega) (by omega), rowM_ne hm (by omega) (by omega) (by omega), rowM_ne hm (by omega) (by omega) (by omega), hVG]
    simp (disch := omega) only [upd2_row, rowV_eq, rowM_ne hm, rowV_over, rowM_swap hm, upd_eq, upd_ne, upd_over, Nat.zero_add, hc, if_true, and_self]
  · rw [← km 7 (by omega), rowM_ne hm (by omega) (by omega) (by omega), hVG, rowM_ne hm (by omega) (by omega) (by omega), rowM_ne hm (by omega) (by omega) (by omega), rowM_ne hm (by omega) (by omega) (by omega), hVE, rowV_eq]
    exact if_pos hg
  · have hlo : ∀ i, i < 11 → a ≠ m' i := fun i hi => by rw [km i hi]; exact hai i (by omega)
    have hk := kf a ha (fun k hk => Or.inl (hai k hk))
    refine ⟨by rw [hk.1, sh1 _ (hai 0 (by omega))], ?_⟩
    rw [rowV_ne (hlo 0 (by omega)), hVG, rowV_ne (hlo 4 (by omega)), rowV_ne (hlo 2 (by omega)), rowV_ne (hlo 1 (by omega)), hVE, rowV_ne (hlo 7 (by omega)), hk.2, v1 _ (hai 0 (by omega))]
theorem cm_begins_eq (hX : FX Sh V n m t np nh) (hL : TL Sh V Fz u tp th) (hz : ∀ a, Fz a → a < n ∧ ∀ i, (i < 13 + np ∨ (31 ≤ i ∧ i < 31 + nh)) → a ≠ m i) : ∃ Sh' V' n' m', cm_X1_begins gp (Sh, V, L, n) (m 0) (u 0) = some (Sh', V', L, n') ∧ BegR Sh V n m u np nh tp th Sh' V' n' m' := by
  obtain ⟨⟨rf, r1, r2, r3⟩, h⟩ := hX
  exact cm_begins_n ⟨⟨rf, r1, by rw [r2]; rfl, r3⟩, h⟩ hL hz
end BG
