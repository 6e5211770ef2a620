/-! PURE: the component: a tick -/
set_option maxRecDepth 100000
/-- a field that is a row -/
def FR (Z : c_S) (m u : Nat → Nat) (Fz : Nat → Prop) (w : Nat → Int32) : Prop := FM Z m u Fz (pNp w) (pNh w) w ∧ FSp Z.Sh m (pNp w) (pNh w) ∧ VI Z.V m w ∧ VLi Z.V m w ∧ VPi Z.V m w ∧ VHo Z.V m w ∧ VGa Z.V m w
section CK
variable {Sh : g_Sh} {V : g_V} {L : g_L} {n : Nat} {m u : Nat → Nat} {Fz : Nat → Prop} {np nh : Nat} {w : Nat → Int32}
theorem cm_ticks_1 (h : FM (Sh, V, L, n) m u Fz np nh w) (hn1 : ∀ y, y < 12 → ¬ w (36 + y) = -1) (h12 : V (m 0) 12 = w 15) (h13 : V (m 0) 13 = w 16) : cm_X1_ticks_L2 (m 0) 1000 0 (Sh, V, L, n) = some (st2 Sh V L n m (upd (upd (V (m 0)) 12 (tRimI w 144)) 13 (tStrI w 144), fun j => if j < 144 then pCame w j else V (m 3) j)) := by
  have hm := h.2.1
  have hF : FS0 Sh m (u 0) := h.1.1
  have hA : FSa Sh m := h.1.2.1
  have hr := lp_run (F := cm_X1_ticks_F2 (m 0)) (N := 144) (st := fun i => (nI i, st2 Sh V L n m (upd (upd (V (m 0)) 12 (tRimI w i)) 13 (tStrI w i), fun j => if j < i then pCame w j else V (m 3) j))) (out := st2 Sh V L n m (upd (upd (V (m 0)) 12 (tRimI w 144)) 13 (tStrI w 144), fun j => if j < 144 then pCame w j else V (m 3) j)) ?_ ?_ 1000 0 (by omega) (by omega)
  · have e : st2 Sh V L n m (upd (upd (V (m 0)) 12 (tRimI w 0)) 13 (tStrI w 0), fun j => if j < 0 then pCame w j else V (m 3) j) = (Sh, V, L, n) := by
      simp only [Nat.not_lt_zero, if_false]
      unfold tRimI tStrI
      rw [itr_0, itr_0, ← h12, upd_self, ← h13, upd_self, st2_self]
    simp only [e, nI_0] at hr
    exact hr
  · intro rec i hi
    have ov : ∀ q q' : (Nat → Int32) × (Nat → Int32), st2 Sh (rowV (rowV V (m 0) q.1) (m 3) q.2) L n m q' = st2 Sh V L n m q' := by
      intro q q'
      unfold st2
      simp (disch := omega) only [upd2_row, rowV_eq, rowM_ne hm, rowV_over, rowM_swap hm, upd_eq, upd_ne, upd_over, Nat.zero_add]
    have hMq := fun q => FM_st2 h q
    have hdu : ∀ q : (Nat → Int32) × (Nat → Int32), rowV (rowV V (m 0) q.1) (m 3) q.2 (m 4) i = b2i (pDug w i) := fun q => VA_dug (Z := st2 Sh V L n m q) (hMq q).1.2.2.2.1 hi
    have hdu0 : V (m 4) i = b2i (pDug w i) := VA_dug (Z := (Sh, V, L, n)) h.1.2.2.2.1 hi
    have hle := fun q : (Nat → Int32) × (Nat → Int32) => cm_leads_eq (hMq q) hi
    have hst := fun q : (Nat → Int32) × (Nat → Int32) => cm_streams_eq (hMq q) hn1 hi
    have r0 : ∀ q : (Nat → Int32) × (Nat → Int32), rowV (rowV V (m 0) q.1) (m 3) q.2 (m 0) = q.1 := by intro q; simp (disch := omega) only [upd2_row, rowV_eq, rowM_ne hm, rowV_over, rowM_swap hm, upd_eq, upd_ne, upd_over, Nat.zero_add]
    have r3 : ∀ q : (Nat → Int32) × (Nat → Int32), rowV (rowV V (m 0) q.1) (m 3) q.2 (m 3) = q.2 := by intro q; simp (disch := omega) only [upd2_row, rowV_eq, rowM_ne hm, rowV_over, rowM_swap hm, upd_eq, upd_ne, upd_over, Nat.zero_add]
    simp only [r0, r3] at hle hst
    unfold cm_X1_ticks_F2
    simp (disch := omega) only [cm_X1_ticks_B2, zSh_T, zV_T, zL_T, zn_T, L_add, L_addR, L_mul, L_mulR, L_div, N_div, N_rem, L_sub, L_subN, nI_add, nI_mul, L_le, L_leR, L_lt, L_ltR, L_eq, N_leT, N_leF, N_ltT, N_ltF, N_eqT, N_eqF, N_m1, bnd_S, un2_S, un3_S, nmI_S, nmL_S, ptI_S, cs2_L, cs2_R, okI_b, okI_1, okI_0, rdI_in, wrI_in, rdI_L, wrI_L, rdL_in, wrL_in, if_true, if_false, f_A hF, zsI_T hA.2.2.1, upd2_row, rowV_eq, rowV_over, caI_eq hA.2.2.2.1, rowM_ne hm, hdu0, b2iF, f_KT hF]
    have hle1 := hle (upd (upd (V (m 0)) 12 (tRimI w i)) 13 (tStrI w i), upd (fun j => if j < i then pCame w j else V (m 3) j) i 0)
    rw [ov] at hle1
    have hst1 := hst (upd (upd (upd (V (m 0)) 12 (tRimI w i)) 13 (tStrI w i)) 12 (upd (upd (V (m 0)) 12 (tRimI w i)) 13 (tStrI w i) 12 + sRim w i), upd (upd (fun j => if j < i then pCame w j else V (m 3) j) i 0) i (upd (fun j => if j < i then pCame w j else V (m 3) j) i 0 i + sIn w i))
    rw [ov] at hst1
    simp only [st2] at hle1 hst1
    cases hd : pDug w i
    · simp only [if_true]
      rw [hle1, bnd_S, f_KT hF, hst1, bnd_S]
      have e1 : tRimI w (i + 1) = tRimI w i + sRim w i := by unfold tRimI; rw [itr_s, hd]; simp
      have e2 : tStrI w (i + 1) = tStrI w i + pStr w i := by unfold tStrI; rw [itr_s, hd]; simp
      have e3 : upd (fun j => if j < i then pCame w j else V (m 3) j) i (sIn w i + pStr w i) = fun j => if j < i + 1 then pCame w j else V (m 3) j := upd_pre (by unfold pCame; rw [hd]; simp)
      rw [e1, e2, ← e3]
      simp (disch := omega) only [upd_eq, upd_over, upd_ne, upd_swap, Nat.zero_add, Int32.zero_add]
    · simp only [Bool.true_eq_false, if_false]
      have e1 : tRimI w (i + 1) = tRimI w i := by unfold tRimI; rw [itr_s, hd]; simp
      have e2 : tStrI w (i + 1) = tStrI w i := by unfold tStrI; rw [itr_s, hd]; simp
      have e3 : upd (fun j => if j < i then pCame w j else V (m 3) j) i 0 = fun j => if j < i + 1 then pCame w j else V (m 3) j := upd_pre (by unfold pCame; rw [hd]; simp)
      rw [e1, e2, e3]
  · intro rec
    unfold cm_X1_ticks_F2
    simp (disch := omega) only [cm_X1_ticks_B2, L_add, L_addR, L_mul, L_mulR, L_div, N_div, N_rem, L_sub, L_subN, nI_add, nI_mul, L_le, L_leR, L_lt, L_ltR, L_eq, N_leT, N_leF, N_ltT, N_ltF, N_eqT, N_eqF, N_m1, bnd_S, un2_S, un3_S, nmI_S, nmL_S, ptI_S, cs2_L, cs2_R, okI_b, okI_1, okI_0, rdI_in, wrI_in, rdI_L, wrI_L, rdL_in, wrL_in, if_true, if_false]
/-- houses crack -/
theorem cm_hou_eq (h : FM (Sh, V, L, n) m u Fz np (pNh w) w) (hP : FSp Sh m np (pNh w)) (hh : pHok w) (h6 : V (m 6) 2 = w 3) (h9 : V (m 0) 9 = w 1) (hv : VHo V m w) : ∃ V', cm_X1_ticks_L95 (m 0) 1000 0 (Sh, V, L, n) = some (Sh, V', L, n) ∧ (∀ k i, k < pNh w → i < 3 → V' (m (31 + k)) i = pHou w (732 + 3 * k + i)) ∧ ∀ a, (∀ k, k < pNh w → a ≠ m (31 + k)) → V' a = V a := by
  obtain ⟨hR, hm, hz⟩ := h
  have hF : FS0 Sh m (u 0) := hR.1
  obtain ⟨hn, h66, hx⟩ := hh
  have h6n : V (m 6) 2 = nI (pNh w) := h6.trans hn
  have hr := lp_rel (F := cm_X1_ticks_F95 (m 0)) (N := pNh w) (P := fun out => ∃ V', out = (Sh, V', L, n) ∧ (∀ k i, k < pNh w → i < 3 → V' (m (31 + k)) i = pHou w (732 + 3 * k + i)) ∧ ∀ a, (∀ k, k < pNh w → a ≠ m (31 + k)) → V' a = V a) (fun i q => q.1 = nI i ∧ ∃ V', q.2 = (Sh, V', L, n) ∧ (∀ k j, k < pNh w → j < 3 → V' (m (31 + k)) j = pHouI w i (732 + 3 * k + j)) ∧ ∀ a, (∀ k, k < pNh w → a ≠ m (31 + k)) → V' a = V a) ?_ ?_ 1000 0 (0, (Sh, V, L, n)) (by omega) (by omega) ⟨nI_0.symm, V, rfl, fun k j hk hj => by rw [pHouI_0]; exact hv k j hk hj, fun _ _ => rfl⟩
  · obtain ⟨out, h1, V', rfl, h2⟩ := hr
    exact ⟨V', h1, h2⟩
  · intro i q hi hq
    obtain ⟨x, Z'⟩ := q
    obtain ⟨e1, V', e2, hv', ho⟩ := hq
    simp only at e1 e2
    subst e1 e2
    have hlo : ∀ j, j < 13 → V' (m j) = V (m j) := fun j hj => ho _ (fun k hk => hm.ne (by omega) (by omega) (by omega))
    have hR' : RD (Sh, V', L, n) m u Fz w := RD_frame hR (hlo 1 (by omega)) (hlo 2 (by omega)) (hlo 4 (by omega)) (fun a ha => ho a (fun k hk e => hz (31 + k) (by omega) (e ▸ ha)))
    have h6' : V' (m 6) 2 = nI (pNh w) := by rw [hlo 6 (by omega)]; exact h6n
    have hg := l_get (V := V') (L := L) (n := n) hP.2.1 h6' hi
    obtain ⟨hx1, hx2⟩ := hx i hi
    have v0 := hv' i 0 hi (by omega)
    have v1 := hv' i 1 hi (by omega)
    have v2 := hv' i 2 hi (by omega)
    rw [pHouI_at (by omega) 0 (by omega), Nat.add_zero, hx1] at v0
    rw [pHouI_at (by omega) 1 (by omega)] at v1
    rw [pHouI_at (by omega) 2 (by omega)] at v2
    have l1 := cm_lift_eq hR' (show pHx w i < 12 by omega)
    have l2 := cm_lift_eq hR' (show pHx w i + 1 < 12 by omega)
    have h9' : V' (m 0) 9 = w 1 := by rw [hlo 0 (by omega)]; exact h9
    have keep : w (732 + 3 * i + 2) = pCrk w i → (∀ k j, k < pNh w → j < 3 → V' (m (31 + k)) j = pHouI w (i + 1) (732 + 3 * k + j)) := by
      intro hk k j hk1 hj
      rw [hv' k j hk1 hj, ← pHouI_s hk]
      by_cases hki : 732 + 3 * k + j = 732 + 3 * i + 2
      · have : k = i ∧ j = 2 := by omega
        rw [this.1, this.2, upd_eq, pHouI_at (Nat.le_refl i) 2 (by omega)]
      · rw [upd_ne hki]
    by_cases h1 : w (732 + 3 * i + 2) = -1
    · by_cases h2 : iAbs (pLift w (pHx w i) - pLift w (pHx w i + 1)) ≤ w (732 + 3 * i + 1)
      · have hk := keep (by unfold pCrk; rw [if_neg (fun q => q.2 h2)])
        refine ⟨(nI (i + 1), (Sh, V', L, n)), fun rec => ?_, rfl, V', rfl, hk, ho⟩
        have h3 := h2
        unfold iAbs at h3
        unfold cm_X1_ticks_F95
        simp (disch := omega) only [cm_X1_ticks_B95, zSh_T, zV_T, zL_T, zn_T, L_add, L_addR, L_mul, L_mulR, L_div, N_div, N_rem, L_sub, L_subN, nI_add, nI_mul, L_le, L_leR, L_lt, L_ltR, L_eq, N_leT, N_leF, N_ltT, N_ltF, N_eqT, N_eqF, N_m1, bnd_S, un2_S, un3_S, nmI_S, nmL_S, ptI_S, cs2_L, cs2_R, okI_b, okI_1, okI_0, rdI_in, wrI_in, rdI_L, wrI_L, rdL_in, wrL_in, if_true, if_false, f_A hF, l_K hP.2.1, l_size hP.2.1, h6', hg, h_C hP hi, nn_eq, h_I hP hi, v0, v1, v2, h1, m1m1, f_KT hF, l1, l2, h3]
      · refine ⟨(nI (i + 1), (Sh, rowV V' (m (31 + i)) (upd (V' (m (31 + i))) 2 (w 1)), L, n)), fun rec => ?_, rfl, _, rfl, fun k j hk1 hj => ?_, fun a ha => ?_⟩
        · have h3 := h2
          unfold iAbs at h3
          unfold cm_X1_ticks_F95
          simp (disch := omega) only [cm_X1_ticks_B95, zSh_T, zV_T, zL_T, zn_T, L_add, L_addR, L_mul, L_mulR, L_div, N_div, N_rem, L_sub, L_subN, nI_add, nI_mul, L_le, L_leR, L_lt, L_ltR, L_eq, N_leT, N_leF, N_ltT, N_ltF, N_eqT, N_eqF, N_m1, bnd_S, un2_S, un3_S, nmI_S, nmL_S, ptI_S, cs2_L, cs2_R, okI_b, okI_1, okI_0, rdI_in, wrI_in, rdI_L, wrI_L, rdL_in, wrL_in, if_true, if_false, f_A hF, l_K hP.2.1, l_size hP.2.1, h6', hg, h_C hP hi, nn_eq, h_I hP hi, h_P hP hi, v0, v1, v2, h1, m1m1, f_KT hF, l1, l2, h3, f_I hF, h9', upd2_row]
        · have hk : w 1 = pCrk w i := by unfold pCrk; rw [if_pos ⟨h1, h2⟩]
          rw [← pHouI_s hk]
          by_cases hki : k = i
          · subst hki
            rw [rowV_eq]
            by_cases hj2 : j = 2
            · subst hj2
              rw [upd_eq, upd_eq]
            · rw [upd_ne hj2, upd_ne (by omega)]
              exact hv' k j hk1 hj
          · rw [rowM_ne hm (by omega) (by omega) (by omega), upd_ne (by omega)]
            exact hv' k j hk1 hj
        · rw [rowV_ne (ha i hi)]
          exact ho a ha
    · have hk := keep (by unfold pCrk; rw [if_neg (fun q => h1 q.1)])
      refine ⟨(nI (i + 1), (Sh, V', L, n)), fun rec => ?_, rfl, V', rfl, hk, ho⟩
      unfold cm_X1_ticks_F95
      simp (disch := omega) only [cm_X1_ticks_B95, zSh_T, zV_T, zL_T, zn_T, L_add, L_addR, L_mul, L_mulR, L_div, N_div, N_rem, L_sub, L_subN, nI_add, nI_mul, L_le, L_leR, L_lt, L_ltR, L_eq, N_leT, N_leF, N_ltT, N_ltF, N_eqT, N_eqF, N_m1, bnd_S, un2_S, un3_S, nmI_S, nmL_S, ptI_S, cs2_L, cs2_R, okI_b, okI_1, okI_0, rdI_in, wrI_in, rdI_L, wrI_L, rdL_in, wrL_in, if_true, if_false, f_A hF, l_K hP.2.1, l_size hP.2.1, h6', hg, h_C hP hi, nn_eq, h_I hP hi, v0, v1, v2, h1]
  · intro q hq
    obtain ⟨x, Z'⟩ := q
    obtain ⟨e1, V', e2, hv', ho⟩ := hq
    simp only at e1 e2
    subst e1 e2
    have h6' : V' (m 6) 2 = nI (pNh w) := by rw [ho _ (fun k hk => hm.ne (by omega) (by omega) (by omega))]; exact h6n
    refine ⟨_, fun rec => ?_, V', rfl, hv', ho⟩
    unfold cm_X1_ticks_F95
    simp (disch := omega) only [cm_X1_ticks_B95, zSh_T, zV_T, zL_T, zn_T, L_add, L_addR, L_mul, L_mulR, L_div, N_div, N_rem, L_sub, L_subN, nI_add, nI_mul, L_le, L_leR, L_lt, L_ltR, L_eq, N_leT, N_leF, N_ltT, N_ltF, N_eqT, N_eqF, N_m1, bnd_S, un2_S, un3_S, nmI_S, nmL_S, ptI_S, cs2_L, cs2_R, okI_b, okI_1, okI_0, rdI_in, wrI_in, rdI_L, wrI_L, rdL_in, wrL_in, if_true, if_false, f_A hF, l_K hP.2.1, l_size hP.2.1, h6']
theorem cm_anyDug_eq (h : RD (Sh, V, L, n) m u Fz w) : cm_X1_isOpenDug_L4 (m 0) (Sh, V, L, n) 1000 0 0 = some (b2i (pAny w)) := by
  obtain ⟨hF, hA, hT, hV, hk⟩ := h
  simp only [zSh_T, zV_T, zL_T, zn_T] at hF hA hT hV
  unfold cm_X1_isOpenDug_L4
  refine lp_itr (N := 144) (mk := fun (b : Bool) i => (b2i b, nI i)) (f := fun c b => b || pDug w c) (out := b2i) (a := false) ?_ ?_ (by omega)
  · intro rec i b hi
    have hdu : V (m 4) i = b2i (pDug w i) := VA_dug (Z := (Sh, V, L, n)) hV hi
    unfold cm_X1_isOpenDug_F4
    simp (disch := omega) only [cm_X1_isOpenDug_B4, zSh_T, zV_T, zL_T, zn_T, L_add, L_addR, L_mul, L_mulR, L_div, N_div, N_rem, L_sub, L_subN, nI_add, nI_mul, L_le, L_leR, L_lt, L_ltR, L_eq, N_leT, N_leF, N_ltT, N_ltF, N_eqT, N_eqF, N_m1, bnd_S, un2_S, un3_S, nmI_S, nmL_S, ptI_S, cs2_L, cs2_R, okI_b, okI_1, okI_0, rdI_in, wrI_in, rdI_L, wrI_L, rdL_in, wrL_in, if_true, if_false, f_A hF, caI_eq hA.2.2.2.1, hdu, b2iF]
    cases b <;> cases pDug w i <;> simp [b2i]
  · intro rec a
    unfold cm_X1_isOpenDug_F4
    simp (disch := omega) only [cm_X1_isOpenDug_B4, L_add, L_addR, L_mul, L_mulR, L_div, N_div, N_rem, L_sub, L_subN, nI_add, nI_mul, L_le, L_leR, L_lt, L_ltR, L_eq, N_leT, N_leF, N_ltT, N_ltF, N_eqT, N_eqF, N_m1, bnd_S, un2_S, un3_S, nmI_S, nmL_S, ptI_S, cs2_L, cs2_R, okI_b, okI_1, okI_0, rdI_in, wrI_in, rdI_L, wrI_L, rdL_in, wrL_in, if_true, if_false]
end CK
