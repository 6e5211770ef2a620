/-! PURE: calls that change a little: cold, gauge, run, pump -/
set_option maxRecDepth 100000
section S2
variable {Sh : g_Sh} {V V' : g_V} {L L' : g_L} {n n' x : Nat} {m u mt q ρ : Nat → Nat} {V2 V2' : g_V} {L2 : g_L} {Fz : Nat → Prop} {w w' : Nat → Int32}
theorem GG.ow {Z : c_S} (h : GG Z x ρ m u mt q V2 L2) {i : Nat} (hi : i < 13 + pNp (V2 1) ∨ (31 ≤ i ∧ i < 31 + pNh (V2 1))) : ρ (m i) = 2 := h.1.2.1 i hi
theorem q_cold (h : GG (Sh, V, L, n) x ρ m u mt q V2 L2) (a : Int32) : Ans (cm_X0_cold (Sh, V, L, n) x a) (tw_cold V2 a) x L2 := by
  have hM : GM Sh x (m 0) (mt 0) q := h.gm
  have hF : FS0 Sh m (u 0) := h.f0
  have hFR := h.fr
  obtain ⟨⟨⟨-, -, -, hV, -⟩, hm, -⟩, -, hI, hL, hP, hH, hG⟩ := h.fr
  simp only [zSh_T, zV_T, zL_T, zn_T] at hV hI hL hP hH hG
  have hI' := hI
  obtain ⟨i9, i10, i11, i12, i13, i14, i15, i16, i17⟩ := hI'
  have z1 : ¬ (1 : Int32) = 0 := by decide
  have h18 := h.inv.1.2.1.2.1
  have h6 := h.inv.1.2.2.1.2.1
  unfold cm_X0_cold tw_cold
  simp only [cm_in_tw]
  rcases in_N (a := a) (hi := 99999) (N := 100000) (by omega) (by decide) with h1 | ⟨k, hk, rfl, h1⟩
  · rw [h1]; exact ⟨_, _, _, rfl, rfl, h.g⟩
  · rw [h1]
    simp (disch := omega) only [zSh_T, zV_T, zL_T, zn_T, bnd_S, un2_S, un3_S, nmI_S, nmL_S, ptI_S, cs2_L, cs2_R, okI_b, okI_1, okI_0, rdI_in, wrI_in, rdI_L, wrI_L, rdL_in, wrL_in, if_true, if_false, z1, x_now hM, f_I hF, i10, f_pT hF, upd2_row]
    refine ⟨_, _, _, rfl, rfl, GG.g (GG_now (w' := upd (V2 1) 6 (nI k)) h (fun b hb => rowV_ne (fun e => hb (by rw [e]; exact h.ow (by omega)))) (FR_of hFR (fun b hb => rowV_ne (fun e => ?_)) (fun j hj => upd_ne (by omega)) (fun c hc => ?_) ?_ ?_ (fun p i hp hi => ?_) (fun p i hp hi => ?_) (fun g hg => ?_)) (upd_ne (by omega)) (upd_ne (by omega)) (pInv_c h.inv (fun j _ h6 _ _ _ _ _ => upd_ne h6) (fun p hp => ?_) ?_ ?_ (fun g hg => ?_)) (fun j hj => upd_ne (by omega)) (TwK_row (by omega)) (rowV_eq _ _ _))⟩
    · have := h.ow (i := 0) (by omega); rw [e] at hb; omega
    · simp (disch := omega) only [rowM_ne hm, upd_ne]; exact hV c hc
    · unfold VI
      simp (disch := omega) only [rowV_eq, upd_ne, upd_eq]
      exact ⟨i9, trivial, i11, i12, i13, i14, i15, i16, i17⟩
    · unfold VLi
      simp (disch := omega) only [rowM_ne hm, upd_ne]; exact hL
    · have e : pNp (upd (V2 1) 6 (nI k)) = pNp (V2 1) := pNp_eq (upd_ne (by omega))
      rw [e] at hp
      simp (disch := omega) only [rowM_ne hm, upd_ne]; exact hP p i hp hi
    · have e : pNh (upd (V2 1) 6 (nI k)) = pNh (V2 1) := pNh_eq (upd_ne (by omega))
      rw [e] at hp
      simp (disch := omega) only [rowM_ne hm, upd_ne]; exact hH p i hp hi
    · simp (disch := omega) only [rowM_ne hm, upd_ne]; exact hG g hg
    · rw [upd_ne (by omega)]; exact (h.inv.1.2.2.2.2.1.1 p hp).2.2
    · rw [upd_eq, nI_toInt (by omega)]; omega
    · rw [upd_ne (by omega)]; exact h.inv.2.2.2.1
    · rw [upd_ne (by omega)]; exact h.inv.2.2.2.2.2.1 g hg
theorem q_gauge (h : GG (Sh, V, L, n) x ρ m u mt q V2 L2) (a b c d : Int32) : Ans (cm_X0_gauge (Sh, V, L, n) x a b c d) (tw_gauge V2 a b c d) x L2 := by
  have hM : GM Sh x (m 0) (mt 0) q := h.gm
  have hF : FS0 Sh m (u 0) := h.f0
  have hA : FSa Sh m := h.fa
  have hFR := h.fr
  obtain ⟨⟨⟨-, -, -, hV, -⟩, hm, -⟩, -, hI, hL, hP, hH, hG⟩ := h.fr
  simp only [zSh_T, zV_T, zL_T, zn_T] at hV hI hL hP hH hG
  have z1 : ¬ (1 : Int32) = 0 := by decide
  have h18 := h.inv.1.2.1.2.1
  have h6 := h.inv.1.2.2.1.2.1
  unfold cm_X0_gauge tw_gauge
  simp only [cm_in_tw]
  rcases in_N (a := a) (hi := 9) (N := 10) (by omega) (by decide) with h1 | ⟨k, hk, rfl, h1⟩
  · rw [h1]; exact ⟨_, _, _, rfl, rfl, h.g⟩
  · rw [h1]
    rcases in_pl b c with ⟨e1, e2⟩ | ⟨X, Y, hX, hY, rfl, rfl, e1, e2⟩
    · rw [e1, e2]; exact ⟨_, _, _, rfl, rfl, h.g⟩
    · rw [e1, e2]
      simp only [bnd_S, z1, if_false]
      rw [tw_inI]
      by_cases hd : (-500 : Int64).toInt ≤ d.toInt ∧ d.toInt ≤ (500 : Int64).toInt
      · rw [if_pos hd]
        have hc : 12 * Y + X < 144 := by omega
        simp (disch := omega) only [zSh_T, zV_T, zL_T, zn_T, L_add, L_addR, L_mul, L_mulR, L_div, N_div, N_rem, L_sub, L_subN, nI_add, nI_mul, L_le, L_leR, L_lt, L_ltR, L_eq, N_leT, N_leF, N_ltT, N_ltF, N_eqT, N_eqF, N_m1, bnd_S, un2_S, un3_S, nmI_S, nmL_S, ptI_S, cs2_L, cs2_R, okI_b, okI_1, okI_0, rdI_in, wrI_in, rdI_L, wrI_L, rdL_in, wrL_in, if_true, if_false, z1, x_now hM, f_A hF, zsI_T hA.2.2.2.2.1, zsI_T hA.2.2.2.2.2.1, upd2_row, rowV_eq, rowM_ne hm, rowV_over, rowM_swap hm, upd_eq, upd_ne, upd_over, Nat.zero_add]
        have ups : upd (upd (V2 1) (790 + 2 * k) (nI (12 * Y + X))) (790 + 2 * k + 1) d = upd (upd (V2 1) (790 + 2 * k) (nI (12 * Y + X))) (790 + 2 * k + 1) d := rfl
        refine ⟨_, _, _, rfl, rfl, GG.g (GG_now (w' := upd (upd (V2 1) (790 + 2 * k) (nI (12 * Y + X))) (790 + 2 * k + 1) d) h (fun b hb => ?_) (FR_of hFR (fun b hb => ?_) (fun j hj => ?_) (fun c hc => ?_) ?_ ?_ (fun p i hp hi => ?_) (fun p i hp hi => ?_) (fun g hg => ?_)) ?_ ?_ (pInv_c h.inv (fun j _ _ _ _ _ _ hj => ?_) (fun p hp => ?_) ?_ ?_ (fun g hg => ?_)) (fun j hj => ?_) (TwK_row (by omega)) (rowV_eq _ _ _))⟩
        · rw [rowV_ne (fun e => hb (by rw [e]; exact h.ow (by omega))), rowV_ne (fun e => hb (by rw [e]; exact h.ow (by omega)))]
        · have r7 := h.ow (i := 7) (by omega)
          have r8 := h.ow (i := 8) (by omega)
          rw [rowV_ne (fun e => by rw [e] at hb; omega), rowV_ne (fun e => by rw [e] at hb; omega)]
        · simp (disch := omega) only [upd_ne]
        · simp (disch := omega) only [rowM_ne hm, upd_ne]; exact hV c hc
        · unfold VI
          simp (disch := omega) only [rowM_ne hm, upd_ne]
          exact hI
        · unfold VLi
          simp (disch := omega) only [rowM_ne hm, upd_ne]; exact hL
        · have e : pNp (upd (upd (V2 1) (790 + 2 * k) (nI (12 * Y + X))) (790 + 2 * k + 1) d) = pNp (V2 1) := pNp_eq (by simp (disch := omega) only [upd_ne])
          rw [e] at hp
          simp (disch := omega) only [rowM_ne hm, upd_ne]; exact hP p i hp hi
        · have e : pNh (upd (upd (V2 1) (790 + 2 * k) (nI (12 * Y + X))) (790 + 2 * k + 1) d) = pNh (V2 1) := pNh_eq (by simp (disch := omega) only [upd_ne])
          rw [e] at hp
          simp (disch := omega) only [rowM_ne hm, upd_ne]; exact hH p i hp hi
        · by_cases e : g = k
          · subst e
            simp (disch := omega) only [rowM_ne hm, rowV_eq, upd_ne, upd_eq]
            exact ⟨trivial, Or.inr trivial⟩
          · simp (disch := omega) only [rowM_ne hm, rowV_eq, upd_ne, upd_eq]
            exact hG g hg
        · simp (disch := omega) only [upd_ne]
        · simp (disch := omega) only [upd_ne]
        · simp (disch := omega) only [upd_ne]
        · simp (disch := omega) only [upd_ne]; exact (h.inv.1.2.2.2.2.1.1 p hp).2.2
        · simp (disch := omega) only [upd_ne]; exact h.inv.1.2.1.2.2.2
        · simp (disch := omega) only [upd_ne]; exact h.inv.2.2.2.1
        · by_cases e : g = k
          · subst e
            simp (disch := omega) only [upd_ne, upd_eq]
            exact Or.inr ⟨_, hc, rfl⟩
          · simp (disch := omega) only [upd_ne]; exact h.inv.2.2.2.2.2.1 g hg
        · simp (disch := omega) only [upd_ne]
      · rw [if_neg hd]
        exact ⟨_, _, _, rfl, rfl, h.g⟩
theorem q_pump (h : GG (Sh, V, L, n) x ρ m u mt q V2 L2) : Ans (cm_X0_pump (Sh, V, L, n) x) (tw_pump V2) x L2 := by
  have hM : GM Sh x (m 0) (mt 0) q := h.gm
  have hF : FS0 Sh m (u 0) := h.f0
  obtain ⟨-, -, hI0, -, -, -, -⟩ := h.fr
  simp only [zSh_T, zV_T, zL_T, zn_T] at hI0
  have i17' := hI0.2.2.2.2.2.2.2.2
  obtain ⟨Vs, g, e1, e2, hG2⟩ : ∃ Vs g, cm_X1_isShut (Sh, V, L, n) (m 0) = some (b2i (pShut (V2 1)), (Sh, Vs, L, n)) ∧ tw_isShut V2 = some (b2i (pShut (V2 1)), rowV V2 26 g) ∧ GG (Sh, Vs, L, n) x ρ m u mt q (rowV V2 26 g) L2 := by
    obtain ⟨A, B, e1⟩ := cm_isShut_eq h.fr.1 (pWayO_lt h.kok)
    obtain ⟨g, e2⟩ := tw_isShut_eq h.kok
    exact ⟨_, g, e1, e2, GG_way h A B g⟩
  have hFR := hG2.fr
  obtain ⟨⟨⟨-, -, -, hV, -⟩, hm, -⟩, -, hI, hL, hP, hH, hG⟩ := hG2.fr
  simp only [zSh_T, zV_T, zL_T, zn_T] at hV hI hL hP hH hG
  have hI' := hI
  obtain ⟨i9, i10, i11, i12, i13, i14, i15, i16, i17⟩ := hI'
  have z1 : ¬ (1 : Int32) = 0 := by decide
  have h18 := hG2.inv.1.2.1.2.1
  have h6 := hG2.inv.1.2.2.1.2.1
  have r1 : rowV V2 26 g 1 = V2 1 := rowV_ne (by omega)
  unfold cm_X0_pump tw_pump
  simp (disch := omega) only [zSh_T, zV_T, zL_T, zn_T, bnd_S, un2_S, un3_S, nmI_S, nmL_S, ptI_S, cs2_L, cs2_R, okI_b, okI_1, okI_0, rdI_in, wrI_in, rdI_L, wrI_L, rdL_in, wrL_in, if_true, if_false, x_K hM, x_has h, tw_hasShaft_eq, b2iF, x_now hM, f_KT hF, f_I hF, e1, e2, i17', f_pT hF, upd2_row]
  cases pHas (V2 1) with
  | false => exact ⟨_, _, _, rfl, rfl, h.g⟩
  | true =>
    simp only [Bool.true_eq_false, if_false]
    rcases h.inv.2.2.2.1 with hb | hb
    · rw [hb]; exact ⟨_, _, _, rfl, rfl, h.g⟩
    · rw [hb, if_neg z1, if_neg z1]
      cases pShut (V2 1) with
      | false => exact ⟨_, _, _, rfl, rfl, hG2.g⟩
      | true =>
        refine ⟨_, _, _, rfl, rfl, GG.g (GG_now (w' := upd (rowV V2 26 g 1) 12 0) hG2 (fun b hb => rowV_ne (fun e => hb (by rw [e]; exact hG2.ow (by omega)))) (FR_of hFR (fun b hb => rowV_ne (fun e => ?_)) (fun j hj => upd_ne (by omega)) (fun c hc => ?_) ?_ ?_ (fun p i hp hi => ?_) (fun p i hp hi => ?_) (fun g hg => ?_)) (upd_ne (by omega)) (upd_ne (by omega)) (pInv_c hG2.inv (fun j _ _ h12 _ _ _ _ => upd_ne h12) (fun p hp => ?_) ?_ ?_ (fun g hg => ?_)) (fun j hj => upd_ne (by omega)) (TwK_row (by omega)) (rowV_eq _ _ _))⟩
        · have := hG2.ow (i := 0) (by omega); rw [e] at hb; omega
        · simp (disch := omega) only [rowM_ne hm, upd_ne]; exact hV c hc
        · unfold VI
          simp (disch := omega) only [rowV_eq, upd_ne, upd_eq]
          exact ⟨i9, i10, i11, i12, i13, i14, i15, i16, trivial⟩
        · unfold VLi
          simp (disch := omega) only [rowM_ne hm, upd_ne]; exact hL
        · have e : pNp (upd (rowV V2 26 g 1) 12 0) = pNp (rowV V2 26 g 1) := pNp_eq (upd_ne (by omega))
          rw [e] at hp
          simp (disch := omega) only [rowM_ne hm, upd_ne]; exact hP p i hp hi
        · have e : pNh (upd (rowV V2 26 g 1) 12 0) = pNh (rowV V2 26 g 1) := pNh_eq (upd_ne (by omega))
          rw [e] at hp
          simp (disch := omega) only [rowM_ne hm, upd_ne]; exact hH p i hp hi
        · simp (disch := omega) only [rowM_ne hm, upd_ne]; exact hG g hg
        · rw [upd_ne (by omega)]; exact (hG2.inv.1.2.2.2.2.1.1 p hp).2.2
        · rw [upd_ne (by omega)]; exact hG2.inv.1.2.1.2.2.2
        · rw [upd_eq]; exact Or.inl rfl
        · rw [upd_ne (by omega)]; exact hG2.inv.2.2.2.2.2.1 g hg
end S2
