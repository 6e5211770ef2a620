/-! PURE: gaps; what is measured -/
set_option maxRecDepth 100000
section GP
variable {Sh : g_Sh} {V V' : g_V} {L L' : g_L} {n n' x : Nat} {m u mt q ρ : Nat → Nat} {V2 V2' : g_V} {L2 : g_L} {w : Nat → Int32}
/-- a Cut beside the reference's search: both find the same -/
theorem x_cut (h : GG (Sh, V, L, n) x ρ m u mt q V2 L2) : ∃ (Sh' : g_Sh) (V' : g_V) (v : Nat) (g : Nat → Bool) (V2' : g_V), cm_X14_init (updS Sh n (d_obj 13 9 (zrf tyX14)), rowV V n (fun _ => 0), L, n + 1) n (m 0) = some (Sh', V', L, n + 151) ∧ CuS Sh' n (m 0) ∧ V' n 8 = nI v ∧ v ≤ 144 ∧ (∀ c V3, c < 144 → V3 (n + 149) = V' (n + 149) → cm_X14_isGap (Sh', V3, L, n + 151) n (nI c) = some (b2i (g c))) ∧ tw_findGaps V2 = some (nI v, V2') ∧ (∀ c, c < 144 → V2' 32 c = b2i (g c)) ∧ GG (Sh', V', L, n + 151) x ρ m u mt q V2' L2 ∧ V2' 1 = V2 1 := by
  have hn := h.2.2.2.2.2.2.1
  obtain ⟨Sh', V', v, g, e1, e2, e3, e4, e5, e6, e7⟩ := cm_cut_eq (L := L) h.rd (fun i hi => h.lt (by omega)) (fun b hb => hn b (by rw [hb]; omega))
  obtain ⟨v2, g2, V2', t1, t2, t3, t4, t5⟩ := tw_findGaps_eq (V := V2) h.kok rfl
  obtain ⟨ev, eg⟩ := isCut_one e5 t3
  subst ev
  have k1 : V2' 1 = V2 1 := t5.1 1 (by omega) (by omega) (by omega) (by omega) (by omega) (by omega)
  refine ⟨Sh', V', v, g, V2', e1, e2, e4, e3, e6, t1, fun c hc => by rw [t4 c hc, eg c hc], GG_scr h (by omega) (fun a ha => (e7 a ha).1) (fun a ha _ _ _ => (e7 a ha).2) (fun _ _ => rfl) (TwK_G t5) (fun j _ => by rw [k1]), k1⟩
theorem q_gaps (h : GG (Sh, V, L, n) x ρ m u mt q V2 L2) : Ans (cm_X0_gaps (Sh, V, L, n) x) (tw_gaps V2) x L2 := by
  have hM : GM Sh x (m 0) (mt 0) q := h.gm
  unfold cm_X0_gaps tw_gaps
  simp only [zSh_T, zV_T, zL_T, zn_T, x_K hM, x_has h, tw_hasShaft_eq, bnd_S, b2iF]
  cases pHas (V2 1) with
  | false => exact ⟨_, _, _, rfl, rfl, h.g⟩
  | true =>
    obtain ⟨Sh1, V1, v, g, V3, e1, e2, e3, e4, e5, e6, e7, hG, ek⟩ := x_cut h
    have hM1 : GM Sh1 x (m 0) (mt 0) q := hG.gm
    obtain ⟨o1, o2, o3, o4, o5, o6, o7⟩ := hG.2.2.2.2.2.2
    obtain ⟨-, -, -, -, -, -, o1', -⟩ := h
    have xn : x < n := o1' x (by rw [o2]; omega)
    have q4n : q 4 < n := o1' _ (by rw [o6]; omega)
    have q4x : q 4 ≠ x := fun e => by rw [e] at o6; omega
    have q3x : q 3 ≠ x := fun e => by rw [e] at o5; omega
    have q34 : q 3 ≠ q 4 := fun e => by rw [e] at o5; omega
    obtain ⟨n1, n2, n3, n4, -⟩ := hG.2.2.2.1
    simp only [zSh_T, zV_T, zL_T, zn_T] at n1 n2 n3 n4
    have hMn : GM (updS Sh n (d_obj 13 9 (zrf tyX14))) x (m 0) (mt 0) q := by
      unfold GM
      rw [updS_ne (by omega)]
      exact hM
    simp (disch := omega) only [zSh_T, zV_T, zL_T, zn_T, zNew, bnd_S, Bool.true_eq_false, if_false, x_now hMn, e1, e6, un2_S, x_P hM1, ptI_S, upd2_row]
    have key : ∀ i (s : Int32 × c_S) (s' : Int32 × g_V), i ≤ 144 → (∃ (k : Nat) (A B C D : Nat → Int32), k ≤ i ∧ s = (nI i, (Sh1, rowV (rowV V1 x (upd (V1 x) 9 (nI k))) (q 4) A, L, n + 151)) ∧ s' = (nI i, rowV (rowV V3 0 (upd (V3 0) 34 (nI k))) 33 B) ∧ (∀ j, j < k → A j = B j) ∧ C = A ∧ D = B) → (∃ (o : c_S) (o' : g_V), (∀ rec, cm_X0_gaps_F29 x n rec s = some o) ∧ (∀ rec, tw_gaps_F22 (nI v) rec s' = some o') ∧ ∃ (k : Nat) (A B : Nat → Int32), k ≤ 144 ∧ o = (Sh1, rowV (rowV V1 x (upd (V1 x) 9 (nI k))) (q 4) A, L, n + 151) ∧ o' = rowV (rowV V3 0 (upd (V3 0) 34 (nI k))) 33 B ∧ ∀ j, j < k → A j = B j) ∨ (i < 144 ∧ ∃ t1 t2, (∀ rec, cm_X0_gaps_F29 x n rec s = rec t1) ∧ (∀ rec, tw_gaps_F22 (nI v) rec s' = rec t2) ∧ ∃ (k : Nat) (A B C D : Nat → Int32), k ≤ i + 1 ∧ t1 = (nI (i + 1), (Sh1, rowV (rowV V1 x (upd (V1 x) 9 (nI k))) (q 4) A, L, n + 151)) ∧ t2 = (nI (i + 1), rowV (rowV V3 0 (upd (V3 0) 34 (nI k))) 33 B) ∧ (∀ j, j < k → A j = B j) ∧ C = A ∧ D = B) := by
      intro i s s' hi hR
      obtain ⟨k, A, B, -, -, hk, rfl, rfl, hAB, -, -⟩ := hR
      unfold cm_X0_gaps_F29 tw_gaps_F22
      by_cases hl : i < 144
      · right
        have e5' := e5 i (rowV (rowV V1 x (upd (V1 x) 9 (nI k))) (q 4) A) hl (by rw [rowV_ne (by omega), rowV_ne (by omega)])
        refine ⟨hl, ?_⟩
        cases hgi : g i with
        | false =>
          refine ⟨_, _, fun rec => ?_, fun rec => ?_, k, A, B, A, B, by omega, rfl, rfl, hAB, rfl, rfl⟩
          · simp (disch := omega) only [cm_X0_gaps_B29, zSh_T, zV_T, zL_T, zn_T, L_add, L_addR, L_mul, L_mulR, L_div, N_div, N_rem, L_sub, L_subN, nI_add, nI_mul, L_le, L_leR, L_lt, L_ltR, L_eq, N_leT, N_leF, N_ltT, N_ltF, N_eqT, N_eqF, N_m1, bnd_S, un2_S, un3_S, nmI_S, nmL_S, ptI_S, cs2_L, cs2_R, okI_b, okI_1, okI_0, rdI_in, wrI_in, rdI_L, wrI_L, rdL_in, wrL_in, if_true, if_false, k_K e2, e5', hgi, b2iF]
          · simp (disch := omega) only [tw_gaps_B22, L_add, L_addR, L_mul, L_mulR, L_div, N_div, N_rem, L_sub, L_subN, nI_add, nI_mul, L_le, L_leR, L_lt, L_ltR, L_eq, N_leT, N_leF, N_ltT, N_ltF, N_eqT, N_eqF, N_m1, bnd_S, un2_S, un3_S, nmI_S, nmL_S, ptI_S, cs2_L, cs2_R, okI_b, okI_1, okI_0, rdI_in, wrI_in, rdI_L, wrI_L, rdL_in, wrL_in, if_true, if_false, rowV_ne, e7, hgi, b2iF]
        | true =>
          refine ⟨_, _, fun rec => ?_, fun rec => ?_, k + 1, upd A k (nI i), upd B k (nI i), _, _, by omega, rfl, rfl, fun j hj => ?_, rfl, rfl⟩
          · simp (disch := omega) only [cm_X0_gaps_B29, zSh_T, zV_T, zL_T, zn_T, L_add, L_addR, L_mul, L_mulR, L_div, N_div, N_rem, L_sub, L_subN, nI_add, nI_mul, L_le, L_leR, L_lt, L_ltR, L_eq, N_leT, N_leF, N_ltT, N_ltF, N_eqT, N_eqF, N_m1, bnd_S, un2_S, un3_S, nmI_S, nmL_S, ptI_S, cs2_L, cs2_R, okI_b, okI_1, okI_0, rdI_in, wrI_in, rdI_L, wrI_L, rdL_in, wrL_in, if_true, if_false, k_K e2, e5', hgi, b2iF, Bool.true_eq_false, x_tg hM1, x_I hM1, rowV_ne, rowV_eq, upd_eq, zsI_T n4, x_P hM1, upd2_row, rowV_over]
            have sw : rowV (rowV (rowV V1 x (upd (V1 x) 9 (nI k))) (q 4) (upd A k (nI i))) x (upd (upd (V1 x) 9 (nI k)) 9 (nI (k + 1))) = rowV (rowV V1 x (upd (V1 x) 9 (nI (k + 1)))) (q 4) (upd A k (nI i)) := by
              rw [upd_over]
              funext b
              unfold rowV
              by_cases b1 : b = x
              · rw [if_pos b1, if_neg (by omega), if_pos b1]
              · rw [if_neg b1]
                by_cases b2 : b = q 4
                · rw [if_pos b2, if_pos b2]
                · rw [if_neg b2, if_neg b1, if_neg b2, if_neg b1]
            rw [sw]
          · simp (disch := omega) only [tw_gaps_B22, L_add, L_addR, L_mul, L_mulR, L_div, N_div, N_rem, L_sub, L_subN, nI_add, nI_mul, L_le, L_leR, L_lt, L_ltR, L_eq, N_leT, N_leF, N_ltT, N_ltF, N_eqT, N_eqF, N_m1, bnd_S, un2_S, un3_S, nmI_S, nmL_S, ptI_S, cs2_L, cs2_R, okI_b, okI_1, okI_0, rdI_in, wrI_in, rdI_L, wrI_L, rdL_in, wrL_in, if_true, if_false, rowV_ne, rowV_eq, upd_eq, e7, hgi, b2iF, Bool.true_eq_false, upd2_row, rowV_over]
            have sw : rowV (rowV (rowV V3 0 (upd (V3 0) 34 (nI k))) 33 (upd B k (nI i))) 0 (upd (upd (V3 0) 34 (nI k)) 34 (nI (k + 1))) = rowV (rowV V3 0 (upd (V3 0) 34 (nI (k + 1)))) 33 (upd B k (nI i)) := by
              rw [upd_over]
              funext b
              unfold rowV
              by_cases b1 : b = 0
              · rw [if_pos b1, if_neg (by omega), if_pos b1]
              · rw [if_neg b1]
                by_cases b2 : b = 33
                · rw [if_pos b2, if_pos b2]
                · rw [if_neg b2, if_neg b1, if_neg b2, if_neg b1]
            rw [sw]
          · by_cases ej : j = k
            · rw [ej, upd_eq, upd_eq]
            · rw [upd_ne ej, upd_ne ej]; exact hAB j (by omega)
      · left
        have : i = 144 := by omega
        subst this
        refine ⟨_, _, fun rec => ?_, fun rec => ?_, k, A, B, hk, rfl, rfl, hAB⟩
        · simp (disch := omega) only [cm_X0_gaps_B29, L_add, L_addR, L_mul, L_mulR, L_div, N_div, N_rem, L_sub, L_subN, nI_add, nI_mul, L_le, L_leR, L_lt, L_ltR, L_eq, N_leT, N_leF, N_ltT, N_ltF, N_eqT, N_eqF, N_m1, bnd_S, un2_S, un3_S, nmI_S, nmL_S, ptI_S, cs2_L, cs2_R, okI_b, okI_1, okI_0, rdI_in, wrI_in, rdI_L, wrI_L, rdL_in, wrL_in, if_true, if_false]
        · simp (disch := omega) only [tw_gaps_B22, L_add, L_addR, L_mul, L_mulR, L_div, N_div, N_rem, L_sub, L_subN, nI_add, nI_mul, L_le, L_leR, L_lt, L_ltR, L_eq, N_leT, N_leF, N_ltT, N_ltF, N_eqT, N_eqF, N_m1, bnd_S, un2_S, un3_S, nmI_S, nmL_S, ptI_S, cs2_L, cs2_R, okI_b, okI_1, okI_0, rdI_in, wrI_in, rdI_L, wrI_L, rdL_in, wrL_in, if_true, if_false]
    have s0 : rowV (rowV V1 x (upd (V1 x) 9 (nI 0))) (q 4) (V1 (q 4)) = rowV V1 x (upd (V1 x) 9 (nI 0)) := by
      have : V1 (q 4) = rowV V1 x (upd (V1 x) 9 (nI 0)) (q 4) := by rw [rowV_ne q4x]
      rw [this, rowV_self]
    have s0' : rowV (rowV V3 0 (upd (V3 0) 34 (nI 0))) 33 (V3 33) = rowV V3 0 (upd (V3 0) 34 (nI 0)) := by
      have : V3 33 = rowV V3 0 (upd (V3 0) 34 (nI 0)) 33 := by rw [rowV_ne (by omega)]
      rw [this, rowV_self]
    obtain ⟨o, o', f1, f2, k, A, B, hk, rfl, rfl, hAB⟩ := lp_sim (P := fun (o : c_S) (o' : g_V) => ∃ (k : Nat) (A B : Nat → Int32), k ≤ 144 ∧ o = (Sh1, rowV (rowV V1 x (upd (V1 x) 9 (nI k))) (q 4) A, L, n + 151) ∧ o' = rowV (rowV V3 0 (upd (V3 0) 34 (nI k))) 33 B ∧ ∀ j, j < k → A j = B j) (fun i s s' => ∃ (k : Nat) (A B C D : Nat → Int32), k ≤ i ∧ s = (nI i, (Sh1, rowV (rowV V1 x (upd (V1 x) 9 (nI k))) (q 4) A, L, n + 151)) ∧ s' = (nI i, rowV (rowV V3 0 (upd (V3 0) 34 (nI k))) 33 B) ∧ (∀ j, j < k → A j = B j) ∧ C = A ∧ D = B) key 1000 1000 0 (nI 0, (Sh1, rowV V1 x (upd (V1 x) 9 (nI 0)), L, n + 151)) (nI 0, rowV V3 0 (upd (V3 0) 34 (nI 0))) (by omega) (by omega) (by omega) ⟨0, V1 (q 4), V3 33, _, _, by omega, by rw [s0], by rw [s0'], fun j hj => by omega, rfl, rfl⟩
    unfold cm_X0_gaps_L29 tw_gaps_L22
    rw [show (0 : Int32) = nI 0 from rfl, f1, f2]
    simp (disch := omega) only [zSh_T, zV_T, zL_T, zn_T, bnd_S, un2_S, un3_S, nmI_S, nmL_S, ptI_S, cs2_L, cs2_R, okI_b, okI_1, okI_0, rdI_in, wrI_in, rdI_L, wrI_L, rdL_in, wrL_in, if_true, if_false, k_I8 e2, rowV_ne, e3]
    refine ⟨_, _, _, rfl, rfl, GG.g (GG_gn hG (fun a h7 _ h11 => ?_) ⟨?_, ?_, ⟨n3.1, ?_⟩, n4, k, hk, ?_, ?_, ?_⟩ ?_ ⟨?_, ?_, ?_, ?_⟩)⟩
    · rw [rowV_ne (fun e => h11 (by rw [e]; exact o6)), rowV_ne (fun e => h7 (by rw [e]; exact o2))]
    · simp (disch := omega) only [rowV_ne, rowV_eq, upd_ne]; exact n1
    · simp (disch := omega) only [rowV_ne, rowV_eq, upd_ne]; exact n2
    · simp (disch := omega) only [rowV_ne]; exact n3.2
    · simp (disch := omega) only [rowV_ne, rowV_eq, upd_eq]
    · simp (disch := omega) only [rowV_ne, rowV_eq, upd_eq]
    · simp (disch := omega) only [rowV_eq]; exact hAB
    · simp (disch := omega) only [rowV_ne]
    · simp (disch := omega) only [rowV_ne]
    · simp (disch := omega) only [rowV_ne]
    · simp (disch := omega) only [rowV_ne]
    · simp (disch := omega) only [rowV_ne]
end GP
