/-! PURE: one more pipe is tried: the reference -/
set_option maxRecDepth 100000
section AT
variable {V V0 : g_V} {L2 : g_L} {w : Nat → Int32} {s N : Nat} {set nn' : Int32}
theorem tw_zero {k : Nat} {x1 x2 x3 x4 : Int32} (hk : k + 6 ≤ 810) : tw_shutsBy_L48 x1 x2 x3 x4 (nI k) L2 1000 0 V = some (rowV V 1 (fun j => if k ≤ j ∧ j < k + 6 then 0 else V 1 j)) := by
  have hr := lp_run (F := tw_shutsBy_F48 x1 x2 x3 x4 (nI k) L2) (N := 6) (st := fun i => (nI i, rowV V 1 (fun j => if k ≤ j ∧ j < k + i then 0 else V 1 j))) (out := rowV V 1 (fun j => if k ≤ j ∧ j < k + 6 then 0 else V 1 j)) ?_ ?_ 1000 0 (by omega) (by omega)
  · have e0 : (fun j => if k ≤ j ∧ j < k + 0 then 0 else V 1 j) = V 1 := by funext j; exact if_neg (by omega)
    rw [e0, rowV_self, nI_0] at hr
    exact hr
  · intro rec i hi
    have q2 : upd (fun j => if k ≤ j ∧ j < k + i then 0 else V 1 j) (k + i) 0 = fun j => if k ≤ j ∧ j < k + (i + 1) then 0 else V 1 j := by
      funext j
      by_cases e : j = k + i
      · subst e
        rw [upd_eq, if_pos (by omega)]
      · rw [upd_ne e]
        by_cases c : k ≤ j ∧ j < k + i
        · rw [if_pos c, if_pos (by omega)]
        · rw [if_neg c, if_neg (by omega)]
    unfold tw_shutsBy_F48
    simp (disch := omega) only [tw_shutsBy_B48, rowV_ne, rowV_eq, L_add, L_addR, L_mul, L_mulR, L_div, N_div, N_rem, L_sub, L_subN, nI_add, nI_mul, L_le, L_leR, L_lt, L_ltR, L_eq, N_leT, N_leF, N_ltT, N_ltF, N_eqT, N_eqF, N_m1, bnd_S, un2_S, un3_S, nmI_S, nmL_S, ptI_S, cs2_L, cs2_R, okI_b, okI_1, okI_0, rdI_in, wrI_in, rdI_L, wrI_L, rdL_in, wrL_in, if_true, if_false, upd2_row, rowV_over, q2]
  · intro rec
    unfold tw_shutsBy_F48
    simp (disch := omega) only [tw_shutsBy_B48, L_add, L_addR, L_mul, L_mulR, L_div, N_div, N_rem, L_sub, L_subN, nI_add, nI_mul, L_le, L_leR, L_lt, L_ltR, L_eq, N_leT, N_leF, N_ltT, N_ltF, N_eqT, N_eqF, N_m1, bnd_S, un2_S, un3_S, nmI_S, nmL_S, ptI_S, cs2_L, cs2_R, okI_b, okI_1, okI_0, rdI_in, wrI_in, rdI_L, wrI_L, rdL_in, wrL_in, if_true, if_false]
theorem tw_add_1 {i : Nat} (hs : s < 4) (hN : N ≤ 60) (h36 : V 36 s = nI N) (hi : i < N) (h1 : V 1 = w) (hg : pGood w) (h18 : pNp w < 18) (h0 : 0 < pNp w) (hb : ¬ ((set >>> (nI i &&& 31)) &&& 1) = 0) (rec : Int32 × g_V → Option g_V) : tw_shutsBy_F7 (nI s) set nn' L2 rec (nI i, V) = rec (nI (i + 1), rowV V 1 (pAdd w (L2 38 (60 * s + i)).toInt32)) := by
  have h2 : V 1 2 = nI (pNp w) := by rw [h1]; exact hg.2.1.1
  have e624 : (624 : Int32) + 6 * nI (pNp w) = nI (624 + 6 * pNp w) := by rw [L_mul, L_add]
  have row : upd (upd (upd (upd (upd (fun j => if 624 + 6 * pNp w ≤ j ∧ j < 624 + 6 * pNp w + 6 then 0 else V 1 j) (624 + 6 * pNp w) (L2 38 (60 * s + i)).toInt32) (624 + 6 * pNp w + 1) (V 1 625)) (624 + 6 * pNp w + 2) (V 1 626)) (624 + 6 * pNp w + 3) 1) 2 (nI (pNp w + 1)) = pAdd w (L2 38 (60 * s + i)).toInt32 := by
    subst h1
    funext j
    unfold pAdd
    by_cases j2 : j = 2
    · rw [j2, upd_eq, if_pos rfl]
    · rw [upd_ne j2, if_neg j2]
      by_cases hc : 624 + 6 * pNp (V 1) ≤ j ∧ j < 624 + 6 * pNp (V 1) + 6
      · rw [if_pos hc]
        by_cases a0 : j = 624 + 6 * pNp (V 1)
        · rw [if_pos a0, a0, upd_ne (by omega), upd_ne (by omega), upd_ne (by omega), upd_eq]
        · rw [if_neg a0]
          by_cases a1 : j = 624 + 6 * pNp (V 1) + 1
          · rw [if_pos a1, a1, upd_ne (by omega), upd_ne (by omega), upd_eq]
          · rw [if_neg a1]
            by_cases a2 : j = 624 + 6 * pNp (V 1) + 2
            · rw [if_pos a2, a2, upd_ne (by omega), upd_eq]
            · rw [if_neg a2]
              by_cases a3 : j = 624 + 6 * pNp (V 1) + 3
              · rw [if_pos a3, a3, upd_eq]
              · rw [if_neg a3, upd_ne a3, upd_ne a2, upd_ne a1, upd_ne a0, if_pos hc]
      · rw [if_neg hc, upd_ne (by omega), upd_ne (by omega), upd_ne (by omega), upd_ne (by omega), if_neg hc]
  unfold tw_shutsBy_F7
  simp (disch := omega) only [tw_shutsBy_B7, L_leR, L_le, N_leF, N_leT, bnd_S, un2_S, un3_S, nmI_S, nmL_S, ptI_S, cs2_L, cs2_R, okI_b, okI_1, okI_0, rdI_in, wrI_in, rdI_L, wrI_L, rdL_in, wrL_in, if_true, if_false, h36, hb, h2, tw_zero, L_mul, L_add, L_addR, nI_add, upd2_row, rowV_eq, rowV_over]
  have c1 : ¬ (624 + 6 * pNp w ≤ 625 ∧ 625 < 624 + 6 * pNp w + 6) := by omega
  have c2 : ¬ (624 + 6 * pNp w ≤ 626 ∧ 626 < 624 + 6 * pNp w + 6) := by omega
  have c3 : ¬ (624 + 6 * pNp w ≤ 2 ∧ 2 < 624 + 6 * pNp w + 6) := by omega
  simp (disch := omega) only [upd_ne, c1, c2, c3, if_false, h2, L_addR, row]
end AT
