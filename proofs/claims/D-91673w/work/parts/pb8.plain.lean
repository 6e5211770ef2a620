/-! PURE: a row as without a text; a row begins -/
set_option maxRecDepth 100000
def plG (j : Nat) : Int32 := if j % 4 = 0 then 10 else if j % 4 = 1 then 15 else if j % 4 = 2 then 100 else 0
/-- a row as without a text -/
def plR (j : Nat) : Int32 := if j = 5 then 100 else if j = 6 then 99999 else if 20 ≤ j ∧ j < 36 then plG j else 0
/-- a row begins -/
def pBeg (w : Nat → Int32) : Nat → Int32 := fun j => if 192 ≤ j ∧ j < 336 then w 5 else if 336 ≤ j ∧ j < 624 then 0 else if 790 ≤ j ∧ j < 810 ∧ j % 2 = 0 then -1 else if 732 ≤ j ∧ j < 750 ∧ j % 3 = 2 then -1 else if j = 18 then 144 * w 5 else w j
theorem plR_0 {j : Nat} (h5 : j ≠ 5) (h6 : j ≠ 6) (hg : ¬ (20 ≤ j ∧ j < 36)) : plR j = 0 := by
  unfold plR
  rw [if_neg h5, if_neg h6, if_neg hg]
theorem plR_g {g i : Nat} (hg : g < 4) (hi : i < 4) : plR (20 + 4 * g + i) = if i = 0 then 10 else if i = 1 then 15 else if i = 2 then 100 else 0 := by
  unfold plR plG
  rw [if_neg (by omega), if_neg (by omega), if_pos (by omega), show (20 + 4 * g + i) % 4 = i by omega]
section PL
variable {V W : g_V} {j : Nat}
theorem tw_plain_eq : tw_plain j V = some (rowV V j (fun i => if i < 810 then plR i else V j i)) := by
  have l1 : tw_plain_L2 j 1000 0 V = some (rowV V j (fun i => if i < 810 then 0 else V j i)) := by
    have hr := lp_run (F := tw_plain_F2 j) (N := 810) (st := fun i => (nI i, rowV V j (fun y => if y < i then 0 else V j y))) (out := rowV V j (fun y => if y < 810 then 0 else V j y)) ?_ ?_ 1000 0 (by omega) (by omega)
    · have e0 : (fun y => if y < 0 then 0 else V j y) = V j := by funext y; exact if_neg (by omega)
      rw [e0, rowV_self, nI_0] at hr
      exact hr
    · intro rec i hi
      have q2 : upd (fun y => if y < i then 0 else V j y) i 0 = fun y => if y < i + 1 then 0 else V j y := by
        funext y
        by_cases e : y = i
        · subst e; rw [upd_eq, if_pos (by omega)]
        · rw [upd_ne e]
          by_cases c : y < i
          · rw [if_pos c, if_pos (by omega)]
          · rw [if_neg c, if_neg (by omega)]
      unfold tw_plain_F2
      simp (disch := omega) only [tw_plain_B2, L_add, L_addR, L_mul, L_mulR, L_div, N_div, N_rem, L_sub, L_subN, nI_add, nI_mul, L_le, L_leR, L_lt, L_ltR, L_eq, N_leT, N_leF, N_ltT, N_ltF, N_eqT, N_eqF, N_m1, bnd_S, un2_S, un3_S, nmI_S, nmL_S, ptI_S, cs2_L, cs2_R, okI_b, okI_1, okI_0, rdI_in, wrI_in, rdI_L, wrI_L, rdL_in, wrL_in, if_true, if_false, upd2_row, rowV_eq, rowV_over, q2]
    · intro rec
      unfold tw_plain_F2
      simp (disch := omega) only [tw_plain_B2, L_add, L_addR, L_mul, L_mulR, L_div, N_div, N_rem, L_sub, L_subN, nI_add, nI_mul, L_le, L_leR, L_lt, L_ltR, L_eq, N_leT, N_leF, N_ltT, N_ltF, N_eqT, N_eqF, N_m1, bnd_S, un2_S, un3_S, nmI_S, nmL_S, ptI_S, cs2_L, cs2_R, okI_b, okI_1, okI_0, rdI_in, wrI_in, rdI_L, wrI_L, rdL_in, wrL_in, if_true, if_false]
  have l2 : ∀ f : Nat → Int32, tw_plain_L32 j 1000 0 (rowV V j f) = some (rowV V j (fun y => if 20 ≤ y ∧ y < 36 then plG y else f y)) := by
    intro f
    have hr := lp_run (F := tw_plain_F32 j) (N := 4) (st := fun i => (nI i, rowV V j (fun y => if 20 ≤ y ∧ y < 20 + 4 * i then plG y else f y))) (out := rowV V j (fun y => if 20 ≤ y ∧ y < 36 then plG y else f y)) ?_ ?_ 1000 0 (by omega) (by omega)
    · have e0 : (fun y => if 20 ≤ y ∧ y < 20 + 4 * 0 then plG y else f y) = f := by funext y; exact if_neg (by omega)
      rw [e0, nI_0] at hr
      exact hr
    · intro rec i hi
      have q2 : upd (upd (upd (upd (fun y => if 20 ≤ y ∧ y < 20 + 4 * i then plG y else f y) (20 + 4 * i) 10) (20 + 4 * i + 1) 15) (20 + 4 * i + 2) 100) (20 + 4 * i + 3) 0 = fun y => if 20 ≤ y ∧ y < 20 + 4 * (i + 1) then plG y else f y := by
        funext y
        by_cases e3 : y = 20 + 4 * i + 3
        · subst e3; rw [upd_eq, if_pos (by omega)]; unfold plG; rw [if_neg (by omega), if_neg (by omega), if_neg (by omega)]
        rw [upd_ne e3]
        by_cases e2 : y = 20 + 4 * i + 2
        · subst e2; rw [upd_eq, if_pos (by omega)]; unfold plG; rw [if_neg (by omega), if_neg (by omega), if_pos (by omega)]
        rw [upd_ne e2]
        by_cases e1 : y = 20 + 4 * i + 1
        · subst e1; rw [upd_eq, if_pos (by omega)]; unfold plG; rw [if_neg (by omega), if_pos (by omega)]
        rw [upd_ne e1]
        by_cases e0 : y = 20 + 4 * i
        · subst e0; rw [upd_eq, if_pos (by omega)]; unfold plG; rw [if_pos (by omega)]
        rw [upd_ne e0]
        by_cases c : 20 ≤ y ∧ y < 20 + 4 * i
        · rw [if_pos c, if_pos (by omega)]
        · rw [if_neg c, if_neg (by omega)]
      unfold tw_plain_F32
      simp (disch := omega) only [tw_plain_B32, tw_groundAtFirst, L_add, L_addR, L_mul, L_mulR, L_div, N_div, N_rem, L_sub, L_subN, nI_add, nI_mul, L_le, L_leR, L_lt, L_ltR, L_eq, N_leT, N_leF, N_ltT, N_ltF, N_eqT, N_eqF, N_m1, bnd_S, un2_S, un3_S, nmI_S, nmL_S, ptI_S, cs2_L, cs2_R, okI_b, okI_1, okI_0, rdI_in, wrI_in, rdI_L, wrI_L, rdL_in, wrL_in, if_true, if_false, upd2_row, rowV_eq, rowV_over, q2]
    · intro rec
      unfold tw_plain_F32
      simp (disch := omega) only [tw_plain_B32, L_add, L_addR, L_mul, L_mulR, L_div, N_div, N_rem, L_sub, L_subN, nI_add, nI_mul, L_le, L_leR, L_lt, L_ltR, L_eq, N_leT, N_leF, N_ltT, N_ltF, N_eqT, N_eqF, N_m1, bnd_S, un2_S, un3_S, nmI_S, nmL_S, ptI_S, cs2_L, cs2_R, okI_b, okI_1, okI_0, rdI_in, wrI_in, rdI_L, wrI_L, rdL_in, wrL_in, if_true, if_false]
  unfold tw_plain
  rw [l1]
  simp (disch := omega) only [bnd_S, wrI_L, wrI_in, upd2_row, rowV_eq, rowV_over, l2]
  have e : (fun y => if 20 ≤ y ∧ y < 36 then plG y else upd (upd (fun i => if i < 810 then 0 else V j i) 5 100) 6 99999 y) = fun i => if i < 810 then plR i else V j i := by
    funext y
    unfold plR
    by_cases c : 20 ≤ y ∧ y < 36
    · rw [if_pos c, if_pos (by omega), if_neg (by omega), if_neg (by omega), if_pos c]
    rw [if_neg c]
    by_cases c6 : y = 6
    · subst c6; rw [upd_eq, if_pos (by omega), if_neg (by omega), if_pos rfl]
    rw [upd_ne c6]
    by_cases c5 : y = 5
    · subst c5; rw [upd_eq, if_pos (by omega), if_pos rfl]
    rw [upd_ne c5]
    by_cases c8 : y < 810
    · rw [if_pos c8, if_pos c8, if_neg c5, if_neg c6, if_neg c]
    · rw [if_neg c8, if_neg c8]
  rw [e]
theorem pHeat_c {w : Nat → Int32} {x : Int32} (h1 : ∀ c, c < 144 → w (192 + c) = x) (h2 : ∀ c, c < 144 → w (336 + c) = 0) (h3 : ∀ c, c < 144 → w (480 + c) = 0) : pHeat w = 144 * x := by
  unfold pHeat
  have : ∀ n, n ≤ 144 → itr (fun c (a : Int32) => a + (if pDug w c = true then 0 else w (192 + c) - w (336 + c))) 0 n = nI n * x := by
    intro n
    induction n with
    | zero => intro _; rw [itr_0, nI_0, Int32.zero_mul]
    | succ n ih =>
      intro hn
      have d : pDug w n = false := by unfold pDug; rw [h3 n (by omega)]; rfl
      rw [itr_s, ih (by omega), d, if_neg (by decide), h1 n (by omega), h2 n (by omega), Int32.sub_zero, show nI (n + 1) = nI n + 1 from (nI_add n 1).symm, Int32.add_mul, Int32.one_mul]
  exact this 144 (by omega)
theorem tw_begins_eq : tw_begins V = some (rowV V 1 (pBeg (V 1))) := by
  have l1 : tw_begins_L2 1000 0 V = some (rowV V 1 (fun y => if 192 ≤ y ∧ y < 336 then V 1 5 else if 336 ≤ y ∧ y < 624 then 0 else V 1 y)) := by
    have hr := lp_run (F := tw_begins_F2) (N := 144) (st := fun i => (nI i, rowV V 1 (fun y => if 192 ≤ y ∧ y < 192 + i then V 1 5 else if (336 ≤ y ∧ y < 336 + i) ∨ (480 ≤ y ∧ y < 480 + i) then 0 else V 1 y))) (out := rowV V 1 (fun y => if 192 ≤ y ∧ y < 336 then V 1 5 else if 336 ≤ y ∧ y < 624 then 0 else V 1 y)) ?_ ?_ 1000 0 (by omega) (by omega)
    · have e0 : (fun y => if 192 ≤ y ∧ y < 192 + 0 then V 1 5 else if (336 ≤ y ∧ y < 336 + 0) ∨ (480 ≤ y ∧ y < 480 + 0) then 0 else V 1 y) = V 1 := by
        funext y
        rw [if_neg (by omega), if_neg (by omega)]
      rw [e0, rowV_self, nI_0] at hr
      exact hr
    · intro rec i hi
      have r5 : (if 192 ≤ 5 ∧ 5 < 192 + i then V 1 5 else if (336 ≤ 5 ∧ 5 < 336 + i) ∨ (480 ≤ 5 ∧ 5 < 480 + i) then 0 else V 1 5) = V 1 5 := by rw [if_neg (by omega), if_neg (by omega)]
      have q2 : upd (upd (upd (fun y => if 192 ≤ y ∧ y < 192 + i then V 1 5 else if (336 ≤ y ∧ y < 336 + i) ∨ (480 ≤ y ∧ y < 480 + i) then 0 else V 1 y) (192 + i) (V 1 5)) (336 + i) 0) (480 + i) 0 = fun y => if 192 ≤ y ∧ y < 192 + (i + 1) then V 1 5 else if (336 ≤ y ∧ y < 336 + (i + 1)) ∨ (480 ≤ y ∧ y < 480 + (i + 1)) then 0 else V 1 y := by
        funext y
        by_cases e2 : y = 480 + i
        · subst e2; rw [upd_eq, if_neg (by omega), if_pos (by omega)]
        rw [upd_ne e2]
        by_cases e1 : y = 336 + i
        · subst e1; rw [upd_eq, if_neg (by omega), if_pos (by omega)]
        rw [upd_ne e1]
        by_cases e0 : y = 192 + i
        · subst e0; rw [upd_eq, if_pos (by omega)]
        rw [upd_ne e0]
        by_cases c : 192 ≤ y ∧ y < 192 + i
        · rw [if_pos c, if_pos (by omega)]
        rw [if_neg c, if_neg (show ¬ (192 ≤ y ∧ y < 192 + (i + 1)) by omega)]
        by_cases d : (336 ≤ y ∧ y < 336 + i) ∨ (480 ≤ y ∧ y < 480 + i)
        · rw [if_pos d, if_pos (by omega)]
        · rw [if_neg d, if_neg (by omega)]
      unfold tw_begins_F2
      simp (disch := omega) only [tw_begins_B2, L_add, L_addR, L_mul, L_mulR, L_div, N_div, N_rem, L_sub, L_subN, nI_add, nI_mul, L_le, L_leR, L_lt, L_ltR, L_eq, N_leT, N_leF, N_ltT, N_ltF, N_eqT, N_eqF, N_m1, bnd_S, un2_S, un3_S, nmI_S, nmL_S, ptI_S, cs2_L, cs2_R, okI_b, okI_1, okI_0, rdI_in, wrI_in, rdI_L, wrI_L, rdL_in, wrL_in, if_true, if_false, upd2_row, rowV_eq, rowV_over, r5, q2]
    · intro rec
      unfold tw_begins_F2
      have q3 : (fun y => if 192 ≤ y ∧ y < 192 + 144 then V 1 5 else if (336 ≤ y ∧ y < 336 + 144) ∨ (480 ≤ y ∧ y < 480 + 144) then 0 else V 1 y) = fun y => if 192 ≤ y ∧ y < 336 then V 1 5 else if 336 ≤ y ∧ y < 624 then 0 else V 1 y := by
        funext y
        by_cases c : 192 ≤ y ∧ y < 336
        · rw [if_pos (by omega), if_pos c]
        rw [if_neg (by omega), if_neg c]
        by_cases d : 336 ≤ y ∧ y < 624
        · rw [if_pos (by omega), if_pos d]
        · rw [if_neg (by omega), if_neg d]
      rw [← q3]
      simp (disch := omega) only [tw_begins_B2, L_add, L_addR, L_mul, L_mulR, L_div, N_div, N_rem, L_sub, L_subN, nI_add, nI_mul, L_le, L_leR, L_lt, L_ltR, L_eq, N_leT, N_leF, N_ltT, N_ltF, N_eqT, N_eqF, N_m1, bnd_S, un2_S, un3_S, nmI_S, nmL_S, ptI_S, cs2_L, cs2_R, okI_b, okI_1, okI_0, rdI_in, wrI_in, rdI_L, wrI_L, rdL_in, wrL_in, if_true, if_false]
  have l2 : ∀ f : Nat → Int32, tw_begins_L55 1000 0 (rowV V 1 f) = some (rowV V 1 (fun y => if 790 ≤ y ∧ y < 810 ∧ y % 2 = 0 then -1 else f y)) := by
    intro f
    have hr := lp_run (F := tw_begins_F55) (N := 10) (st := fun i => (nI i, rowV V 1 (fun y => if 790 ≤ y ∧ y < 790 + 2 * i ∧ y % 2 = 0 then -1 else f y))) (out := rowV V 1 (fun y => if 790 ≤ y ∧ y < 810 ∧ y % 2 = 0 then -1 else f y)) ?_ ?_ 1000 0 (by omega) (by omega)
    · have e0 : (fun y => if 790 ≤ y ∧ y < 790 + 2 * 0 ∧ y % 2 = 0 then -1 else f y) = f := by funext y; exact if_neg (by omega)
      rw [e0, nI_0] at hr
      exact hr
    · intro rec i hi
      have q2 : upd (fun y => if 790 ≤ y ∧ y < 790 + 2 * i ∧ y % 2 = 0 then -1 else f y) (790 + 2 * i) (-1) = fun y => if 790 ≤ y ∧ y < 790 + 2 * (i + 1) ∧ y % 2 = 0 then -1 else f y := by
        funext y
        by_cases e0 : y = 790 + 2 * i
        · subst e0; rw [upd_eq, if_pos (by omega)]
        rw [upd_ne e0]
        by_cases c : 790 ≤ y ∧ y < 790 + 2 * i ∧ y % 2 = 0
        · rw [if_pos c, if_pos (by omega)]
        · rw [if_neg c, if_neg (by omega)]
      unfold tw_begins_F55
      simp (disch := omega) only [tw_begins_B55, L_add, L_addR, L_mul, L_mulR, L_div, N_div, N_rem, L_sub, L_subN, nI_add, nI_mul, L_le, L_leR, L_lt, L_ltR, L_eq, N_leT, N_leF, N_ltT, N_ltF, N_eqT, N_eqF, N_m1, bnd_S, un2_S, un3_S, nmI_S, nmL_S, ptI_S, cs2_L, cs2_R, okI_b, okI_1, okI_0, rdI_in, wrI_in, rdI_L, wrI_L, rdL_in, wrL_in, if_true, if_false, upd2_row, rowV_eq, rowV_over, q2]
    · intro rec
      unfold tw_begins_F55
      simp (disch := omega) only [tw_begins_B55, L_add, L_addR, L_mul, L_mulR, L_div, N_div, N_rem, L_sub, L_subN, nI_add, nI_mul, L_le, L_leR, L_lt, L_ltR, L_eq, N_leT, N_leF, N_ltT, N_ltF, N_eqT, N_eqF, N_m1, bnd_S, un2_S, un3_S, nmI_S, nmL_S, ptI_S, cs2_L, cs2_R, okI_b, okI_1, okI_0, rdI_in, wrI_in, rdI_L, wrI_L, rdL_in, wrL_in, if_true, if_false]
  have l3 : ∀ f : Nat → Int32, tw_begins_L82 1000 0 (rowV V 1 f) = some (rowV V 1 (fun y => if 732 ≤ y ∧ y < 750 ∧ y % 3 = 2 then -1 else f y)) := by
    intro f
    have hr := lp_run (F := tw_begins_F82) (N := 6) (st := fun i => (nI i, rowV V 1 (fun y => if 732 ≤ y ∧ y < 732 + 3 * i ∧ y % 3 = 2 then -1 else f y))) (out := rowV V 1 (fun y => if 732 ≤ y ∧ y < 750 ∧ y % 3 = 2 then -1 else f y)) ?_ ?_ 1000 0 (by omega) (by omega)
    · have e0 : (fun y => if 732 ≤ y ∧ y < 732 + 3 * 0 ∧ y % 3 = 2 then -1 else f y) = f := by funext y; exact if_neg (by omega)
      rw [e0, nI_0] at hr
      exact hr
    · intro rec i hi
      have q2 : upd (fun y => if 732 ≤ y ∧ y < 732 + 3 * i ∧ y % 3 = 2 then -1 else f y) (732 + 3 * i + 2) (-1) = fun y => if 732 ≤ y ∧ y < 732 + 3 * (i + 1) ∧ y % 3 = 2 then -1 else f y := by
        funext y
        by_cases e0 : y = 732 + 3 * i + 2
        · subst e0; rw [upd_eq, if_pos (by omega)]
        rw [upd_ne e0]
        by_cases c : 732 ≤ y ∧ y < 732 + 3 * i ∧ y % 3 = 2
        · rw [if_pos c, if_pos (by omega)]
        · rw [if_neg c, if_neg (by omega)]
      unfold tw_begins_F82
      simp (disch := omega) only [tw_begins_B82, L_add, L_addR, L_mul, L_mulR, L_div, N_div, N_rem, L_sub, L_subN, nI_add, nI_mul, L_le, L_leR, L_lt, L_ltR, L_eq, N_leT, N_leF, N_ltT, N_ltF, N_eqT, N_eqF, N_m1, bnd_S, un2_S, un3_S, nmI_S, nmL_S, ptI_S, cs2_L, cs2_R, okI_b, okI_1, okI_0, rdI_in, wrI_in, rdI_L, wrI_L, rdL_in, wrL_in, if_true, if_false, upd2_row, rowV_eq, rowV_over, q2]
    · intro rec
      unfold tw_begins_F82
      simp (disch := omega) only [tw_begins_B82, L_add, L_addR, L_mul, L_mulR, L_div, N_div, N_rem, L_sub, L_subN, nI_add, nI_mul, L_le, L_leR, L_lt, L_ltR, L_eq, N_leT, N_leF, N_ltT, N_ltF, N_eqT, N_eqF, N_m1, bnd_S, un2_S, un3_S, nmI_S, nmL_S, ptI_S, cs2_L, cs2_R, okI_b, okI_1, okI_0, rdI_in, wrI_in, rdI_L, wrI_L, rdL_in, wrL_in, if_true, if_false]
  unfold tw_begins
  rw [l1, bnd_S, l2, bnd_S, l3, bnd_S, tw_heatNow_eq, bnd_S]
  have hh : pHeat (rowV V 1 (fun y => if 732 ≤ y ∧ y < 750 ∧ y % 3 = 2 then -1 else (fun y => if 790 ≤ y ∧ y < 810 ∧ y % 2 = 0 then -1 else (fun y => if 192 ≤ y ∧ y < 336 then V 1 5 else if 336 ≤ y ∧ y < 624 then 0 else V 1 y) y) y) 1) = 144 * V 1 5 := by
    apply pHeat_c
    · intro c hc
      rw [rowV_eq, if_neg (by omega)]
      dsimp only
      rw [if_neg (by omega), if_pos (by omega)]
    · intro c hc
      rw [rowV_eq, if_neg (by omega)]
      dsimp only
      rw [if_neg (by omega), if_neg (by omega), if_pos (by omega)]
    · intro c hc
      rw [rowV_eq, if_neg (by omega)]
      dsimp only
      rw [if_neg (by omega), if_neg (by omega), if_pos (by omega)]
  rw [hh]
  simp (disch := omega) only [wrI_L, wrI_in, upd2_row, rowV_eq, rowV_over]
  refine congrArg some (congrArg (rowV V 1) (funext fun y => ?_))
  unfold pBeg
  by_cases e : y = 18
  · subst e
    rw [upd_eq, if_neg (by omega), if_neg (by omega), if_neg (by omega), if_neg (by omega), if_pos rfl]
  rw [upd_ne e]
  by_cases c1 : 192 ≤ y ∧ y < 336
  · have d3 : ¬ (790 ≤ y ∧ y < 810 ∧ y % 2 = 0) := by omega
    have d4 : ¬ (732 ≤ y ∧ y < 750 ∧ y % 3 = 2) := by omega
    simp only [if_pos c1, if_neg d3, if_neg d4]
  by_cases c2 : 336 ≤ y ∧ y < 624
  · have d3 : ¬ (790 ≤ y ∧ y < 810 ∧ y % 2 = 0) := by omega
    have d4 : ¬ (732 ≤ y ∧ y < 750 ∧ y % 3 = 2) := by omega
    simp only [if_neg c1, if_pos c2, if_neg d3, if_neg d4]
  by_cases c3 : 790 ≤ y ∧ y < 810 ∧ y % 2 = 0
  · have d4 : ¬ (732 ≤ y ∧ y < 750 ∧ y % 3 = 2) := by omega
    simp only [if_neg c1, if_neg c2, if_pos c3, if_neg d4]
  by_cases c4 : 732 ≤ y ∧ y < 750 ∧ y % 3 = 2
  · simp only [if_neg c1, if_neg c2, if_neg c3, if_pos c4]
  · simp only [if_neg c1, if_neg c2, if_neg c3, if_neg c4, if_neg e]
end PL
