/-! PURE: a text is read: the next token -/
set_option maxRecDepth 100000
/-- a number read so far -/
def vN (cap : Nat) (T : Nat → Int32) (b : Nat) : Nat → Nat
  | 0 => 0
  | i + 1 => min (10 * vN cap T b i + (kc T (b + i) - 48)) cap
theorem vN_le (cap : Nat) (T : Nat → Int32) (b i : Nat) : vN cap T b i ≤ cap := by
  cases i with
  | zero => exact Nat.zero_le _
  | succ i => exact Nat.min_le_right _ _
theorem vN_two (T : Nat → Int32) (b i : Nat) : vN 100000 T b i = min (vN 999999 T b i) 100000 := by
  induction i with
  | zero => rfl
  | succ i ih =>
    show min (10 * vN 100000 T b i + _) 100000 = min (min (10 * vN 999999 T b i + _) 999999) 100000
    rw [ih]
    omega
section LPC
variable {Sh : g_Sh} {V : g_V} {L : g_L} {n r tp ms bg a b sz : Nat} {T R : Nat → Int32}
theorem cm_sp (hr : RdO Sh r tp ms bg) (ht : RdT Sh V r tp T) (h3 : R 3 = nI sz) (h4 : R 4 = nI a) (hab : a ≤ b) (hb : b ≤ sz) (hs : sz ≤ 700) (hsp : ∀ j, a ≤ j → j < b → kc T j = 32 ∨ kc T j = 10) (he : b < sz → ¬ (kc T b = 32 ∨ kc T b = 10)) : ∃ R', cm_X3_next_L0 r 1000 (Sh, rowV V r R, L, n) = some (Sh, rowV V r R', L, n) ∧ R' 4 = nI b ∧ ∀ j, j ≠ 4 → R' j = R j := by
  obtain ⟨t1, t2, t3, t4⟩ := ht
  have v : ∀ R i, i < 700 → rowV V r R tp i = T i := fun R i hi => by rw [rowV_ne t3]; exact t2 i hi
  have hr' := lp_rel (F := cm_X3_next_F0 r) (N := b - a) (P := fun out => ∃ R', out = (Sh, rowV V r R', L, n) ∧ R' 4 = nI b ∧ ∀ j, j ≠ 4 → R' j = R j) (fun i s => ∃ R', s = (Sh, rowV V r R', L, n) ∧ R' 4 = nI (a + i) ∧ ∀ j, j ≠ 4 → R' j = R j) ?_ ?_ 1000 0 (Sh, rowV V r R, L, n) (by omega) (by omega) ⟨R, rfl, h4, fun _ _ => rfl⟩
  · obtain ⟨out, e1, R', rfl, e2⟩ := hr'
    exact ⟨R', e1, e2⟩
  · intro i s hi hs
    obtain ⟨R', rfl, q1, q2⟩ := hs
    have q3 : R' 3 = nI sz := (q2 3 (by omega)).trans h3
    refine ⟨(Sh, rowV V r (upd R' 4 (nI (a + i + 1))), L, n), fun rec => ?_, upd R' 4 (nI (a + i + 1)), rfl, upd_eq _ _ _, fun j hj => by rw [upd_ne hj]; exact q2 j hj⟩
    have e32 : (T (a + i) = 32) = (kc T (a + i) = 32) := kc_eq (c := 32) t4 (by omega) (by omega)
    have e10 : (T (a + i) = 10) = (kc T (a + i) = 10) := kc_eq (c := 10) t4 (by omega) (by omega)
    unfold cm_X3_next_F0
    simp (disch := omega) only [cm_X3_next_B0, zSh_T, zV_T, zL_T, zn_T, r_I hr, rowV_eq, q1, q3, N_leF, if_false, r_tp hr, caI_eq t1, v, e32, e10, r_P hr, upd2_row, rowV_over, L_addR]
    rcases hsp (a + i) (by omega) (by omega) with h | h
    · rw [if_pos h]
    · rw [if_neg (by omega), if_pos h]
  · intro s hs
    obtain ⟨R', rfl, q1, q2⟩ := hs
    rw [show a + (b - a) = b by omega] at q1
    have q3 : R' 3 = nI sz := (q2 3 (by omega)).trans h3
    refine ⟨_, fun rec => ?_, R', rfl, q1, q2⟩
    unfold cm_X3_next_F0
    by_cases hl : b < sz
    · have e32 : (T b = 32) = (kc T b = 32) := kc_eq (c := 32) t4 (by omega) (by omega)
      have e10 : (T b = 10) = (kc T b = 10) := kc_eq (c := 10) t4 (by omega) (by omega)
      have := he hl
      simp (disch := omega) only [cm_X3_next_B0, zSh_T, zV_T, zL_T, zn_T, r_I hr, rowV_eq, q1, q3, N_leF, if_false, r_tp hr, caI_eq t1, v, e32, e10]
      rw [if_neg (by omega), if_neg (by omega)]
    · simp (disch := omega) only [cm_X3_next_B0, zSh_T, zV_T, zL_T, zn_T, r_I hr, rowV_eq, q1, q3, N_leT, if_true]
theorem cm_le (hr : RdO Sh r tp ms bg) (ht : RdT Sh V r tp T) (h3 : R 3 = nI sz) (h4 : R 4 = nI a) (hab : a ≤ b) (hb : b ≤ sz) (hs : sz ≤ 700) (hsp : ∀ j, a ≤ j → j < b → isC T sz 97 122 j = true) (he : isC T sz 97 122 b = false) : ∃ R', cm_X3_next_L108 r 1000 (Sh, rowV V r R, L, n) = some (Sh, rowV V r R', L, n) ∧ R' 4 = nI b ∧ ∀ j, j ≠ 4 → R' j = R j := by
  have hr' := lp_rel (F := cm_X3_next_F108 r) (N := b - a) (P := fun out => ∃ R', out = (Sh, rowV V r R', L, n) ∧ R' 4 = nI b ∧ ∀ j, j ≠ 4 → R' j = R j) (fun i s => ∃ R', s = (Sh, rowV V r R', L, n) ∧ R' 4 = nI (a + i) ∧ ∀ j, j ≠ 4 → R' j = R j) ?_ ?_ 1000 0 (Sh, rowV V r R, L, n) (by omega) (by omega) ⟨R, rfl, h4, fun _ _ => rfl⟩
  · obtain ⟨out, e1, R', rfl, e2⟩ := hr'
    exact ⟨R', e1, e2⟩
  · intro i s hi hs2
    obtain ⟨R', rfl, q1, q2⟩ := hs2
    have q3 : R' 3 = nI sz := (q2 3 (by omega)).trans h3
    have ia : cm_X3_isAt (Sh, rowV V r R', L, n) r 97 122 = some (b2i (isC T sz 97 122 (a + i))) := cm_isAt (l := 97) (h := 122) hr ht q3 q1 (by omega) hs (by omega) (by omega)
    rw [hsp (a + i) (by omega) (by omega)] at ia
    refine ⟨(Sh, rowV V r (upd R' 4 (nI (a + i + 1))), L, n), fun rec => ?_, upd R' 4 (nI (a + i + 1)), rfl, upd_eq _ _ _, fun j hj => by rw [upd_ne hj]; exact q2 j hj⟩
    unfold cm_X3_next_F108
    simp (disch := omega) only [cm_X3_next_B108, zSh_T, zV_T, zL_T, zn_T, r_K hr, ia, bnd_S, b2iF, Bool.true_eq_false, if_false, r_I hr, rowV_eq, q1, r_P hr, upd2_row, rowV_over, L_addR]
  · intro s hs2
    obtain ⟨R', rfl, q1, q2⟩ := hs2
    rw [show a + (b - a) = b by omega] at q1
    have q3 : R' 3 = nI sz := (q2 3 (by omega)).trans h3
    have ia : cm_X3_isAt (Sh, rowV V r R', L, n) r 97 122 = some (b2i (isC T sz 97 122 b)) := cm_isAt (l := 97) (h := 122) hr ht q3 q1 (by omega) hs (by omega) (by omega)
    rw [he] at ia
    refine ⟨_, fun rec => ?_, R', rfl, q1, q2⟩
    unfold cm_X3_next_F108
    simp (disch := omega) only [cm_X3_next_B108, r_K hr, ia, bnd_S, b2iF, if_true]
theorem cm_di (hr : RdO Sh r tp ms bg) (ht : RdT Sh V r tp T) (h3 : R 3 = nI sz) (h4 : R 4 = nI a) (h8 : R 8 = nI 0) (hab : a ≤ b) (hb : b ≤ sz) (hs : sz ≤ 700) (hsp : ∀ j, a ≤ j → j < b → isC T sz 48 57 j = true) (he : isC T sz 48 57 b = false) : ∃ R', cm_X3_next_L148 r 1000 (Sh, rowV V r R, L, n) = some (Sh, rowV V r R', L, n) ∧ R' 4 = nI b ∧ R' 8 = nI (vN 100000 T a (b - a)) ∧ ∀ j, j ≠ 4 → j ≠ 8 → R' j = R j := by
  have ht' := ht
  obtain ⟨t1, t2, t3, t4⟩ := ht'
  have v : ∀ R i, i < 700 → rowV V r R tp i = T i := fun R i hi => by rw [rowV_ne t3]; exact t2 i hi
  have hr' := lp_rel (F := cm_X3_next_F148 r) (N := b - a) (P := fun out => ∃ R', out = (Sh, rowV V r R', L, n) ∧ R' 4 = nI b ∧ R' 8 = nI (vN 100000 T a (b - a)) ∧ ∀ j, j ≠ 4 → j ≠ 8 → R' j = R j) (fun i s => ∃ R', s = (Sh, rowV V r R', L, n) ∧ R' 4 = nI (a + i) ∧ R' 8 = nI (vN 100000 T a i) ∧ ∀ j, j ≠ 4 → j ≠ 8 → R' j = R j) ?_ ?_ 1000 0 (Sh, rowV V r R, L, n) (by omega) (by omega) ⟨R, rfl, h4, h8, fun _ _ _ => rfl⟩
  · obtain ⟨out, e1, R', rfl, e2⟩ := hr'
    exact ⟨R', e1, e2⟩
  · intro i s hi hs2
    obtain ⟨R', rfl, q1, q8, q2⟩ := hs2
    have q3 : R' 3 = nI sz := (q2 3 (by omega) (by omega)).trans h3
    have ia : cm_X3_isAt (Sh, rowV V r R', L, n) r 48 57 = some (b2i (isC T sz 48 57 (a + i))) := cm_isAt (l := 48) (h := 57) hr ht q3 q1 (by omega) hs (by omega) (by omega)
    have hc := hsp (a + i) (by omega) (by omega)
    rw [hc] at ia
    have hc2 := of_decide_eq_true hc
    have hT : T (a + i) = nI (kc T (a + i)) := kc_nI t4 (by omega) (by omega)
    have le := vN_le 100000 T a i
    have hv : (if ((10 * nI (vN 100000 T a i) + T (a + i)) - 48) < 100000 then ((10 * nI (vN 100000 T a i) + T (a + i)) - 48) else 100000) = nI (vN 100000 T a (i + 1)) := by
      rw [hT]
      simp (disch := omega) only [L_mul, nI_add, L_sub, L_subN, L_ltR]
      by_cases c : 10 * vN 100000 T a i + kc T (a + i) - 48 < 100000
      · rw [if_pos (by rw [N_lt (by omega) (by omega)]; exact c)]
        congr 1
        show _ = min (10 * vN 100000 T a i + (kc T (a + i) - 48)) 100000
        omega
      · rw [if_neg (by rw [N_lt (by omega) (by omega)]; exact c)]
        show nI 100000 = nI (min (10 * vN 100000 T a i + (kc T (a + i) - 48)) 100000)
        congr 1
        omega
    refine ⟨(Sh, rowV V r (upd (upd R' 8 (nI (vN 100000 T a (i + 1)))) 4 (nI (a + i + 1))), L, n), fun rec => ?_, _, rfl, upd_eq _ _ _, ?_, fun j hj hj8 => ?_⟩
    · unfold cm_X3_next_F148
      simp (disch := omega) only [cm_X3_next_B148, zSh_T, zV_T, zL_T, zn_T, r_K hr, ia, bnd_S, b2iF, Bool.true_eq_false, if_false, r_I hr, rowV_eq, q1, q8, r_tp hr, caI_eq t1, v, nmI_S, hv, r_P hr, upd2_row, rowV_over, upd_ne, L_addR]
    · rw [upd_ne (by omega), upd_eq]
    · rw [upd_ne hj, upd_ne hj8]; exact q2 j hj hj8
  · intro s hs2
    obtain ⟨R', rfl, q1, q8, q2⟩ := hs2
    rw [show a + (b - a) = b by omega] at q1
    have q3 : R' 3 = nI sz := (q2 3 (by omega) (by omega)).trans h3
    have ia : cm_X3_isAt (Sh, rowV V r R', L, n) r 48 57 = some (b2i (isC T sz 48 57 b)) := cm_isAt (l := 48) (h := 57) hr ht q3 q1 (by omega) hs (by omega) (by omega)
    rw [he] at ia
    refine ⟨_, fun rec => ?_, R', rfl, q1, q8, q2⟩
    unfold cm_X3_next_F148
    simp (disch := omega) only [cm_X3_next_B148, r_K hr, ia, bnd_S, b2iF, if_true]
end LPC
