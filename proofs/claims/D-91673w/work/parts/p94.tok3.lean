/-! PURE: a text is read: the next token, both sides -/
set_option maxRecDepth 100000
section LPT
variable {V2 : g_V} {a b sz : Nat} {R2 : Nat → Int32}
theorem tw_sp (hT : byT (V2 5)) (h8 : R2 8 = nI sz) (h9 : R2 9 = nI a) (hab : a ≤ b) (hb : b ≤ sz) (hs : sz ≤ 700) (hsp : ∀ j, a ≤ j → j < b → kc (V2 5) j = 32 ∨ kc (V2 5) j = 10) (he : b < sz → ¬ (kc (V2 5) b = 32 ∨ kc (V2 5) b = 10)) : ∃ R', tw_step_L0 1000 (rowV V2 0 R2) = some (rowV V2 0 R') ∧ R' 9 = nI b ∧ ∀ j, j ≠ 9 → R' j = R2 j := by
  have hr' := lp_rel (F := tw_step_F0) (N := b - a) (P := fun out => ∃ R', out = rowV V2 0 R' ∧ R' 9 = nI b ∧ ∀ j, j ≠ 9 → R' j = R2 j) (fun i s => ∃ R', s = rowV V2 0 R' ∧ R' 9 = nI (a + i) ∧ ∀ j, j ≠ 9 → R' j = R2 j) ?_ ?_ 1000 0 (rowV V2 0 R2) (by omega) (by omega) ⟨R2, rfl, h9, fun _ _ => rfl⟩
  · obtain ⟨out, e1, R', rfl, e2⟩ := hr'
    exact ⟨R', e1, e2⟩
  · intro i s hi hs2
    obtain ⟨R', rfl, q1, q2⟩ := hs2
    have q3 : R' 8 = nI sz := (q2 8 (by omega)).trans h8
    have se := tw_see_eq (V2 := V2) (a := a + i) hT q3 (by omega) hs
    have k := (kc_all hT (show a + i < 700 by omega)).1
    rw [if_pos (by omega)] at se
    refine ⟨rowV V2 0 (upd R' 9 (nI (a + i + 1))), fun rec => ?_, upd R' 9 (nI (a + i + 1)), rfl, upd_eq _ _ _, fun j hj => by rw [upd_ne hj]; exact q2 j hj⟩
    unfold tw_step_F0
    simp (disch := omega) only [tw_step_B0, rowV_eq, q1, se, bnd_S, L_eq, N_eq, ptI_S, upd2_row, rowV_over, L_addR]
    rcases hsp (a + i) (by omega) (by omega) with h | h
    · rw [if_pos h]
    · rw [if_neg (by omega), if_pos h]
  · intro s hs2
    obtain ⟨R', rfl, q1, q2⟩ := hs2
    rw [show a + (b - a) = b by omega] at q1
    have q3 : R' 8 = nI sz := (q2 8 (by omega)).trans h8
    have se := tw_see_eq (V2 := V2) (a := b) hT q3 (by omega) hs
    refine ⟨_, fun rec => ?_, R', rfl, q1, q2⟩
    unfold tw_step_F0
    by_cases hl : b < sz
    · have k := (kc_all hT (show b < 700 by omega)).1
      rw [if_pos hl] at se
      have := he hl
      simp (disch := omega) only [tw_step_B0, rowV_eq, q1, se, bnd_S, L_eq, N_eq]
      rw [if_neg (by omega), if_neg (by omega)]
    · rw [if_neg hl] at se
      simp (disch := omega) only [tw_step_B0, rowV_eq, q1, se, bnd_S, show ¬ (-1 : Int32) = 32 by decide, show ¬ (-1 : Int32) = 10 by decide, if_false]
theorem tw_le (hT : byT (V2 5)) (h8 : R2 8 = nI sz) (h9 : R2 9 = nI a) (hab : a ≤ b) (hb : b ≤ sz) (hs : sz ≤ 700) (hsp : ∀ j, a ≤ j → j < b → isC (V2 5) sz 97 122 j = true) (he : isC (V2 5) sz 97 122 b = false) : ∃ R', tw_step_L83 1000 (rowV V2 0 R2) = some (rowV V2 0 R') ∧ R' 9 = nI b ∧ ∀ j, j ≠ 9 → R' j = R2 j := by
  have hr' := lp_rel (F := tw_step_F83) (N := b - a) (P := fun out => ∃ R', out = rowV V2 0 R' ∧ R' 9 = nI b ∧ ∀ j, j ≠ 9 → R' j = R2 j) (fun i s => ∃ R', s = rowV V2 0 R' ∧ R' 9 = nI (a + i) ∧ ∀ j, j ≠ 9 → R' j = R2 j) ?_ ?_ 1000 0 (rowV V2 0 R2) (by omega) (by omega) ⟨R2, rfl, h9, fun _ _ => rfl⟩
  · obtain ⟨out, e1, R', rfl, e2⟩ := hr'
    exact ⟨R', e1, e2⟩
  · intro i s hi hs2
    obtain ⟨R', rfl, q1, q2⟩ := hs2
    have q3 : R' 8 = nI sz := (q2 8 (by omega)).trans h8
    have se := tw_see_eq (V2 := V2) (a := a + i) hT q3 (by omega) hs
    have si := tw_see_in (V2 := V2) (a := a + i) (sz := sz) (l := 97) (h := 122) (lo := 97) (hi := 122) hT (by omega) hs (by decide) (by decide)
    rw [hsp (a + i) (by omega) (by omega)] at si
    refine ⟨rowV V2 0 (upd R' 9 (nI (a + i + 1))), fun rec => ?_, upd R' 9 (nI (a + i + 1)), rfl, upd_eq _ _ _, fun j hj => by rw [upd_ne hj]; exact q2 j hj⟩
    unfold tw_step_F83
    simp (disch := omega) only [tw_step_B83, rowV_eq, q1, se, bnd_S, si, b2iF, Bool.true_eq_false, if_false, ptI_S, upd2_row, rowV_over, L_addR]
  · intro s hs2
    obtain ⟨R', rfl, q1, q2⟩ := hs2
    rw [show a + (b - a) = b by omega] at q1
    have q3 : R' 8 = nI sz := (q2 8 (by omega)).trans h8
    have se := tw_see_eq (V2 := V2) (a := b) hT q3 (by omega) hs
    have si := tw_see_in (V2 := V2) (a := b) (sz := sz) (l := 97) (h := 122) (lo := 97) (hi := 122) hT (by omega) hs (by decide) (by decide)
    rw [he] at si
    refine ⟨_, fun rec => ?_, R', rfl, q1, q2⟩
    unfold tw_step_F83
    simp (disch := omega) only [tw_step_B83, rowV_eq, q1, se, bnd_S, si, b2iF, if_true]
theorem tw_di (hT : byT (V2 5)) (h8 : R2 8 = nI sz) (h9 : R2 9 = nI a) (h12 : R2 12 = nI 0) (hab : a ≤ b) (hb : b ≤ sz) (hs : sz ≤ 700) (hsp : ∀ j, a ≤ j → j < b → isC (V2 5) sz 48 57 j = true) (he : isC (V2 5) sz 48 57 b = false) : ∃ R', tw_step_L144 1000 (rowV V2 0 R2) = some (rowV V2 0 R') ∧ R' 9 = nI b ∧ R' 12 = nI (vN 999999 (V2 5) a (b - a)) ∧ ∀ j, j ≠ 9 → j ≠ 12 → R' j = R2 j := by
  have hr' := lp_rel (F := tw_step_F144) (N := b - a) (P := fun out => ∃ R', out = rowV V2 0 R' ∧ R' 9 = nI b ∧ R' 12 = nI (vN 999999 (V2 5) a (b - a)) ∧ ∀ j, j ≠ 9 → j ≠ 12 → R' j = R2 j) (fun i s => ∃ R', s = rowV V2 0 R' ∧ R' 9 = nI (a + i) ∧ R' 12 = nI (vN 999999 (V2 5) a i) ∧ ∀ j, j ≠ 9 → j ≠ 12 → R' j = R2 j) ?_ ?_ 1000 0 (rowV V2 0 R2) (by omega) (by omega) ⟨R2, rfl, h9, h12, fun _ _ _ => rfl⟩
  · obtain ⟨out, e1, R', rfl, e2⟩ := hr'
    exact ⟨R', e1, e2⟩
  · intro i s hi hs2
    obtain ⟨R', rfl, q1, q12, q2⟩ := hs2
    have q3 : R' 8 = nI sz := (q2 8 (by omega) (by omega)).trans h8
    have se := tw_see_eq (V2 := V2) (a := a + i) hT q3 (by omega) hs
    have si := tw_see_in (V2 := V2) (a := a + i) (sz := sz) (l := 48) (h := 57) (lo := 48) (hi := 57) hT (by omega) hs (by decide) (by decide)
    have hc := hsp (a + i) (by omega) (by omega)
    rw [hc] at si
    have hc2 := of_decide_eq_true hc
    rw [if_pos (by omega)] at se si
    have le := vN_le 999999 (V2 5) a i
    have hv : (if ((10 * nI (vN 999999 (V2 5) a i) + nI (kc (V2 5) (a + i))) - 48) < 999999 then ((10 * nI (vN 999999 (V2 5) a i) + nI (kc (V2 5) (a + i))) - 48) else 999999) = nI (vN 999999 (V2 5) a (i + 1)) := by
      simp (disch := omega) only [L_mul, nI_add, L_sub, L_subN, L_ltR]
      by_cases c : 10 * vN 999999 (V2 5) a i + kc (V2 5) (a + i) - 48 < 999999
      · rw [if_pos (by rw [N_lt (by omega) (by omega)]; exact c)]
        congr 1
        show _ = min (10 * vN 999999 (V2 5) a i + (kc (V2 5) (a + i) - 48)) 999999
        omega
      · rw [if_neg (by rw [N_lt (by omega) (by omega)]; exact c)]
        show nI 999999 = nI (min (10 * vN 999999 (V2 5) a i + (kc (V2 5) (a + i) - 48)) 999999)
        congr 1
        omega
    refine ⟨rowV V2 0 (upd (upd R' 12 (nI (vN 999999 (V2 5) a (i + 1)))) 9 (nI (a + i + 1))), fun rec => ?_, _, rfl, upd_eq _ _ _, ?_, fun j hj hj8 => ?_⟩
    · unfold tw_step_F144
      simp (disch := omega) only [tw_step_B144, rowV_eq, q1, q12, se, bnd_S, si, b2iF, Bool.true_eq_false, if_false, nmI_S, hv, ptI_S, upd2_row, rowV_over, upd_ne, L_addR]
    · rw [upd_ne (by omega), upd_eq]
    · rw [upd_ne hj, upd_ne hj8]; exact q2 j hj hj8
  · intro s hs2
    obtain ⟨R', rfl, q1, q12, q2⟩ := hs2
    rw [show a + (b - a) = b by omega] at q1
    have q3 : R' 8 = nI sz := (q2 8 (by omega) (by omega)).trans h8
    have se := tw_see_eq (V2 := V2) (a := b) hT q3 (by omega) hs
    have si := tw_see_in (V2 := V2) (a := b) (sz := sz) (l := 48) (h := 57) (lo := 48) (hi := 57) hT (by omega) hs (by decide) (by decide)
    rw [he] at si
    refine ⟨_, fun rec => ?_, R', rfl, q1, q12, q2⟩
    unfold tw_step_F144
    simp (disch := omega) only [tw_step_B144, rowV_eq, q1, se, bnd_S, si, b2iF, if_true]
end LPT
/-- the token of both -/
def TkR (sz : Nat) (R R2 : Nat → Int32) : Prop := ∃ a f t, f ≤ a ∧ a ≤ sz ∧ t ≤ 4 ∧ R 4 = nI a ∧ R2 9 = nI a ∧ R 5 = nI f ∧ R 7 = nI f ∧ R2 10 = nI f ∧ R 6 = nI t ∧ R2 11 = nI t ∧ (t = 2 → ∃ y, y ≤ 999999 ∧ R2 12 = nI y ∧ R 8 = nI (min y 100000)) ∧ (t = 3 → R 8 = R2 12)
section NX
variable {Sh : g_Sh} {V : g_V} {L : g_L} {n r tp ms bg a sz : Nat} {V2 : g_V} {R R2 : Nat → Int32}
theorem isC_stop (T : Nat → Int32) (l h a sz : Nat) (ha : a ≤ sz) : ∃ b, a ≤ b ∧ b ≤ sz ∧ (∀ j, a ≤ j → j < b → isC T sz l h j = true) ∧ isC T sz l h b = false := by
  obtain ⟨K, k1, k2, k3⟩ := first_b (fun i => !isC T sz l h (a + i)) (sz - a)
  refine ⟨a + K, by omega, by omega, fun j h1 h2 => ?_, ?_⟩
  · have := k2 (j - a) (by omega)
    rw [show a + (j - a) = j by omega] at this
    cases hc : isC T sz l h j with
    | true => rfl
    | false => rw [hc] at this; exact Bool.noConfusion this
  · by_cases hK : K < sz - a
    · have := k3 hK
      cases hc : isC T sz l h (a + K) with
      | false => rfl
      | true => rw [hc] at this; exact Bool.noConfusion this
    · exact decide_eq_false (by omega)
theorem tok_next (hr : RdO Sh r tp ms bg) (ht : RdT Sh V r tp (V2 5)) (h3 : R 3 = nI sz) (h8 : R2 8 = nI sz) (h4 : R 4 = nI a) (h9 : R2 9 = nI a) (ha : a ≤ sz) (hs : sz ≤ 700) : ∃ R' R2', cm_X3_next (Sh, rowV V r R, L, n) r = some (Sh, rowV V r R', L, n) ∧ tw_step (rowV V2 0 R2) = some (rowV V2 0 R2') ∧ TkR sz R' R2' ∧ (∀ j, (j < 4 ∨ 8 < j) → R' j = R j) ∧ ∀ j, (j < 9 ∨ 12 < j) → R2' j = R2 j := by
  have hb : byT (V2 5) := ht.2.2.2
  -- spaces
  obtain ⟨K, k1, k2, k3⟩ := first_b (fun i => !(decide (kc (V2 5) (a + i) = 32 ∨ kc (V2 5) (a + i) = 10))) (sz - a)
  obtain ⟨b, rfl⟩ : ∃ b, b = a + K := ⟨_, rfl⟩
  have p1 : ∀ j, a ≤ j → j < a + K → kc (V2 5) j = 32 ∨ kc (V2 5) j = 10 := fun j h1 h2 => by
    have := k2 (j - a) (by omega)
    rw [show a + (j - a) = j by omega] at this
    exact of_decide_eq_true (by cases hd : decide (kc (V2 5) j = 32 ∨ kc (V2 5) j = 10) with
      | true => rfl
      | false => rw [hd] at this; exact Bool.noConfusion this)
  have p2 : a + K < sz → ¬ (kc (V2 5) (a + K) = 32 ∨ kc (V2 5) (a + K) = 10) := fun h => by
    have := k3 (by omega)
    simpa using this
  obtain ⟨A, a1, a2, a3⟩ := cm_sp (L := L) (n := n) hr ht h3 h4 (show a ≤ a + K by omega) (by omega) hs p1 p2
  obtain ⟨B, b1, b2, b3⟩ := tw_sp hb h8 h9 (show a ≤ a + K by omega) (by omega) hs p1 p2
  have A3 : A 3 = nI sz := (a3 3 (by omega)).trans h3
  have B8 : B 8 = nI sz := (b3 8 (by omega)).trans h8
  obtain ⟨b, hbb⟩ : ∃ b, b = a + K := ⟨_, rfl⟩
  rw [← hbb] at a2 b2 p1 p2
  have hbz : b ≤ sz := by omega
  unfold cm_X3_next tw_step
  rw [a1, b1, bnd_S, bnd_S]
  -- the row where the token begins
  obtain ⟨A1, eA1⟩ : ∃ A1, A1 = upd (upd (upd A 7 (nI b)) 5 (nI b)) 8 0 := ⟨_, rfl⟩
  obtain ⟨B1, eB1⟩ : ∃ B1, B1 = upd B 10 (nI b) := ⟨_, rfl⟩
  have A1j : ∀ j, (j < 5 ∨ 8 < j ∨ j = 6) → A1 j = A j := fun j hj => by rw [eA1, upd_ne (by omega), upd_ne (by omega), upd_ne (by omega)]
  have A15 : A1 5 = nI b := by rw [eA1, upd_ne (by omega), upd_eq]
  have A17 : A1 7 = nI b := by rw [eA1, upd_ne (by omega), upd_ne (by omega), upd_eq]
  have A18 : A1 8 = nI 0 := by rw [eA1, upd_eq]; rfl
  have A13 : A1 3 = nI sz := (A1j 3 (by omega)).trans A3
  have A14 : A1 4 = nI b := (A1j 4 (by omega)).trans a2
  have B1j : ∀ j, j ≠ 10 → B1 j = B j := fun j hj => by rw [eB1, upd_ne hj]
  have B110 : B1 10 = nI b := by rw [eB1, upd_eq]
  have B18 : B1 8 = nI sz := (B1j 8 (by omega)).trans B8
  have B19 : B1 9 = nI b := (B1j 9 (by omega)).trans b2
  have se := tw_see_eq (V2 := V2) (a := b) hb B18 hbz hs
  have si1 := tw_see_in (V2 := V2) (a := b) (sz := sz) (l := 97) (h := 122) (lo := 97) (hi := 122) hb hbz hs (by decide) (by decide)
  have si2 := tw_see_in (V2 := V2) (a := b) (sz := sz) (l := 48) (h := 57) (lo := 48) (hi := 57) hb hbz hs (by decide) (by decide)
  have ia1 : cm_X3_isAt (Sh, rowV V r A1, L, n) r 97 122 = some (b2i (isC (V2 5) sz 97 122 b)) := cm_isAt (l := 97) (h := 122) hr ht A13 A14 hbz hs (by omega) (by omega)
  have ia2 : cm_X3_isAt (Sh, rowV V r A1, L, n) r 48 57 = some (b2i (isC (V2 5) sz 48 57 b)) := cm_isAt (l := 48) (h := 57) hr ht A13 A14 hbz hs (by omega) (by omega)
  have frA : ∀ R' : Nat → Int32, (∀ j, (j < 4 ∨ 8 < j) → R' j = A1 j) → ∀ j, (j < 4 ∨ 8 < j) → R' j = R j := fun R' h j hj => by rw [h j hj, A1j j (by omega), a3 j (by omega)]
  have frB : ∀ R' : Nat → Int32, (∀ j, (j < 9 ∨ 12 < j) → R' j = B1 j) → ∀ j, (j < 9 ∨ 12 < j) → R' j = R2 j := fun R' h j hj => by rw [h j hj, B1j j (by omega), b3 j (by omega)]
  unfold cm_X3_next_J52
  simp (maxSteps := 1000000) (disch := omega) only [zSh_T, zV_T, zL_T, zn_T, r_I hr, r_P hr, rowV_eq, upd2_row, rowV_over, upd_ne, a2, A3, b2, ptI_S, ← eA1, ← eB1, A13, A14, B19, se, bnd_S]
  by_cases hl : b < sz
  · have k := (kc_all hb (show b < 700 by omega)).1
    rw [if_pos hl] at si1 si2
    simp (disch := omega) only [N_eqF, if_false, r_K hr, ia1, bnd_S, hl, if_true, N_m1, si1, b2iF]
    cases c1 : isC (V2 5) sz 97 122 b with
    | true =>
      obtain ⟨e, e1, e2, e3, e4⟩ := isC_stop (V2 5) 97 122 b sz hbz
      obtain ⟨C, d1, d2, d3⟩ := cm_le (L := L) (n := n) (R := upd A1 6 1) hr ht (by rw [upd_ne (by omega)]; exact A13) (by rw [upd_ne (by omega)]; exact A14) e1 e2 hs e3 e4
      obtain ⟨D, f1, f2, f3⟩ := tw_le (R2 := B1) hb B18 B19 e1 e2 hs e3 e4
      simp (disch := omega) only [Bool.true_eq_false, if_false, d1, f1, bnd_S, rowV_eq, rowV_over]
      refine ⟨C, upd D 11 1, rfl, rfl, ⟨e, b, 1, e1, e2, by omega, d2, ?_, ?_, ?_, ?_, ?_, ?_, fun h => by omega, fun h => by omega⟩, frA C (fun j hj => ?_), frB _ (fun j hj => ?_)⟩
      · rw [upd_ne (by omega)]; exact f2
      · rw [d3 5 (by omega), upd_ne (by omega)]; exact A15
      · rw [d3 7 (by omega), upd_ne (by omega)]; exact A17
      · rw [upd_ne (by omega), f3 10 (by omega)]; exact B110
      · rw [d3 6 (by omega), upd_eq]; rfl
      · rw [upd_eq]; rfl
      · rw [d3 j (by omega), upd_ne (by omega)]
      · rw [upd_ne (by omega), f3 j (by omega)]
    | false =>
      simp (disch := omega) only [if_true, ia2, bnd_S, b2iF, si2]
      cases c2 : isC (V2 5) sz 48 57 b with
      | true =>
        obtain ⟨e, e1, e2, e3, e4⟩ := isC_stop (V2 5) 48 57 b sz hbz
        obtain ⟨C, d1, d2, d8, d3⟩ := cm_di (L := L) (n := n) (R := upd A1 6 2) hr ht (by rw [upd_ne (by omega)]; exact A13) (by rw [upd_ne (by omega)]; exact A14) (by rw [upd_ne (by omega)]; exact A18) e1 e2 hs e3 e4
        obtain ⟨D, f1, f2, f12, f3⟩ := tw_di (R2 := upd B1 12 0) hb (by rw [upd_ne (by omega)]; exact B18) (by rw [upd_ne (by omega)]; exact B19) (by rw [upd_eq]; rfl) e1 e2 hs e3 e4
        simp (disch := omega) only [Bool.true_eq_false, if_false, d1, f1, bnd_S, rowV_eq, rowV_over]
        refine ⟨C, upd D 11 2, rfl, rfl, ⟨e, b, 2, e1, e2, by omega, d2, ?_, ?_, ?_, ?_, ?_, ?_, fun h => ⟨vN 999999 (V2 5) b (e - b), vN_le _ _ _ _, ?_, ?_⟩, fun h => by omega⟩, frA C (fun j hj => ?_), frB _ (fun j hj => ?_)⟩
        · rw [upd_ne (by omega)]; exact f2
        · rw [d3 5 (by omega) (by omega), upd_ne (by omega)]; exact A15
        · rw [d3 7 (by omega) (by omega), upd_ne (by omega)]; exact A17
        · rw [upd_ne (by omega), f3 10 (by omega) (by omega), upd_ne (by omega)]; exact B110
        · rw [d3 6 (by omega) (by omega), upd_eq]; rfl
        · rw [upd_eq]; rfl
        · rw [upd_ne (by omega)]; exact f12
        · rw [d8, vN_two]
        · rw [d3 j (by omega) (by omega), upd_ne (by omega)]
        · rw [upd_ne (by omega), f3 j (by omega) (by omega), upd_ne (by omega)]
      | false =>
        have vt : rowV V r A1 tp b = V2 5 b := by rw [rowV_ne ht.2.2.1]; exact ht.2.1 b (by omega)
        have e60 : (V2 5 b = 60) = (kc (V2 5) b = 60) := kc_eq (c := 60) hb (by omega) (by omega)
        have e62 : (V2 5 b = 62) = (kc (V2 5) b = 62) := kc_eq (c := 62) hb (by omega) (by omega)
        have e45 : (V2 5 b = 45) = (kc (V2 5) b = 45) := kc_eq (c := 45) hb (by omega) (by omega)
        have e59 : (V2 5 b = 59) = (kc (V2 5) b = 59) := kc_eq (c := 59) hb (by omega) (by omega)
        have goal : ∀ t, t = 3 ∨ t = 4 → (t = 3 → kc (V2 5) b < 128) → TkR sz (upd (upd (upd A1 8 (V2 5 b)) 6 (nI t)) 4 (nI (b + 1))) (upd (upd (upd B1 12 (nI (kc (V2 5) b))) 11 (nI t)) 9 (nI (b + 1))) ∧ (∀ j, (j < 4 ∨ 8 < j) → upd (upd (upd A1 8 (V2 5 b)) 6 (nI t)) 4 (nI (b + 1)) j = R j) ∧ ∀ j, (j < 9 ∨ 12 < j) → upd (upd (upd B1 12 (nI (kc (V2 5) b))) 11 (nI t)) 9 (nI (b + 1)) j = R2 j := by
          intro t ht4 hk
          refine ⟨⟨b + 1, b, t, by omega, by omega, by omega, ?_, ?_, ?_, ?_, ?_, ?_, ?_, fun h => by omega, fun h => ?_⟩, frA _ (fun j hj => ?_), frB _ (fun j hj => ?_)⟩
          · rw [upd_eq]
          · rw [upd_eq]
          · rw [upd_ne (by omega), upd_ne (by omega), upd_ne (by omega)]; exact A15
          · rw [upd_ne (by omega), upd_ne (by omega), upd_ne (by omega)]; exact A17
          · rw [upd_ne (by omega), upd_ne (by omega), upd_ne (by omega)]; exact B110
          · rw [upd_ne (by omega), upd_eq]
          · rw [upd_ne (by omega), upd_eq]
          · rw [upd_ne (by omega), upd_ne (by omega), upd_eq, upd_ne (by omega), upd_ne (by omega), upd_eq]
            exact kc_nI hb (by omega) (hk h)
          · rw [upd_ne (by omega), upd_ne (by omega), upd_ne (by omega)]
          · rw [upd_ne (by omega), upd_ne (by omega), upd_ne (by omega)]
        simp (disch := omega) only [if_true, r_tp hr, caI_eq ht.1, vt, upd_eq, upd_ne, A14, B19, e60, e62, e45, e59, L_eq, N_eq, L_addR]
        by_cases x60 : kc (V2 5) b = 60
        · simp only [x60, if_true]
          have g := goal 3 (by omega) (fun _ => by omega)
          rw [x60] at g
          exact ⟨_, _, rfl, rfl, g⟩
        · by_cases x62 : kc (V2 5) b = 62
          · simp only [x62, if_true, show ¬ (62 = 60) by omega, if_false]
            have g := goal 3 (by omega) (fun _ => by omega)
            rw [x62] at g
            exact ⟨_, _, rfl, rfl, g⟩
          · by_cases x45 : kc (V2 5) b = 45
            · simp only [x45, if_true, show ¬ (45 = 60) by omega, show ¬ (45 = 62) by omega, if_false]
              have g := goal 3 (by omega) (fun _ => by omega)
              rw [x45] at g
              exact ⟨_, _, rfl, rfl, g⟩
            · by_cases x59 : kc (V2 5) b = 59
              · simp only [x59, if_true, show ¬ (59 = 60) by omega, show ¬ (59 = 62) by omega, show ¬ (59 = 45) by omega, if_false]
                have g := goal 3 (by omega) (fun _ => by omega)
                rw [x59] at g
                exact ⟨_, _, rfl, rfl, g⟩
              · simp only [x60, x62, x45, x59, if_false]
                exact ⟨_, _, rfl, rfl, goal 4 (by omega) (fun h => by omega)⟩
  · have hbe : b = sz := by omega
    subst hbe
    simp (disch := omega) only [if_true, if_false, hl]
    refine ⟨upd A1 6 0, upd B1 11 0, rfl, rfl, ⟨b, b, 0, by omega, by omega, by omega, ?_, ?_, ?_, ?_, ?_, ?_, ?_, fun h => by omega, fun h => by omega⟩, frA _ (fun j hj => ?_), frB _ (fun j hj => ?_)⟩
    · rw [upd_ne (by omega)]; exact A14
    · rw [upd_ne (by omega)]; exact B19
    · rw [upd_ne (by omega)]; exact A15
    · rw [upd_ne (by omega)]; exact A17
    · rw [upd_ne (by omega)]; exact B110
    · rw [upd_eq]; rfl
    · rw [upd_eq]; rfl
    · rw [upd_ne (by omega)]
    · rw [upd_ne (by omega)]
end NX
