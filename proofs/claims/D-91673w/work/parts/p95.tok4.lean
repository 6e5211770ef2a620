/-! PURE: a text is read: words -/
set_option maxRecDepth 100000
/-- strings lie apart -/
def gpI (gp : Nat → Nat) : Prop := ∀ i j, i < 24 → j < 24 → gp i = gp j → i = j
theorem zSt_eq {α : Type} {gp : Nat → Nat} {w : Nat} {k : Nat → Option α} (h : gpI gp) (hw : w < 24) : zSt gp (gp w) k = k w := by
  unfold zSt
  have e : (List.range 24).find? (fun v => gp v == gp w) = some w := by
    rw [List.find?_eq_some_iff_getElem]
    refine ⟨by simp, w, by simpa using hw, by simp, fun j hj => ?_⟩
    have : j < 24 := by omega
    simp only [List.getElem_range]
    cases hb : (gp j == gp w) with
    | false => rfl
    | true =>
      exfalso
      have := h j w (by omega) hw (eq_of_beq hb)
      omega
  rw [e]
theorem stLen_6 : ∀ w : Fin 24, stLen.getD w.val 0 ≤ 6 := by decide
/-- what holds while a text is read -/
def RW (Sh : g_Sh) (V : g_V) (r tp ms bg : Nat) (V2 : g_V) (sz : Nat) : Prop := RdO Sh r tp ms bg ∧ RdT Sh V r tp (V2 5) ∧ V r 3 = nI sz ∧ V2 0 8 = nI sz ∧ sz ≤ 700 ∧ V2 0 13 = 0 ∧ TkR sz (V r) (V2 0)
/-- the reader alone, and the reference's token, changed -/
def Tst (r : Nat) (V V' V2 V2' : g_V) : Prop := (∀ a, a ≠ r → V' a = V a) ∧ (∀ j, (j < 4 ∨ 8 < j) → V' r j = V r j) ∧ (∀ a, a ≠ 0 → V2' a = V2 a) ∧ ∀ j, (j < 9 ∨ 12 < j) → V2' 0 j = V2 0 j
section TK4
variable {Sh : g_Sh} {V V' V'' : g_V} {L : g_L} {n r tp ms bg sz w : Nat} {V2 V2' V2'' : g_V} {gp : Nat → Nat}
theorem Tst_rf : Tst r V V V2 V2 := ⟨fun _ _ => rfl, fun _ _ => rfl, fun _ _ => rfl, fun _ _ => rfl⟩
theorem Tst_tr (h : Tst r V V' V2 V2') (h' : Tst r V' V'' V2' V2'') : Tst r V V'' V2 V2'' := ⟨fun a ha => (h'.1 a ha).trans (h.1 a ha), fun j hj => (h'.2.1 j hj).trans (h.2.1 j hj), fun a ha => (h'.2.2.1 a ha).trans (h.2.2.1 a ha), fun j hj => (h'.2.2.2 j hj).trans (h.2.2.2 j hj)⟩
theorem t_next (h : RW Sh V r tp ms bg V2 sz) : ∃ V' V2', cm_X3_next (Sh, V, L, n) r = some (Sh, V', L, n) ∧ tw_step V2 = some V2' ∧ Tst r V V' V2 V2' ∧ RW Sh V' r tp ms bg V2' sz := by
  obtain ⟨h1, h2, h3, h4, h5, h6, h7⟩ := h
  have h7' := h7
  obtain ⟨a, f, t, -, k2, -, k4, k9, -⟩ := h7'
  obtain ⟨R, R2, e1, e2, e3, e4, e5⟩ := tok_next (L := L) (n := n) h1 h2 h3 h4 k4 k9 k2 h5
  rw [rowV_self] at e1 e2
  refine ⟨rowV V r R, rowV V2 0 R2, e1, e2, ⟨fun a ha => rowV_ne ha, fun j hj => by rw [rowV_eq]; exact e4 j hj, fun a ha => rowV_ne ha, fun j hj => by rw [rowV_eq]; exact e5 j hj⟩, h1, ?_, by rw [rowV_eq, e4 3 (by omega)]; exact h3, by rw [rowV_eq, e5 8 (by omega)]; exact h4, h5, by rw [rowV_eq, e5 13 (by omega)]; exact h6, by rw [rowV_eq, rowV_eq]; exact e3⟩
  obtain ⟨b1, b2, b3, b4⟩ := h2
  exact ⟨b1, fun i hi => by rw [rowV_ne b3, rowV_ne (by omega)]; exact b2 i hi, b3, by rw [rowV_ne (by omega)]; exact b4⟩
theorem is_end0 {F : ((Int32 × Int32) → Option Int32) → Int32 × Int32 → Option Int32} (h : ∀ rec, F rec (0, 0) = some 0) : lp F 1000 (0, 0) = some 0 := by
  rw [show (1000 : Nat) = 999 + 1 from rfl, lp_s, h]
theorem t_is (h : RW Sh V r tp ms bg V2 sz) (hg : gpI gp) (hw : w < 24) : ∃ b, cm_X3_is gp (Sh, V, L, n) r (gp w) = some (b2i b) ∧ tw_is w V2 = some (b2i b) := by
  obtain ⟨h1, h2, h3, h4, h5, h6, h7⟩ := h
  obtain ⟨a, f, t, k1, k2, k3, k4, k9, k5, k7, k10, k6, k11, -, -⟩ := h7
  obtain ⟨b1, b2, b3, b4⟩ := h2
  have len := stLen_6 ⟨w, hw⟩
  dsimp only at len
  have sl : stL w = nI (stLen.getD w 0) := rfl
  have z0 : cm_X3_is_J28 gp r (gp w) (Sh, V, L, n) = some (b2i false) := by
    unfold cm_X3_is_J28 cm_X3_is_J29 cm_X3_is_L32
    rw [is_end0]
    · rfl
    · intro rec
      unfold cm_X3_is_F32 cm_X3_is_B32
      simp only [zSt_eq hg hw]
      split
      · rfl
      · rfl
  have y0 : tw_is_J35 w V2 = some (b2i false) := by
    unfold tw_is_J35 tw_is_J36 tw_is_L39
    rw [is_end0]
    · rfl
    · intro rec
      unfold tw_is_F39 tw_is_B39
      dsimp only
      split
      · rfl
      · rfl
  unfold cm_X3_is tw_is tw_good
  have z1 : ¬ (1 : Int32) = 0 := by decide
  simp (disch := omega) only [zSh_T, zV_T, zL_T, zn_T, r_I h1, k6, k11, k4, k5, k9, k10, h6, if_true, bnd_S, z1, if_false, zSt_eq hg hw, L_subN, sl]
  by_cases t1 : nI t = 1
  · rw [if_pos t1, if_pos t1]
    by_cases e : nI (a - f) = nI (stLen.getD w 0)
    · rw [if_pos e, if_pos e]
      have e' : a - f = stLen.getD w 0 := (nI_eq (by omega) (by omega)).mp e
      obtain ⟨o, o', s1, s2, b, rfl, rfl⟩ := lp_sim (F := cm_X3_is_F32 gp r (gp w) (Sh, V, L, n)) (F' := tw_is_F39 V2 w) (N := stLen.getD w 0) (P := fun o o' => ∃ b, o = b2i b ∧ o' = b2i b) (fun i s s' => ∃ b, s = (b2i b, nI i) ∧ s' = (b2i b, nI i)) (by
        intro i s s' hi hs
        obtain ⟨b, rfl, rfl⟩ := hs
        unfold cm_X3_is_F32 tw_is_F39
        by_cases hl : i < stLen.getD w 0
        · cases b with
          | false =>
            left
            refine ⟨b2i false, b2i false, fun rec => ?_, fun rec => ?_, false, rfl, rfl⟩
            · simp (disch := omega) only [cm_X3_is_B32, zSt_eq hg hw, sl, N_leF, if_false, b2iF, if_true]
            · simp (disch := omega) only [tw_is_B39, sl, N_leF, if_false, b2iF, if_true]
          | true =>
            right
            refine ⟨hl, (b2i (decide (V2 5 (f + i) = stC w i)), nI (i + 1)), (b2i (decide (V2 5 (f + i) = stC w i)), nI (i + 1)), fun rec => ?_, fun rec => ?_, _, rfl, rfl⟩
            · simp (disch := omega) only [cm_X3_is_B32, zSt_eq hg hw, sl, N_leF, if_false, b2iF, Bool.true_eq_false, zSh_T, zV_T, zL_T, zn_T, r_tp h1, r_I h1, k5, nI_add, caI_eq b1, b2, rdI_in, L_addR, nmI_S]
              by_cases c : V2 5 (f + i) = stC w i
              · rw [if_pos c, decide_eq_true c]; rfl
              · rw [if_neg c, decide_eq_false c]; rfl
            · simp (disch := omega) only [tw_is_B39, sl, N_leF, if_false, b2iF, Bool.true_eq_false, k10, nI_add, rdI_in, L_addR, nmI_S]
              by_cases c : V2 5 (f + i) = stC w i
              · rw [if_pos c, decide_eq_true c]; rfl
              · rw [if_neg c, decide_eq_false c]; rfl
        · left
          have : i = stLen.getD w 0 := by omega
          refine ⟨b2i b, b2i b, fun rec => ?_, fun rec => ?_, b, rfl, rfl⟩
          · simp (disch := omega) only [cm_X3_is_B32, zSt_eq hg hw, sl, N_leT, if_true]
          · simp (disch := omega) only [tw_is_B39, sl, N_leT, if_true]) 1000 1000 0 (b2i true, nI 0) (b2i true, nI 0) (by omega) (by omega) (by omega) ⟨true, rfl, rfl⟩
      refine ⟨b, ?_, ?_⟩
      · unfold cm_X3_is_J29 cm_X3_is_L32
        have s1 : lp (cm_X3_is_F32 gp r (gp w) (Sh, V, L, n)) 1000 (1, 0) = some (b2i b) := s1
        rw [s1, bnd_S, okI_b]
      · unfold tw_is_J36 tw_is_L39
        have s2 : lp (tw_is_F39 V2 w) 1000 (1, 0) = some (b2i b) := s2
        rw [s2, bnd_S, okI_b]
    · rw [if_neg e, if_neg e]
      exact ⟨false, z0, y0⟩
  · rw [if_neg t1, if_neg t1]
    exact ⟨false, z0, y0⟩
theorem t_takes (h : RW Sh V r tp ms bg V2 sz) (hg : gpI gp) (hw : w < 24) : ∃ b V' V2', cm_X3_takes gp (Sh, V, L, n) r (gp w) = some (b2i b, (Sh, V', L, n)) ∧ tw_takes w V2 = some (b2i b, V2') ∧ Tst r V V' V2 V2' ∧ RW Sh V' r tp ms bg V2' sz := by
  obtain ⟨b, e1, e2⟩ := t_is (L := L) (n := n) h hg hw
  have h1 := h.1
  unfold cm_X3_takes tw_takes
  simp only [r_K h1, e1, e2, bnd_S, b2iF, okI_b]
  cases b with
  | false => exact ⟨false, V, V2, rfl, rfl, Tst_rf, h⟩
  | true =>
    obtain ⟨V', V2', s1, s2, s3, s4⟩ := t_next (L := L) (n := n) h
    simp only [Bool.true_eq_false, if_false, s1, s2, bnd_S]
    exact ⟨true, V', V2', rfl, rfl, s3, s4⟩
end TK4
