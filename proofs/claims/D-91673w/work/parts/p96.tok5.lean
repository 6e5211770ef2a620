/-! PURE: a text is read: failing, numbers -/
set_option maxRecDepth 100000
/-- a Wrong was made -/
def Wr (Sh : g_Sh) (V : g_V) (L : g_L) (n r : Nat) (Z' : c_S) (x : Nat) (k f : Int32) : Prop := (∃ rf, Z'.Sh x = some (d_obj 9 8 rf) ∧ rf 6 = none ∧ rf 7 = none) ∧ Z'.V x 6 = k ∧ Z'.V x 7 = f ∧ n ≤ x ∧ n ≤ Z'.n ∧ ∀ a, a < n → Z'.Sh a = Sh a ∧ (a ≠ r → Z'.V a = V a) ∧ Z'.L a = L a
/-- both failed -/
def Fl {α : Type} (Sh : g_Sh) (V : g_V) (L : g_L) (n r : Nat) (V2 : g_V) (c : Option (α ⊕ (Nat × c_S))) (V2' : g_V) : Prop := ∃ x Z' k f, c = some (.inr (x, Z')) ∧ Wr Sh V L n r Z' x k f ∧ V2' 0 13 = k ∧ V2' 0 14 = f ∧ ¬ k = 0 ∧ (∀ a, a ≠ 0 → V2' a = V2 a) ∧ ∀ j, (j < 9 ∨ 14 < j) → V2' 0 j = V2 0 j
def O0 (Sh : g_Sh) (V : g_V) (L : g_L) (n r tp ms bg : Nat) (V2 : g_V) (sz : Nat) (c : Option (c_S ⊕ (Nat × c_S))) (t : Option g_V) : Prop := (∃ V' V2', c = some (.inl (Sh, V', L, n)) ∧ t = some V2' ∧ Tst r V V' V2 V2' ∧ RW Sh V' r tp ms bg V2' sz) ∨ ∃ V2', Fl Sh V L n r V2 c V2' ∧ t = some V2'
def O1 (Sh : g_Sh) (V : g_V) (L : g_L) (n r tp ms bg : Nat) (V2 : g_V) (sz : Nat) (P : Int32 → Prop) (c : Option ((Int32 × c_S) ⊕ (Nat × c_S))) (t : Option (Int32 × g_V)) : Prop := (∃ v V' V2', c = some (.inl (v, (Sh, V', L, n))) ∧ t = some (v, V2') ∧ P v ∧ Tst r V V' V2 V2' ∧ RW Sh V' r tp ms bg V2' sz) ∨ ∃ V2', Fl Sh V L n r V2 c V2' ∧ t = some (0, V2')
section DEAD
variable {V2 : g_V} {w : Nat}
theorem d_good (h : ¬ V2 0 13 = 0) : tw_good V2 = some 0 := if_neg h
theorem d_is (h : ¬ V2 0 13 = 0) : tw_is w V2 = some 0 := by
  have y0 : tw_is_J35 w V2 = some 0 := by
    unfold tw_is_J35 tw_is_J36 tw_is_L39
    rw [is_end0]
    · rfl
    · intro rec
      unfold tw_is_F39 tw_is_B39
      dsimp only
      split
      · rfl
      · rfl
  unfold tw_is
  rw [d_good h, bnd_S, if_pos rfl, y0]
theorem d_takes (h : ¬ V2 0 13 = 0) : tw_takes w V2 = some (0, V2) := by
  unfold tw_takes
  rw [d_is h, bnd_S, if_pos rfl]; rfl
theorem d_wrong (h : ¬ V2 0 13 = 0) (k : Int32) : tw_wrong V2 k = some V2 := by
  unfold tw_wrong
  rw [d_good h, bnd_S, if_pos rfl]
theorem d_needs (h : ¬ V2 0 13 = 0) : tw_needs w V2 = some V2 := by
  unfold tw_needs
  rw [d_takes h, bnd_S, un2_S, if_pos rfl, d_wrong h, bnd_S]
theorem d_sign (h : ¬ V2 0 13 = 0) (k : Int32) : tw_isSign V2 k = some 0 := by
  unfold tw_isSign
  rw [d_good h, bnd_S, if_pos rfl]
theorem d_J47 (h : ¬ V2 0 13 = 0) : tw_number_J47 V2 = some (0, V2) := by
  unfold tw_number_J47
  rw [d_good h, bnd_S, if_pos rfl]
theorem d_J20 (h : ¬ V2 0 13 = 0) (a b : Int32) : tw_number_J20 a b V2 = some (0, V2) := by
  unfold tw_number_J20
  rw [d_good h, bnd_S, if_pos rfl, d_J47 h]
theorem d_number (h : ¬ V2 0 13 = 0) (a b : Int32) : tw_number V2 a b = some (0, V2) := by
  unfold tw_number
  rw [d_good h, bnd_S, if_pos rfl, d_J20 h]
theorem d_told (h : ¬ V2 0 13 = 0) (a b : Int32) : tw_told w V2 a b = some (0, V2) := by
  unfold tw_told
  rw [d_needs h, bnd_S, d_number h, bnd_S, un2_S]
theorem d_below (h : ¬ V2 0 13 = 0) (a : Int32) : tw_below w V2 a = some (0, V2) := by
  unfold tw_below
  rw [d_needs h, bnd_S, d_sign h, bnd_S, if_pos rfl]
  unfold tw_below_J20
  rw [if_pos rfl, d_number h, bnd_S, un2_S]
end DEAD
section TK5
variable {α : Type} {Sh : g_Sh} {V V' V'' : g_V} {L : g_L} {n r tp ms bg sz w : Nat} {V2 V2' V2'' : g_V} {gp : Nat → Nat}
theorem Fl_dead {c : Option (α ⊕ (Nat × c_S))} (h : Fl Sh V L n r V2 c V2') : ¬ V2' 0 13 = 0 := by
  obtain ⟨x, Z', k, f, -, -, h1, -, h2, -⟩ := h
  rw [h1]; exact h2
theorem Fl_tr {c : Option (α ⊕ (Nat × c_S))} (h : Tst r V V' V2 V2') (hf : Fl Sh V' L n r V2' c V2'') : Fl Sh V L n r V2 c V2'' := by
  obtain ⟨x, Z', k, f, h1, ⟨w1, w2, w3, w4, w5, w6⟩, h3, h4, h5, h6, h7⟩ := hf
  refine ⟨x, Z', k, f, h1, ⟨w1, w2, w3, w4, w5, fun a ha => ⟨(w6 a ha).1, fun hr => ((w6 a ha).2.1 hr).trans (h.1 a hr), (w6 a ha).2.2⟩⟩, h3, h4, h5, fun a ha => (h6 a ha).trans (h.2.2.1 a ha), fun j hj => (h7 j hj).trans (h.2.2.2 j (by omega))⟩
theorem t_fail {k : Int32} (h : RW Sh V r tp ms bg V2 sz) (hr : r < n) (hk : ¬ k = 0) : ∃ x Z' V2', cm_X3_fails gp (Sh, V, L, n) r k = some (.inr (x, Z')) ∧ tw_wrong V2 k = some V2' ∧ ∀ (β : Type) (c : Option (β ⊕ (Nat × c_S))), c = some (.inr (x, Z')) → Fl Sh V L n r V2 c V2' := by
  obtain ⟨h1, h2, h3, h4, h5, h6, h7⟩ := h
  obtain ⟨a, f, t, k1, k2, k3, k4, k9, k5, k7, k10, -⟩ := h7
  have e0 : updS Sh n (d_obj 9 8 (zrf tyX9)) n = some (d_obj 9 8 (zrf tyX9)) := updS_eq
  have hne : r ≠ n := by omega
  have hr' : RdO (updS Sh n (d_obj 9 8 (zrf tyX9))) r tp ms bg := by
    obtain ⟨rf, q1, q2⟩ := h1
    exact ⟨rf, by rw [updS_ne hne]; exact q1, q2⟩
  have vr : rowV V n (fun _ => 0) r 7 = nI f := by rw [rowV_ne hne]; exact k7
  have z1 : ¬ (1 : Int32) = 0 := by decide
  have ex : ∃ Sh' rf', cm_J11_init_3 gp (updS Sh n (d_obj 9 8 (zrf tyX9)), rowV V n (fun _ => 0), L, n + 1) n none none 0 0 = some (Sh', rowV V n (fun _ => 0), L, n + 1) ∧ Sh' n = some (d_obj 9 8 rf') ∧ rf' 6 = none ∧ rf' 7 = none ∧ ∀ b, b ≠ n → Sh' b = Sh b := by
    unfold cm_J11_init_3
    rw [zPR_T e0 rfl, zPR_T updS_eq rfl, zPR_T updS_eq rfl, if_pos rfl, zPR_T updS_eq rfl, zPR_T updS_eq rfl, zPR_T updS_eq rfl, if_pos rfl, zPR_T updS_eq rfl]
    refine ⟨_, _, rfl, updS_eq, rfl, rfl, fun b hb => ?_⟩
    rw [updS_ne hb, updS_ne hb, updS_ne hb, updS_ne hb, updS_ne hb, updS_ne hb, updS_ne hb, updS_ne hb]
  obtain ⟨Sh', rf', i1, i2, i3, i4, i5⟩ := ex
  have c1 : cm_X3_fails gp (Sh, V, L, n) r k = some (.inr (n, (Sh', upd2 (upd2 (rowV V n (fun _ => 0)) n 6 k) n 7 (nI f), L, n + 1))) := by
    unfold cm_X3_fails zNew
    simp (disch := omega) only [zSh_T, zV_T, zL_T, zn_T, r_I hr', vr]
    unfold cm_X9_init cm_J12_init_3
    simp only [i1, bnd_S, zPI_T i2 i3, zPI_T i2 i4]
  refine ⟨n, (Sh', upd2 (upd2 (rowV V n (fun _ => 0)) n 6 k) n 7 (nI f), L, n + 1), upd2 (upd2 V2 0 13 k) 0 14 (nI f), c1, ?_, fun β c hc => ⟨n, _, k, nI f, hc, ⟨⟨rf', i2, i3, i4⟩, ?_, ?_, Nat.le_refl n, Nat.le_succ n, fun b hb => ⟨i5 b (by omega), fun _ => ?_, rfl⟩⟩, ?_, ?_, hk, fun a ha => ?_, fun j hj => ?_⟩⟩
  · unfold tw_wrong tw_good
    simp (disch := omega) only [h6, if_true, bnd_S, z1, if_false, ptI_S, upd2_eq, upd_ne, k10]
  · show upd2 (upd2 (rowV V n (fun _ => 0)) n 6 k) n 7 (nI f) n 6 = k
    rw [upd2_eq, upd_ne (by omega), upd2_eq, upd_eq]
  · show upd2 (upd2 (rowV V n (fun _ => 0)) n 6 k) n 7 (nI f) n 7 = nI f
    rw [upd2_eq, upd_eq]
  · show upd2 (upd2 (rowV V n (fun _ => 0)) n 6 k) n 7 (nI f) b = V b
    rw [upd2_ne _ (by omega), upd2_ne _ (by omega), rowV_ne (by omega)]
  · rw [upd2_eq, upd_ne (by omega), upd2_eq, upd_eq]
  · rw [upd2_eq, upd_eq]
  · rw [upd2_ne _ ha, upd2_ne _ ha]
  · rw [upd2_eq, upd_ne (by omega), upd2_eq, upd_ne (by omega)]
theorem t_word (h : RW Sh V r tp ms bg V2 sz) (hr : r < n) (hg : gpI gp) (hw : w < 24) : O0 Sh V L n r tp ms bg V2 sz (cm_X3_word gp (Sh, V, L, n) r (gp w)) (tw_needs w V2) := by
  obtain ⟨b, V', V2', e1, e2, e3, e4⟩ := t_takes (L := L) (n := n) h hg hw
  have h1 := h.1
  unfold cm_X3_word tw_needs
  simp only [r_K h1, e1, e2, bnd_S, un2_S, b2iF]
  cases b with
  | true =>
    left
    exact ⟨V', V2', rfl, rfl, e3, e4⟩
  | false =>
    right
    obtain ⟨x, Z', Va, f1, f2, f3⟩ := t_fail (gp := gp) (L := L) e4 hr (show ¬ (1 : Int32) = 0 by decide)
    simp only [if_true, f1, f2, bnd_S, cs2_R, un2_S]
    exact ⟨Va, Fl_tr e3 (f3 _ _ rfl), rfl⟩
theorem t_number {lo hi : Int32} (h : RW Sh V r tp ms bg V2 sz) (hr : r < n) (hlo : 0 ≤ lo.toInt) (hhi : hi.toInt ≤ 99999) : O1 Sh V L n r tp ms bg V2 sz (fun v => ∃ k : Nat, v = nI k ∧ lo.toInt ≤ (k : Int) ∧ (k : Int) ≤ hi.toInt) (cm_X3_number gp (Sh, V, L, n) r lo hi) (tw_number V2 lo hi) := by
  have h' := h
  obtain ⟨h1, h2, h3, h4, h5, h6, h7⟩ := h'
  obtain ⟨a, f, t, k1, k2, k3, k4, k9, k5, k7, k10, k6, k11, kv, -⟩ := h7
  have z1 : ¬ (1 : Int32) = 0 := by decide
  unfold cm_X3_number tw_number
  have g1 : tw_good V2 = some 1 := if_pos h6
  simp (disch := omega) only [zSh_T, zV_T, zL_T, zn_T, r_I h1, k6, k11, g1, bnd_S, z1, if_false]
  by_cases t2 : nI t = 2
  · rw [if_pos t2, if_pos t2]
    have t2' : t = 2 := (nI_eq (b := 2) (by omega) (by omega)).mp t2
    obtain ⟨y, y1, y2, y3⟩ := kv t2'
    unfold cm_X3_number_J13 tw_number_J20
    simp (disch := omega) only [zSh_T, zV_T, zL_T, zn_T, r_I h1, y3, y2, g1, bnd_S, z1, if_false, cm_in_tw, tw_inI]
    rw [Int32.toInt_toInt64, Int32.toInt_toInt64, nI_toInt (by omega), nI_toInt (by omega)]
    by_cases c : lo.toInt ≤ (y : Int) ∧ (y : Int) ≤ hi.toInt
    · rw [if_pos (show lo.toInt ≤ ((min y 100000 : Nat) : Int) ∧ ((min y 100000 : Nat) : Int) ≤ hi.toInt by omega), if_pos c]
      obtain ⟨V', V2', s1, s2, s3, s4⟩ := t_next (L := L) (n := n) h
      unfold tw_number_J47
      simp only [z1, if_false, r_K h1, s1, s2, bnd_S, g1, nmI_S, y2]
      left
      refine ⟨nI y, V', V2', ?_, rfl, ⟨y, rfl, c⟩, s3, s4⟩
      rw [show min y 100000 = y by omega]
    · rw [if_neg (show ¬ (lo.toInt ≤ ((min y 100000 : Nat) : Int) ∧ ((min y 100000 : Nat) : Int) ≤ hi.toInt) by omega), if_neg c]
      obtain ⟨x, Z', Va, f1, f2, f3⟩ := t_fail (gp := gp) (L := L) h hr (show ¬ (2 : Int32) = 0 by decide)
      simp only [if_true, r_K h1, f1, f2, bnd_S, cs2_R, un2_S]
      right
      have F := f3 (Int32 × c_S) _ rfl
      exact ⟨Va, F, d_J47 (Fl_dead F)⟩
  · rw [if_neg t2, if_neg t2]
    obtain ⟨x, Z', Va, f1, f2, f3⟩ := t_fail (gp := gp) (L := L) h hr (show ¬ (1 : Int32) = 0 by decide)
    simp only [r_K h1, f1, f2, bnd_S, cs2_R, un2_S]
    right
    have F := f3 (Int32 × c_S) _ rfl
    exact ⟨Va, F, d_J20 (Fl_dead F) _ _⟩
theorem t_told {lo hi : Int32} (h : RW Sh V r tp ms bg V2 sz) (hr : r < n) (hg : gpI gp) (hw : w < 24) (hlo : 0 ≤ lo.toInt) (hhi : hi.toInt ≤ 99999) : O1 Sh V L n r tp ms bg V2 sz (fun v => ∃ k : Nat, v = nI k ∧ lo.toInt ≤ (k : Int) ∧ (k : Int) ≤ hi.toInt) (cm_X3_number_2 gp (Sh, V, L, n) r (gp w) lo hi) (tw_told w V2 lo hi) := by
  have h1 := h.1
  unfold cm_X3_number_2 tw_told
  simp only [r_K h1]
  rcases t_word (gp := gp) (L := L) h hr hg hw with ⟨V', V2', e1, e2, e3, e4⟩ | ⟨V2', e1, e2⟩
  · simp only [e1, e2, bnd_S, cs2_L, r_K h1]
    rcases t_number (gp := gp) (L := L) (lo := lo) (hi := hi) e4 hr hlo hhi with ⟨v, Va, Vb, c1, c2, c3, c4, c5⟩ | ⟨Vb, c1, c2⟩
    · simp only [c1, c2, bnd_S, cs2_L, un2_S]
      left
      exact ⟨v, Va, Vb, rfl, rfl, c3, Tst_tr e3 c4, c5⟩
    · have F := Fl_tr e3 c1
      obtain ⟨x, Z', k, f, q1, q2⟩ := F
      simp only [q1, c2, bnd_S, cs2_R, un2_S]
      right
      exact ⟨Vb, ⟨x, Z', k, f, rfl, q2⟩, rfl⟩
  · have dd := Fl_dead e1
    obtain ⟨x, Z', k, f, q1, q2⟩ := e1
    simp only [q1, e2, bnd_S, cs2_R, un2_S, d_number dd]
    right
    exact ⟨V2', ⟨x, Z', k, f, rfl, q2⟩, rfl⟩
theorem t_sign {k : Int32} (h : RW Sh V r tp ms bg V2 sz) : ∃ b, cm_X3_isSign (Sh, V, L, n) r k = some (b2i b) ∧ tw_isSign V2 k = some (b2i b) ∧ (b = true → V r 8 = k ∧ V2 0 12 = k) := by
  obtain ⟨h1, h2, h3, h4, h5, h6, h7⟩ := h
  obtain ⟨a, f, t, k1, k2, k3, k4, k9, k5, k7, k10, k6, k11, -, kv⟩ := h7
  have z1 : ¬ (1 : Int32) = 0 := by decide
  have g1 : tw_good V2 = some 1 := if_pos h6
  unfold cm_X3_isSign tw_isSign
  simp (disch := omega) only [zSh_T, zV_T, zL_T, zn_T, r_I h1, k6, k11, g1, bnd_S, z1, if_false]
  by_cases t2 : nI t = 3
  · have t2' : t = 3 := (nI_eq (b := 3) (by omega) (by omega)).mp t2
    have e := kv t2'
    rw [if_pos t2, if_pos t2, e]
    by_cases c : V2 0 12 = k
    · rw [if_pos c]; exact ⟨true, rfl, rfl, fun _ => ⟨c, c⟩⟩
    · rw [if_neg c]; exact ⟨false, rfl, rfl, fun z => Bool.noConfusion z⟩
  · rw [if_neg t2, if_neg t2]; exact ⟨false, rfl, rfl, fun z => Bool.noConfusion z⟩
theorem t_below {lo : Int32} {M : Nat} (h : RW Sh V r tp ms bg V2 sz) (hr : r < n) (hg : gpI gp) (hw : w < 24) (hM : M ≤ 99999) (hlo : -lo = nI M) : O1 Sh V L n r tp ms bg V2 sz (fun v => ∃ k : Nat, v = -(nI k) ∧ k ≤ M) (cm_X3_below gp (Sh, V, L, n) r (gp w) lo) (tw_below w V2 lo) := by
  have h1 := h.1
  unfold cm_X3_below tw_below
  simp only [r_K h1, hlo]
  rcases t_word (gp := gp) (L := L) h hr hg hw with ⟨V', V2', e1, e2, e3, e4⟩ | ⟨V2', e1, e2⟩
  · simp only [e1, e2, bnd_S, cs2_L, r_K h1]
    obtain ⟨b, s1, s2, -⟩ := t_sign (L := L) (n := n) (k := 45) e4
    simp only [s1, s2, bnd_S, b2iF]
    unfold tw_below_J20
    cases b with
    | false =>
      simp only [if_true, b2iF]
      rcases t_number (gp := gp) (L := L) (lo := 0) (hi := 0) e4 hr (by decide) (by decide) with ⟨v, Va, Vb, c1, c2, ⟨k, c3, -, c6⟩, c4, c5⟩ | ⟨Vb, c1, c2⟩
      · simp only [c1, c2, bnd_S, cs2_L, un2_S]
        left
        refine ⟨v, Va, Vb, rfl, rfl, ⟨0, ?_, Nat.zero_le _⟩, Tst_tr e3 c4, c5⟩
        have : (0 : Int32).toInt = 0 := rfl
        rw [c3, show k = 0 by omega]; decide
      · have F := Fl_tr e3 c1
        obtain ⟨x, Z', k, f, q1, q2⟩ := F
        simp only [q1, c2, bnd_S, cs2_R, un2_S]
        right
        exact ⟨Vb, ⟨x, Z', k, f, rfl, q2⟩, rfl⟩
    | true =>
      obtain ⟨Vn, Vm, n1, n2, n3, n4⟩ := t_next (L := L) (n := n) e4
      simp only [Bool.true_eq_false, if_false, b2iF, n1, n2, bnd_S, r_K h1, hlo]
      rcases t_number (gp := gp) (L := L) (lo := 0) (hi := nI M) n4 hr (by decide) (by rw [nI_toInt (by omega)]; omega) with ⟨v, Va, Vb, c1, c2, ⟨k, c3, -, c6⟩, c4, c5⟩ | ⟨Vb, c1, c2⟩
      · simp only [c1, c2, bnd_S, cs2_L, un2_S]
        left
        rw [nI_toInt (by omega)] at c6
        exact ⟨-v, Va, Vb, rfl, rfl, ⟨k, by rw [c3], by omega⟩, Tst_tr e3 (Tst_tr n3 c4), c5⟩
      · have F := Fl_tr e3 (Fl_tr n3 c1)
        obtain ⟨x, Z', k, f, q1, q2⟩ := F
        simp only [q1, c2, bnd_S, cs2_R, un2_S]
        right
        exact ⟨Vb, ⟨x, Z', k, f, rfl, q2⟩, rfl⟩
  · have dd := Fl_dead e1
    obtain ⟨x, Z', k, f, q1, q2⟩ := e1
    have hb := d_below (w := w) dd lo
    simp only [q1, e2, bnd_S, cs2_R, un2_S, d_sign dd, if_true]
    right
    refine ⟨V2', ⟨x, Z', k, f, rfl, q2⟩, ?_⟩
    unfold tw_below_J20
    rw [if_pos rfl, d_number dd, bnd_S, un2_S]
end TK5
