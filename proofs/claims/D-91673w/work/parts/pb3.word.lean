/-! PURE: a text is read: one word alone; whether a line is one too many -/
set_option maxRecDepth 100000
theorem st_diff : ∀ w w' : Fin 24, w ≠ w' → stLen.getD w.val 0 = stLen.getD w'.val 0 → ∃ k : Fin 6, k.val < stLen.getD w.val 0 ∧ stC w.val k.val ≠ stC w'.val k.val := by decide +kernel
section WD
variable {Sh : g_Sh} {V V' : g_V} {L : g_L} {n N0 r tp ms bg sz td np nh nr lc lt w w' : Nat} {V2 V2' : g_V} {κ u : Nat → Nat} {gp : Nat → Nat}
theorem is_true {a f : Nat} (h13 : V2 0 13 = 0) (h9 : V2 0 9 = nI a) (h10 : V2 0 10 = nI f) (hfa : f ≤ a) (ha : a ≤ 700) (hw : w < 24) (e : tw_is w V2 = some 1) : a - f = stLen.getD w 0 ∧ ∀ k, k < stLen.getD w 0 → V2 5 (f + k) = stC w k := by
  have z1 : ¬ (1 : Int32) = 0 := by decide
  have len := stLen_6 ⟨w, hw⟩
  dsimp only at len
  have sl : stL w = nI (stLen.getD w 0) := rfl
  have y0 : tw_is_J35 w V2 = some 0 := by
    unfold tw_is_J35 tw_is_J36 tw_is_L39
    rw [is_end0]
    · rfl
    · intro rec
      unfold tw_is_F39 tw_is_B39
      dsimp only
      split
      · rfl
      · rfl
  have n01 : ¬ (some (0 : Int32) = some 1) := by decide
  unfold tw_is tw_good at e
  rw [h13, if_pos rfl, bnd_S, if_neg z1] at e
  by_cases t1 : V2 0 11 = 1
  · rw [if_pos t1] at e
    by_cases el : V2 0 9 - V2 0 10 = stL w
    · rw [if_pos el] at e
      rw [h9, h10, L_subN hfa, sl] at el
      have el' : a - f = stLen.getD w 0 := (nI_eq (by omega) (by omega)).mp el
      refine ⟨el', ?_⟩
      obtain ⟨K, k1, k2, k3⟩ := first_b (fun k => !(V2 5 (f + k) == stC w k)) (stLen.getD w 0)
      have eq : ∀ k, k < K → V2 5 (f + k) = stC w k := fun k hk => by
        have := k2 k hk
        have : (V2 5 (f + k) == stC w k) = true := by
          cases hh : (V2 5 (f + k) == stC w k) with
          | true => rfl
          | false => rw [hh] at this; exact Bool.noConfusion this
        exact eq_of_beq this
      by_cases hK : K < stLen.getD w 0
      · exfalso
        have ne : ¬ V2 5 (f + K) = stC w K := fun z => by
          have := k3 hK
          rw [z] at this
          simp at this
        have hr := lp_rel (F := tw_is_F39 V2 w) (N := K + 1) (P := fun out => out = 0) (fun i s => (i ≤ K ∧ s = (1, nI i)) ∨ (i = K + 1 ∧ s = (0, nI i))) (by
          intro i s hi hs
          rcases hs with ⟨hi', rfl⟩ | ⟨hi', rfl⟩
          · unfold tw_is_F39
            by_cases e : i = K
            · subst e
              refine ⟨(0, nI (i + 1)), fun rec => ?_, Or.inr ⟨rfl, rfl⟩⟩
              simp (disch := omega) only [tw_is_B39, sl, N_leF, if_false, z1, h10, nI_add, rdI_in, ne, nmI_S, L_addR]
            · refine ⟨(1, nI (i + 1)), fun rec => ?_, Or.inl ⟨by omega, rfl⟩⟩
              have := eq i (by omega)
              simp (disch := omega) only [tw_is_B39, sl, N_leF, if_false, z1, h10, nI_add, rdI_in, this, if_true, nmI_S, L_addR]
          · omega) (by
          intro s hs
          rcases hs with ⟨hi', rfl⟩ | ⟨hi', rfl⟩
          · omega
          · refine ⟨0, fun rec => ?_, rfl⟩
            unfold tw_is_F39 tw_is_B39
            dsimp only
            split
            · rfl
            · rfl) 1000 0 (1, nI 0) (by omega) (by omega) (Or.inl ⟨by omega, rfl⟩)
        obtain ⟨out, e1, rfl⟩ := hr
        unfold tw_is_J36 tw_is_L39 at e
        have e1 : lp (tw_is_F39 V2 w) 1000 (1, 0) = some 0 := e1
        rw [e1] at e
        exact n01 e
      · exact fun k hk => eq k (by omega)
    · rw [if_neg el, y0] at e
      exact absurd e n01
  · rw [if_neg t1, y0] at e
    exact absurd e n01
theorem bw_one (h : RW Sh V r tp ms bg V2 sz) (hw : w < 24) (hw' : w' < 24) (e : bw V2 w = true) (e' : bw V2 w' = true) : w = w' := by
  obtain ⟨a, f, t, k1, k2, k3, k4, k9, k5, k7, k10, -⟩ := h.2.2.2.2.2.2
  have h5 := h.2.2.2.2.1
  have h13 := h.2.2.2.2.2.1
  have q := is_true h13 k9 k10 k1 (by omega) hw (eq_of_beq e)
  have q' := is_true h13 k9 k10 k1 (by omega) hw' (eq_of_beq e')
  by_cases c : w = w'
  · exact c
  · exfalso
    obtain ⟨k, kk1, kk2⟩ := st_diff ⟨w, hw⟩ ⟨w', hw'⟩ (fun z => c (by injection z)) (q.1.symm.trans q'.1)
    dsimp only at kk1 kk2
    have := q.1.symm.trans q'.1
    exact kk2 ((q.2 k.val kk1).symm.trans (q'.2 k.val (by omega)))
theorem bw_eq (h : RW Sh V r tp ms bg V2 sz) (h' : RW Sh V r tp ms bg V2' sz) (hg : gpI gp) (hw : w < 24) : bw V2' w = bw V2 w := by
  have e1 := (t_isb (L := fun _ _ => 0) (n := 0) h hg hw).1
  have e2 := (t_isb (L := fun _ _ => 0) (n := 0) h' hg hw).1
  rw [e1] at e2
  injection e2 with e2
  cases h1 : bw V2 w <;> cases h2 : bw V2' w <;> rw [h1, h2] at e2
  · exact absurd e2 (by decide)
  · exact absurd e2 (by decide)
/-- whether there may be no more such line -/
def fullB (V2 : g_V) (K l np nh nr : Nat) : Bool := decide (l = 40 ∨ (K = 3 ∧ ¬ V2 0 18 = 0) ∨ (K = 4 ∧ V2 15 7 = 1) ∨ (K = 5 ∧ np = 12) ∨ (K = 6 ∧ ¬ V2 0 19 = 0) ∨ (K = 7 ∧ nh = 6) ∨ (K = 8 ∧ nr = 4))
theorem c_full {K : Nat} (h : Ps gp N0 Sh V n V2 r tp ms bg sz td κ u np nh nr lc lt) (hK : K < 9) : cm_X3_isFull (Sh, V, L, n) r td (nI K) = some (b2i (fullB V2 K lc np nh nr)) := by
  have hu := h.2.1
  subst hu
  obtain ⟨h1, -, h2, ⟨f1, f2⟩, ⟨l1, l2, l3, l4⟩, -⟩ := h
  have hro := h1.1
  have g1 := h2.1
  obtain ⟨q1, q2, q3, q4, -⟩ := h2.2.2.2.2.1
  obtain ⟨p1, p2, p3, p4, -⟩ := h2.2.2.2.2.2.1
  obtain ⟨s1, s2, s3, s4, -⟩ := h2.2.2.2.2.2.2.1
  have z1 : ¬ (1 : Int32) = 0 := by decide
  have tK : ∀ (α : Type) (k : Option α), zK (Sh, V, L, n) (u 0) 2 13 k = k := fun α k => by obtain ⟨⟨rf, t1, -⟩, -⟩ := g1; exact zK_T t1
  have e40 : (nI lc = (40 : Int32)) = (lc = 40) := N_eq (b := 40) (by omega) (by omega)
  have e12 : (nI np = (12 : Int32)) = (np = 12) := N_eq (b := 12) (by omega) (by omega)
  have e6 : (nI nh = (6 : Int32)) = (nh = 6) := N_eq (b := 6) (by omega) (by omega)
  have e4 : (nI nr = (4 : Int32)) = (nr = 4) := N_eq (b := 4) (by omega) (by omega)
  have sh : cm_X2_hasShaft (Sh, V, L, n) (u 0) = some (b2i (decide (V2 15 7 = 1))) := by
    unfold cm_X2_hasShaft
    simp only [zSh_T, zV_T, zL_T, zn_T]
    rw [td_I g1 (by omega) (by omega)]
    rcases g1.2.2.2.2.1 with ⟨a1, a2⟩ | ⟨a1, ⟨l, t, rr, b, a3, -, -, -, -, a8, a9, -⟩, a2, -⟩
    · rw [a2, a1]; rfl
    · rw [a2, a1, a3, if_neg (by rw [N_m1 (by omega)]; exact id)]; rfl
  unfold cm_X3_isFull
  simp (disch := omega) only [zSh_T, zV_T, zL_T, zn_T, td_I g1, l1, e40]
  by_cases c40 : lc = 40
  · rw [if_pos c40]
    have : fullB V2 K lc np nh nr = true := decide_eq_true (Or.inl c40)
    rw [this]
    unfold cm_X3_isFull_J14
    have hh : K = 0 ∨ K = 1 ∨ K = 2 ∨ K = 3 ∨ K = 4 ∨ K = 5 ∨ K = 6 ∨ K = 7 ∨ K = 8 := by omega
    rcases hh with rfl | rfl | rfl | rfl | rfl | rfl | rfl | rfl | rfl <;> rfl
  · rw [if_neg c40]
    unfold cm_X3_isFull_J14 fullB
    have hh : K = 0 ∨ K = 1 ∨ K = 2 ∨ K = 3 ∨ K = 4 ∨ K = 5 ∨ K = 6 ∨ K = 7 ∨ K = 8 := by omega
    rcases hh with rfl | rfl | rfl | rfl | rfl | rfl | rfl | rfl | rfl
    · rw [decide_eq_false (by omega)]; rfl
    · rw [decide_eq_false (by omega)]; rfl
    · rw [decide_eq_false (by omega)]; rfl
    · rw [if_pos (show nI 3 = (3 : Int32) from rfl), if_pos rfl]
      simp (disch := omega) only [zSh_T, zV_T, zL_T, zn_T, r_I hro, f1]
      by_cases c : V2 0 18 = 0
      · rw [if_pos c, decide_eq_false (by simp [c, c40])]; rfl
      · rw [if_neg c, decide_eq_true (by simp [c])]; rfl
    · rw [if_neg (show ¬ nI 4 = (3 : Int32) by decide), if_pos (show nI 4 = (4 : Int32) from rfl), if_pos rfl, tK, sh, bnd_S]
      by_cases c : V2 15 7 = 1
      · rw [decide_eq_true c, decide_eq_true (Or.inr (Or.inr (Or.inl ⟨rfl, c⟩)))]; rfl
      · rw [decide_eq_false c, decide_eq_false (by simp [c, c40])]; rfl
    · rw [if_neg (show ¬ nI 5 = (3 : Int32) by decide), if_neg (show ¬ nI 5 = (4 : Int32) by decide), if_pos (show nI 5 = (5 : Int32) from rfl), if_pos rfl]
      simp only [zSh_T, zV_T, zL_T, zn_T]
      rw [td_A g1 (i := 3) (j := 8) (by omega), l_K q3, l_size q3, bnd_S, q4]
      simp only [e12]
      by_cases c : np = 12
      · rw [if_pos c, decide_eq_true (by simp [c])]; rfl
      · rw [if_neg c, decide_eq_false (by simp [c, c40])]; rfl
    · rw [if_neg (show ¬ nI 6 = (3 : Int32) by decide), if_neg (show ¬ nI 6 = (4 : Int32) by decide), if_neg (show ¬ nI 6 = (5 : Int32) by decide), if_pos (show nI 6 = (6 : Int32) from rfl), if_pos rfl]
      simp (disch := omega) only [zSh_T, zV_T, zL_T, zn_T, r_I hro, f2]
      by_cases c : V2 0 19 = 0
      · rw [if_pos c, decide_eq_false (by simp [c, c40])]; rfl
      · rw [if_neg c, decide_eq_true (by simp [c])]; rfl
    · rw [if_neg (show ¬ nI 7 = (3 : Int32) by decide), if_neg (show ¬ nI 7 = (4 : Int32) by decide), if_neg (show ¬ nI 7 = (5 : Int32) by decide), if_neg (show ¬ nI 7 = (6 : Int32) by decide), if_pos (show nI 7 = (7 : Int32) from rfl), if_pos rfl]
      simp only [zSh_T, zV_T, zL_T, zn_T]
      rw [td_A g1 (i := 4) (j := 10) (by omega), l_K p3, l_size p3, bnd_S, p4]
      simp only [e6]
      by_cases c : nh = 6
      · rw [if_pos c, decide_eq_true (by simp [c])]; rfl
      · rw [if_neg c, decide_eq_false (by simp [c, c40])]; rfl
    · rw [if_neg (show ¬ nI 8 = (3 : Int32) by decide), if_neg (show ¬ nI 8 = (4 : Int32) by decide), if_neg (show ¬ nI 8 = (5 : Int32) by decide), if_neg (show ¬ nI 8 = (6 : Int32) by decide), if_neg (show ¬ nI 8 = (7 : Int32) by decide), if_pos (show nI 8 = (8 : Int32) from rfl), if_pos rfl]
      simp only [zSh_T, zV_T, zL_T, zn_T]
      rw [td_A g1 (i := 5) (j := 12) (by omega), l_K s3, l_size s3, bnd_S, s4]
      simp only [e4]
      by_cases c : nr = 4
      · rw [if_pos c, decide_eq_true (by simp [c])]; rfl
      · rw [if_neg c, decide_eq_false (by simp [c, c40])]; rfl
end WD
