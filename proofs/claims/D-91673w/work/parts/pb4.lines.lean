/-! PURE: a text is read: the reference's front of a line -/
set_option maxRecDepth 100000
theorem b2i_F0 : b2i false = 0 := rfl
theorem b2i_T0 : ¬ b2i true = 0 := by decide
section FR
variable {Sh : g_Sh} {V V' : g_V} {L : g_L} {n N0 r tp ms bg sz td np nh nr lc lt : Nat} {V2 V2' : g_V} {κ u : Nat → Nat} {gp : Nat → Nat}
theorem tw_front {K : Nat} (h : Ps gp N0 Sh V n V2 r tp ms bg sz td κ u np nh nr lc lt) (hg : gpI gp) (hK : K < 9) (hb : bw V2 (4 + K) = true) : tw_readLine V2 = if fullB V2 K lt np nh nr = true then bnd (tw_wrong V2 3) (fun V_156 => tw_readLine_J250 V_156) else tw_readLine_J250 V2 := by
  have h1 := h.1
  have e : ∀ w, w < 24 → tw_is w V2 = some (b2i (bw V2 w)) := fun w hw => (t_isb (L := fun _ _ => 0) (n := 0) h1 hg hw).2
  have o : ∀ w, 4 ≤ w → w < 13 → bw V2 w = decide (w = 4 + K) := fun w w4 w13 => by
    by_cases c : w = 4 + K
    · rw [decide_eq_true c, c]; exact hb
    · rw [decide_eq_false c]
      cases hh : bw V2 w with
      | false => rfl
      | true => exact absurd (bw_one h1 (by omega) (by omega) hh hb) c
  have l2 : V2 15 0 = nI lt := h.2.2.2.2.1.2.1
  have l4 : lt ≤ 41 := h.2.2.2.2.1.2.2.2
  have h2 := h.2.2.1
  obtain ⟨q1, q2, -⟩ := h2.2.2.2.2.1
  obtain ⟨p1, p2, -⟩ := h2.2.2.2.2.2.1
  obtain ⟨s1, s2, -⟩ := h2.2.2.2.2.2.2.1
  have e40 : (nI lt = (40 : Int32)) = (lt = 40) := N_eq (b := 40) (by omega) (by omega)
  have e12 : (nI np = (12 : Int32)) = (np = 12) := N_eq (b := 12) (by omega) (by omega)
  have e6 : (nI nh = (6 : Int32)) = (nh = 6) := N_eq (b := 6) (by omega) (by omega)
  have e4 : (nI nr = (4 : Int32)) = (nr = 4) := N_eq (b := 4) (by omega) (by omega)
  have z1 : ¬ (1 : Int32) = 0 := by decide
  have z1' : ¬ b2i true = 0 := by decide
  have known : tw_readLine V2 = tw_readLine_J89 V2 := by
    unfold tw_readLine
    have hh : K = 0 ∨ K = 1 ∨ K = 2 ∨ K = 3 ∨ K = 4 ∨ K = 5 ∨ K = 6 ∨ K = 7 ∨ K = 8 := by omega
    simp only [e 4 (by omega), e 5 (by omega), e 6 (by omega), e 7 (by omega), e 8 (by omega), e 9 (by omega), e 10 (by omega), e 11 (by omega), e 12 (by omega), bnd_S, b2iF, o 4 (by omega) (by omega), o 5 (by omega) (by omega), o 6 (by omega) (by omega), o 7 (by omega) (by omega), o 8 (by omega) (by omega), o 9 (by omega) (by omega), o 10 (by omega) (by omega), o 11 (by omega) (by omega), o 12 (by omega) (by omega)]
    rcases hh with rfl | rfl | rfl | rfl | rfl | rfl | rfl | rfl | rfl <;> rfl
  rw [known]
  have e7 : tw_readLine_J223 1 V2 = bnd (tw_wrong V2 3) (fun V_156 => tw_readLine_J250 V_156) := by
    unfold tw_readLine_J223 tw_readLine_J228
    rw [if_neg z1, if_neg z1]
  have e8 : tw_readLine_J227 1 V2 = tw_readLine_J250 V2 := by
    unfold tw_readLine_J227 tw_readLine_J228
    rw [if_neg z1, if_pos rfl]
  have n206 : K ≠ 6 → tw_readLine_J206 1 V2 = tw_readLine_J227 1 V2 := fun hn => by
    unfold tw_readLine_J206
    rw [e 10 (by omega), o 10 (by omega) (by omega), decide_eq_false (by omega), bnd_S, if_pos b2i_F0]
  have y206 : K = 6 → tw_readLine_J206 1 V2 = if V2 0 19 = 0 then tw_readLine_J227 1 V2 else tw_readLine_J223 1 V2 := fun hn => by
    unfold tw_readLine_J206
    rw [e 10 (by omega), o 10 (by omega) (by omega), decide_eq_true (by omega), bnd_S, if_neg z1']
  have n185 : K ≠ 4 → tw_readLine_J185 1 V2 = tw_readLine_J206 1 V2 := fun hn => by
    unfold tw_readLine_J185
    rw [e 8 (by omega), o 8 (by omega) (by omega), decide_eq_false (by omega), bnd_S, if_pos b2i_F0]
  have y185 : K = 4 → tw_readLine_J185 1 V2 = if V2 15 7 = 1 then tw_readLine_J223 1 V2 else tw_readLine_J206 1 V2 := fun hn => by
    unfold tw_readLine_J185
    rw [e 8 (by omega), o 8 (by omega) (by omega), decide_eq_true (by omega), bnd_S, if_neg z1']
    simp (disch := omega) only [rdI_L, rdI_in]
  have n168 : K ≠ 3 → tw_readLine_J168 1 V2 = tw_readLine_J185 1 V2 := fun hn => by
    unfold tw_readLine_J168
    rw [e 7 (by omega), o 7 (by omega) (by omega), decide_eq_false (by omega), bnd_S, if_pos b2i_F0]
  have y168 : K = 3 → tw_readLine_J168 1 V2 = if V2 0 18 = 0 then tw_readLine_J185 1 V2 else tw_readLine_J223 1 V2 := fun hn => by
    unfold tw_readLine_J168
    rw [e 7 (by omega), o 7 (by omega) (by omega), decide_eq_true (by omega), bnd_S, if_neg z1']
  have n148 : K ≠ 8 → tw_readLine_J148 1 V2 = tw_readLine_J168 1 V2 := fun hn => by
    unfold tw_readLine_J148
    rw [e 12 (by omega), o 12 (by omega) (by omega), decide_eq_false (by omega), bnd_S, if_pos b2i_F0]
  have y148 : K = 8 → tw_readLine_J148 1 V2 = if nr = 4 then tw_readLine_J223 1 V2 else tw_readLine_J168 1 V2 := fun hn => by
    unfold tw_readLine_J148
    rw [e 12 (by omega), o 12 (by omega) (by omega), decide_eq_true (by omega), bnd_S, if_neg z1']
    simp (disch := omega) only [rdI_L, rdI_in, s2, e4]
  have n127 : K ≠ 7 → tw_readLine_J127 1 V2 = tw_readLine_J148 1 V2 := fun hn => by
    unfold tw_readLine_J127
    rw [e 11 (by omega), o 11 (by omega) (by omega), decide_eq_false (by omega), bnd_S, if_pos b2i_F0]
  have y127 : K = 7 → tw_readLine_J127 1 V2 = if nh = 6 then tw_readLine_J223 1 V2 else tw_readLine_J148 1 V2 := fun hn => by
    unfold tw_readLine_J127
    rw [e 11 (by omega), o 11 (by omega) (by omega), decide_eq_true (by omega), bnd_S, if_neg z1']
    simp (disch := omega) only [rdI_L, rdI_in, p2, e6]
  have a94 : tw_readLine_J89 V2 = if lt = 40 then tw_readLine_J223 1 V2 else if K = 5 ∧ np = 12 then tw_readLine_J223 1 V2 else tw_readLine_J127 1 V2 := by
    unfold tw_readLine_J89 tw_readLine_J94
    simp (disch := omega) only [rdI_L, rdI_in, l2, e40]
    by_cases c : lt = 40
    · rw [if_pos c, if_pos c]
    rw [if_neg c, if_neg c, e 9 (by omega), o 9 (by omega) (by omega), bnd_S]
    by_cases hn : K = 5
    · rw [decide_eq_true (by omega), if_neg z1']
      simp (disch := omega) only [rdI_L, rdI_in, q2, e12]
      by_cases cn : np = 12
      · rw [if_pos cn, if_pos ⟨hn, cn⟩]
      · rw [if_neg cn, if_neg (fun z => cn z.2)]
    · rw [decide_eq_false (by omega), if_pos b2i_F0, if_neg (fun z => hn z.1)]
  rw [a94]
  have fT : ∀ {p : Prop}, p → (p → (lt = 40 ∨ (K = 3 ∧ ¬ V2 0 18 = 0) ∨ (K = 4 ∧ V2 15 7 = 1) ∨ (K = 5 ∧ np = 12) ∨ (K = 6 ∧ ¬ V2 0 19 = 0) ∨ (K = 7 ∧ nh = 6) ∨ (K = 8 ∧ nr = 4))) → fullB V2 K lt np nh nr = true := fun hp h => decide_eq_true (h hp)
  have fF : ¬ (lt = 40 ∨ (K = 3 ∧ ¬ V2 0 18 = 0) ∨ (K = 4 ∧ V2 15 7 = 1) ∨ (K = 5 ∧ np = 12) ∨ (K = 6 ∧ ¬ V2 0 19 = 0) ∨ (K = 7 ∧ nh = 6) ∨ (K = 8 ∧ nr = 4)) → ¬ fullB V2 K lt np nh nr = true := fun h z => h (of_decide_eq_true z)
  by_cases c40 : lt = 40
  · rw [if_pos c40, if_pos (fT c40 (fun h => Or.inl h)), e7]
  rw [if_neg c40]
  by_cases k5 : K = 5
  · by_cases cn : np = 12
    · rw [if_pos ⟨k5, cn⟩, if_pos (fT cn (fun h => Or.inr (Or.inr (Or.inr (Or.inl ⟨k5, h⟩))))), e7]
    · rw [if_neg (fun z => cn z.2), if_neg (fF (by omega)), n127 (by omega), n148 (by omega), n168 (by omega), n185 (by omega), n206 (by omega), e8]
  rw [if_neg (fun z => k5 z.1)]
  by_cases k7 : K = 7
  · rw [y127 k7]
    by_cases cn : nh = 6
    · rw [if_pos cn, if_pos (fT cn (fun h => Or.inr (Or.inr (Or.inr (Or.inr (Or.inr (Or.inl ⟨k7, h⟩))))))), e7]
    · rw [if_neg cn, if_neg (fF (by omega)), n148 (by omega), n168 (by omega), n185 (by omega), n206 (by omega), e8]
  rw [n127 k7]
  by_cases k8 : K = 8
  · rw [y148 k8]
    by_cases cn : nr = 4
    · rw [if_pos cn, if_pos (fT cn (fun h => Or.inr (Or.inr (Or.inr (Or.inr (Or.inr (Or.inr ⟨k8, h⟩))))))), e7]
    · rw [if_neg cn, if_neg (fF (by omega)), n168 (by omega), n185 (by omega), n206 (by omega), e8]
  rw [n148 k8]
  by_cases k3 : K = 3
  · rw [y168 k3]
    by_cases cn : V2 0 18 = 0
    · rw [if_pos cn, if_neg (fF (fun z => by
        rcases z with z | z | z | z | z | z | z
        · exact c40 z
        · exact z.2 cn
        all_goals omega)), n185 (by omega), n206 (by omega), e8]
    · rw [if_neg cn, if_pos (fT cn (fun h => Or.inr (Or.inl ⟨k3, h⟩))), e7]
  rw [n168 k3]
  by_cases k4 : K = 4
  · rw [y185 k4]
    by_cases cn : V2 15 7 = 1
    · rw [if_pos cn, if_pos (fT cn (fun h => Or.inr (Or.inr (Or.inl ⟨k4, h⟩)))), e7]
    · rw [if_neg cn, if_neg (fF (fun z => by
        rcases z with z | z | z | z | z | z | z
        · exact c40 z
        · omega
        · exact cn z.2
        all_goals omega)), n206 (by omega), e8]
  rw [n185 k4]
  by_cases k6 : K = 6
  · rw [y206 k6]
    by_cases cn : V2 0 19 = 0
    · rw [if_pos cn, if_neg (fF (fun z => by
        rcases z with z | z | z | z | z | z | z
        · exact c40 z
        · omega
        · omega
        · omega
        · exact z.2 cn
        all_goals omega)), e8]
    · rw [if_neg cn, if_pos (fT cn (fun h => Or.inr (Or.inr (Or.inr (Or.inr (Or.inl ⟨k6, h⟩)))))), e7]
  · rw [n206 k6, if_neg (fF (by omega)), e8]
end FR
