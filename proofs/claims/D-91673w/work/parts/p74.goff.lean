/-! PURE: what would be: off -/
set_option maxRecDepth 100000
/-- so many pipes stand still -/
def pOff (w : Nat → Int32) : Nat → Nat → Int32
  | 0 => w
  | i + 1 => upd (pOff w i) (624 + 6 * i + 3) 0
section OF
variable {Sh Sh' : g_Sh} {V V' V0 : g_V} {L L' : g_L} {n n' x : Nat} {m u mt mt' q ρ : Nat → Nat} {V2 V2' : g_V} {L2 : g_L} {w : Nat → Int32} {gp : Nat → Nat} {m0 : Nat}
theorem pOff_2 (i : Nat) : pOff w i 2 = w 2 := by
  induction i with
  | zero => rfl
  | succ i ih => unfold pOff; rw [upd_ne (by omega)]; exact ih
theorem pGood_run (h : pGood w) {p : Nat} (b : Bool) : pGood (upd w (624 + 6 * p + 3) (b2i b)) ∨ ¬ p < pNp w := by
  by_cases hp : p < pNp w
  · left
    have h18 := h.2.1.2.1
    refine pGood_c h (fun j hj => upd_ne (by omega)) (fun p' hp' => ?_) ?_ (pWrm_w h.2.2.2.2.2 h.1 (fun j h1 h2 => upd_ne (by omega)))
    · by_cases e : p' = p
      · subst e
        rw [upd_eq]; cases b
        · exact Or.inl rfl
        · exact Or.inr rfl
      · rw [upd_ne (by omega)]; exact (h.2.2.2.2.1.1 p' hp').2.2
    · rw [upd_ne (by omega)]; exact h.2.1.2.2.2
  · exact Or.inr hp
theorem Tc_run (h : Tc Sh V0 L n ρ mt u V w) {p : Nat} (hp : p < pNp w) : Tc Sh V0 L n ρ mt u (rowV V (mt (13 + p)) (upd (V (mt (13 + p))) 3 0)) (upd w (624 + 6 * p + 3) 0) := by
  obtain ⟨hFR, hg, h3, h4⟩ := h
  have hg' : pGood (upd w (624 + 6 * p + 3) 0) := by
    rcases pGood_run hg (p := p) false with h | h
    · exact h
    · exact absurd hp h
  have h18 := hg.2.1.2.1
  have h6 := hg.2.2.1.2.1
  have e1 : pNp (upd w (624 + 6 * p + 3) 0) = pNp w := pNp_eq (upd_ne (by omega))
  have e2 : pNh (upd w (624 + 6 * p + 3) 0) = pNh w := pNh_eq (upd_ne (by omega))
  have hFR' := hFR
  obtain ⟨⟨⟨-, -, -, hV, -⟩, hm, -⟩, -, hI, hL, hP, hH, hG⟩ := hFR'
  simp only [zSh_T, zV_T, zL_T, zn_T] at hL hP hV hI hH hG
  refine ⟨FR_of hFR (fun d hd => rowV_ne (fun e => ?_)) (fun j hj => upd_ne (by omega)) (fun c hc => ?_) ?_ ?_ (fun p' i hp' hi => ?_) (fun p' i hp' hi => ?_) (fun g hg => ?_), hg', fun a ha => ?_, by rw [e1, e2]; exact h4⟩
  · have := h4 (13 + p) (by omega); rw [e] at hd; omega
  · simp (disch := omega) only [rowM_ne hm, upd_ne]; exact hV c hc
  · unfold VI
    simp (disch := omega) only [rowM_ne hm, upd_ne]
    exact hI
  · unfold VLi
    simp (disch := omega) only [rowM_ne hm, upd_ne]; exact hL
  · rw [e1] at hp'
    by_cases ep : p' = p
    · subst ep
      rw [rowV_eq]
      by_cases ei : i = 3
      · subst ei; rw [upd_eq, upd_eq]
      · rw [upd_ne (by omega), upd_ne (by omega)]; exact hP p' i hp' hi
    · simp (disch := omega) only [rowM_ne hm, upd_ne]; exact hP p' i hp' hi
  · rw [e2] at hp'
    simp (disch := omega) only [rowM_ne hm, upd_ne]; exact hH p' i hp' hi
  · simp (disch := omega) only [rowM_ne hm, upd_ne]; exact hG g hg
  · rw [rowV_ne (fun e => ha (by rw [e]; exact h4 _ (by omega)))]
    exact h3 a ha
theorem cm_off1 (hM : GM Sh x m0 (mt 0) q) (h : Tc Sh V0 L n ρ mt u V w) : ∃ V', Tc Sh V0 L n ρ mt u V' (pOff w (pNp w)) ∧ cm_X0_off_L36 gp x 1000 0 (Sh, V, L, n) = some (Sh, V', L, n) := by
  have h18 := h.2.1.2.1.2.1
  have hr := lp_rel (F := cm_X0_off_F36 gp x) (N := pNp w) (P := fun out => ∃ V', Tc Sh V0 L n ρ mt u V' (pOff w (pNp w)) ∧ out = (Sh, V', L, n)) (fun i s => ∃ Vi, s = (nI i, (Sh, Vi, L, n)) ∧ Tc Sh V0 L n ρ mt u Vi (pOff w i)) ?_ ?_ 1000 0 (nI 0, (Sh, V, L, n)) (by omega) (by omega) ⟨V, rfl, h⟩
  · obtain ⟨out, e1, V', e2, rfl⟩ := hr
    exact ⟨V', e2, e1⟩
  · intro i s hi hs
    obtain ⟨Vi, rfl, hT⟩ := hs
    have e1 : pNp (pOff w i) = pNp w := pNp_eq (pOff_2 i)
    have hF : FS0 Sh mt (u 0) := hT.1.1.1.1
    obtain ⟨-, ⟨p1, p2, p3, p4⟩, -, hL, -⟩ := hT.1
    simp only [zSh_T, zV_T, zL_T, zn_T] at p1 p3 hL
    have l5 : Vi (mt 5) 2 = nI (pNp w) := by rw [hL.1, hT.2.1.2.1.1, e1]
    rw [e1] at p1 p3
    obtain ⟨rf, r1, r2⟩ := p3 i hi
    have hT' := Tc_run hT (p := i) (by rw [e1]; exact hi)
    refine ⟨(nI (i + 1), (Sh, _, L, n)), fun rec => ?_, _, rfl, hT'⟩
    unfold cm_X0_off_F36
    simp (disch := omega) only [cm_X0_off_B36, zSh_T, zV_T, zL_T, zn_T, L_add, L_addR, L_mul, L_mulR, L_div, N_div, N_rem, L_sub, L_subN, nI_add, nI_mul, L_le, L_leR, L_lt, L_ltR, L_eq, N_leT, N_leF, N_ltT, N_ltF, N_eqT, N_eqF, N_m1, bnd_S, un2_S, un3_S, nmI_S, nmL_S, ptI_S, cs2_L, cs2_R, okI_b, okI_1, okI_0, rdI_in, wrI_in, rdI_L, wrI_L, rdL_in, wrL_in, if_true, if_false, x_tri hM, f_A hF, l_K p1, l_size p1, l5, l_get p1 l5 hi, zCk, zK_T r1, nn_eq, zPI_T r1 (r2 _ _), upd2_row]
  · intro s hs
    obtain ⟨Vi, rfl, hT⟩ := hs
    have e1 : pNp (pOff w (pNp w)) = pNp w := pNp_eq (pOff_2 _)
    have hF : FS0 Sh mt (u 0) := hT.1.1.1.1
    obtain ⟨-, ⟨p1, p2, p3, p4⟩, -, hL, -⟩ := hT.1
    simp only [zSh_T, zV_T, zL_T, zn_T] at p1 p3 hL
    have l5 : Vi (mt 5) 2 = nI (pNp w) := by rw [hL.1, hT.2.1.2.1.1, e1]
    refine ⟨_, fun rec => ?_, Vi, hT, rfl⟩
    unfold cm_X0_off_F36
    simp (disch := omega) only [cm_X0_off_B36, zSh_T, zV_T, zL_T, zn_T, L_add, L_addR, L_mul, L_mulR, L_div, N_div, N_rem, L_sub, L_subN, nI_add, nI_mul, L_le, L_leR, L_lt, L_ltR, L_eq, N_leT, N_leF, N_ltT, N_ltF, N_eqT, N_eqF, N_m1, bnd_S, un2_S, un3_S, nmI_S, nmL_S, ptI_S, cs2_L, cs2_R, okI_b, okI_1, okI_0, rdI_in, wrI_in, rdI_L, wrI_L, rdL_in, wrL_in, if_true, if_false, x_tri hM, f_A hF, l_K p1, l_size p1, l5]
theorem tw_off1 (h : Tt V0 V w) : ∃ V', Tt V0 V' (pOff w (pNp w)) ∧ tw_off_L26 1000 0 V = some V' := by
  have h18 := h.2.1.2.1.2.1
  have hr := lp_rel (F := tw_off_F26) (N := pNp w) (P := fun out => Tt V0 out (pOff w (pNp w))) (fun i s => ∃ Vi, s = (nI i, Vi) ∧ Tt V0 Vi (pOff w i)) ?_ ?_ 1000 0 (nI 0, V) (by omega) (by omega) ⟨V, rfl, h⟩
  · obtain ⟨out, e1, e2⟩ := hr
    exact ⟨out, e2, e1⟩
  · intro i s hi hs
    obtain ⟨Vi, rfl, t1, t2, t3⟩ := hs
    have e1 : pNp (pOff w i) = pNp w := pNp_eq (pOff_2 i)
    have l2 : Vi 1 2 = nI (pNp w) := by rw [t1, t2.2.1.1, e1]
    refine ⟨(nI (i + 1), rowV Vi 1 (upd (Vi 1) (624 + 6 * i + 3) 0)), fun rec => ?_, _, rfl, ?_, ?_, fun a h1 h24 h25 h26 => ?_⟩
    · unfold tw_off_F26
      simp (disch := omega) only [tw_off_B26, L_add, L_addR, L_mul, L_mulR, L_div, N_div, N_rem, L_sub, L_subN, nI_add, nI_mul, L_le, L_leR, L_lt, L_ltR, L_eq, N_leT, N_leF, N_ltT, N_ltF, N_eqT, N_eqF, N_m1, bnd_S, un2_S, un3_S, nmI_S, nmL_S, ptI_S, cs2_L, cs2_R, okI_b, okI_1, okI_0, rdI_in, wrI_in, rdI_L, wrI_L, rdL_in, wrL_in, if_true, if_false, l2, upd2_row]
    · rw [rowV_eq, t1]; rfl
    · rcases pGood_run t2 (p := i) false with h | h
      · exact h
      · exact absurd (by rw [e1]; exact hi) h
    · rw [rowV_ne h1]; exact t3 a h1 h24 h25 h26
  · intro s hs
    obtain ⟨Vi, rfl, t1, t2, t3⟩ := hs
    have e1 : pNp (pOff w (pNp w)) = pNp w := pNp_eq (pOff_2 _)
    have l2 : Vi 1 2 = nI (pNp w) := by rw [t1, t2.2.1.1, e1]
    refine ⟨Vi, fun rec => ?_, t1, t2, t3⟩
    unfold tw_off_F26
    simp (disch := omega) only [tw_off_B26, L_add, L_addR, L_mul, L_mulR, L_div, N_div, N_rem, L_sub, L_subN, nI_add, nI_mul, L_le, L_leR, L_lt, L_ltR, L_eq, N_leT, N_leF, N_ltT, N_ltF, N_eqT, N_eqF, N_m1, bnd_S, un2_S, un3_S, nmI_S, nmL_S, ptI_S, cs2_L, cs2_R, okI_b, okI_1, okI_0, rdI_in, wrI_in, rdI_L, wrI_L, rdL_in, wrL_in, if_true, if_false, l2]
theorem cm_off2 (hM : GM Sh x m0 (mt 0) q) (h : Tc Sh V0 L n ρ mt u V w) {K : Nat} (hK : K ≤ 60) (hf : ∀ j, j < K → (!pShut (pTk w (j + 1))) = false) (ht : K < 60 → (!pShut (pTk w (K + 1))) = true) : ∃ V' w', Tc Sh V0 L n ρ mt u V' w' ∧ cm_X0_off_L80 gp x 1000 1 (Sh, V, L, n) = some (if K < 60 then .inr (nI (K + 1), (Sh, V', L, n)) else .inl (Sh, V', L, n)) := by
  have hF : FS0 Sh mt (u 0) := h.1.1.1.1
  have hr := lp_rel (F := cm_X0_off_F80 gp x) (N := K) (P := fun out => ∃ V' w', Tc Sh V0 L n ρ mt u V' w' ∧ out = (if K < 60 then .inr (nI (K + 1), (Sh, V', L, n)) else .inl (Sh, V', L, n))) (fun i s => ∃ Vi, s = (nI (i + 1), (Sh, Vi, L, n)) ∧ Tc Sh V0 L n ρ mt u Vi (pTk w i)) ?_ ?_ 1000 0 (nI (0 + 1), (Sh, V, L, n)) (by omega) (by omega) ⟨V, rfl, h⟩
  · obtain ⟨out, e1, V', w', e2, rfl⟩ := hr
    exact ⟨V', w', e2, e1⟩
  · intro i s hi hs
    obtain ⟨Vi, rfl, hT⟩ := hs
    obtain ⟨Vb, b1, b2⟩ := Tc_tick hT
    obtain ⟨Va, a1, a2⟩ := Tc_shut b2
    have hs : pShut (pTk w (i + 1)) = true := by have := hf i hi; revert this; cases pShut (pTk w (i + 1)) <;> simp
    rw [show pTicks (pTk w i) = pTk w (i + 1) from rfl, hs] at a1
    refine ⟨(nI (i + 1 + 1), (Sh, Va, L, n)), fun rec => ?_, Va, rfl, a2⟩
    unfold cm_X0_off_F80
    simp (disch := omega) only [cm_X0_off_B80, zSh_T, zV_T, zL_T, zn_T, L_add, L_addR, L_mul, L_mulR, L_div, N_div, N_rem, L_sub, L_subN, nI_add, nI_mul, L_le, L_leR, L_lt, L_ltR, L_eq, N_leT, N_leF, N_ltT, N_ltF, N_eqT, N_eqF, N_m1, bnd_S, un2_S, un3_S, nmI_S, nmL_S, ptI_S, cs2_L, cs2_R, okI_b, okI_1, okI_0, rdI_in, wrI_in, rdI_L, wrI_L, rdL_in, wrL_in, if_true, if_false, x_tri hM, f_KT hF, a1, b2iF, b1, Bool.true_eq_false]
  · intro s hs
    obtain ⟨Vi, rfl, hT⟩ := hs
    by_cases h61 : K < 60
    · obtain ⟨Vb, b1, b2⟩ := Tc_tick hT
      obtain ⟨Va, a1, a2⟩ := Tc_shut b2
      have hs : pShut (pTk w (K + 1)) = false := by have := ht h61; revert this; cases pShut (pTk w (K + 1)) <;> simp
      rw [show pTicks (pTk w K) = pTk w (K + 1) from rfl, hs] at a1
      refine ⟨_, fun rec => ?_, Va, _, a2, rfl⟩
      unfold cm_X0_off_F80
      simp (disch := omega) only [cm_X0_off_B80, zSh_T, zV_T, zL_T, zn_T, L_add, L_addR, L_mul, L_mulR, L_div, N_div, N_rem, L_sub, L_subN, nI_add, nI_mul, L_le, L_leR, L_lt, L_ltR, L_eq, N_leT, N_leF, N_ltT, N_ltF, N_eqT, N_eqF, N_m1, bnd_S, un2_S, un3_S, nmI_S, nmL_S, ptI_S, cs2_L, cs2_R, okI_b, okI_1, okI_0, rdI_in, wrI_in, rdI_L, wrI_L, rdL_in, wrL_in, if_true, if_false, x_tri hM, f_KT hF, a1, b1, b2iF]
      rw [if_pos h61]
    · refine ⟨_, fun rec => ?_, Vi, _, hT, rfl⟩
      unfold cm_X0_off_F80
      simp (disch := omega) only [cm_X0_off_B80, L_add, L_addR, L_mul, L_mulR, L_div, N_div, N_rem, L_sub, L_subN, nI_add, nI_mul, L_le, L_leR, L_lt, L_ltR, L_eq, N_leT, N_leF, N_ltT, N_ltF, N_eqT, N_eqF, N_m1, bnd_S, un2_S, un3_S, nmI_S, nmL_S, ptI_S, cs2_L, cs2_R, okI_b, okI_1, okI_0, rdI_in, wrI_in, rdI_L, wrI_L, rdL_in, wrL_in, if_true, if_false]
      rw [if_neg h61]
theorem tw_off2 (h : Tt V0 V w) {K : Nat} (hK : K ≤ 60) (hf : ∀ j, j < K → (!pShut (pTk w (j + 1))) = false) (ht : K < 60 → (!pShut (pTk w (K + 1))) = true) : ∃ V' w', Tt V0 V' w' ∧ tw_off_L62 1000 (-1) 1 V = some (if K < 60 then nI (K + 1) else -1, V') := by
  have go : ∀ i V, i ≤ K → i < 60 → Tt V0 V (pTk w i) → ∃ V', Tt V0 V' (pTk w (i + 1)) ∧ ∀ rec, tw_off_F62 rec (-1, nI (i + 1), V) = rec (if pShut (pTk w (i + 1)) = false then nI (i + 1) else -1, nI (i + 1 + 1), V') := by
    intro i V hi h61 hT
    unfold tw_off_F62
    obtain ⟨Va, b1, b2⟩ := Tt_tick hT
    obtain ⟨V', a1, a2⟩ := Tt_shut b2
    refine ⟨V', a2, fun rec => ?_⟩
    simp (disch := omega) only [tw_off_B62, L_add, L_addR, L_mul, L_mulR, L_div, N_div, N_rem, L_sub, L_subN, nI_add, nI_mul, L_le, L_leR, L_lt, L_ltR, L_eq, N_leT, N_leF, N_ltT, N_ltF, N_eqT, N_eqF, N_m1, bnd_S, un2_S, un3_S, nmI_S, nmL_S, ptI_S, cs2_L, cs2_R, okI_b, okI_1, okI_0, rdI_in, wrI_in, rdI_L, wrI_L, rdL_in, wrL_in, if_true, if_false, a1, b1, b2iF]
    have : pTicks (pTk w i) = pTk w (i + 1) := rfl
    rw [this]
    split <;> rfl
  have hr := lp_rel (F := tw_off_F62) (N := if K < 60 then K + 1 else K) (P := fun out => ∃ V' w', Tt V0 V' w' ∧ out = (if K < 60 then nI (K + 1) else -1, V')) (fun i s => ∃ V, (i ≤ K ∧ s = (-1, nI (i + 1), V) ∧ Tt V0 V (pTk w i)) ∨ (i = K + 1 ∧ s = (nI (K + 1), nI (K + 1 + 1), V) ∧ Tt V0 V (pTk w (K + 1)))) ?_ ?_ 1000 0 (-1, nI (0 + 1), V) (by omega) (by split <;> omega) ⟨V, Or.inl ⟨by omega, rfl, h⟩⟩
  · obtain ⟨out, e1, V', w', e2, rfl⟩ := hr
    exact ⟨V', w', e2, e1⟩
  · intro i s hi hs
    obtain ⟨Vi, ⟨hiK, rfl, hT⟩ | ⟨hiK, rfl, hT⟩⟩ := hs
    · have h61 : i < 60 := by split at hi <;> omega
      obtain ⟨V', c1, c2⟩ := go i Vi hiK h61 hT
      refine ⟨_, c2, V', ?_⟩
      by_cases e : i = K
      · right
        subst e
        have hs : pShut (pTk w (i + 1)) = false := by have := ht h61; revert this; cases pShut (pTk w (i + 1)) <;> simp
        rw [hs, if_pos rfl]
        exact ⟨rfl, rfl, c1⟩
      · left
        have hs : pShut (pTk w (i + 1)) = true := by have := hf i (by omega); revert this; cases pShut (pTk w (i + 1)) <;> simp
        rw [hs, if_neg (by simp)]
        exact ⟨by omega, rfl, c1⟩
    · exfalso
      split at hi <;> omega
  · intro s hs
    obtain ⟨Vi, ⟨hiK, rfl, hT⟩ | ⟨hiK, rfl, hT⟩⟩ := hs
    · have h61 : ¬ K < 60 := by intro h; rw [if_pos h] at hiK; omega
      have e61 : K = 60 := by omega
      refine ⟨_, fun rec => ?_, Vi, _, hT, rfl⟩
      unfold tw_off_F62
      rw [if_neg h61, if_neg h61]
      simp (disch := omega) only [tw_off_B62, L_add, L_addR, L_mul, L_mulR, L_div, N_div, N_rem, L_sub, L_subN, nI_add, nI_mul, L_le, L_leR, L_lt, L_ltR, L_eq, N_leT, N_leF, N_ltT, N_ltF, N_eqT, N_eqF, N_m1, bnd_S, un2_S, un3_S, nmI_S, nmL_S, ptI_S, cs2_L, cs2_R, okI_b, okI_1, okI_0, rdI_in, wrI_in, rdI_L, wrI_L, rdL_in, wrL_in, if_true, if_false]
    · have h61 : K < 60 := by by_cases h : K < 60; · exact h
                              · rw [if_neg h] at hiK; omega
      refine ⟨_, fun rec => ?_, Vi, _, hT, rfl⟩
      unfold tw_off_F62
      rw [if_pos h61]
      by_cases h60 : 60 < K + 1 + 1
      · simp (disch := omega) only [tw_off_B62, L_add, L_addR, L_mul, L_mulR, L_div, N_div, N_rem, L_sub, L_subN, nI_add, nI_mul, L_le, L_leR, L_lt, L_ltR, L_eq, N_leT, N_leF, N_ltT, N_ltF, N_eqT, N_eqF, N_m1, bnd_S, un2_S, un3_S, nmI_S, nmL_S, ptI_S, cs2_L, cs2_R, okI_b, okI_1, okI_0, rdI_in, wrI_in, rdI_L, wrI_L, rdL_in, wrL_in, if_true, if_false]
      · simp (disch := omega) only [tw_off_B62, L_add, L_addR, L_mul, L_mulR, L_div, N_div, N_rem, L_sub, L_subN, nI_add, nI_mul, L_le, L_leR, L_lt, L_ltR, L_eq, N_leT, N_leF, N_ltT, N_ltF, N_eqT, N_eqF, N_m1, bnd_S, un2_S, un3_S, nmI_S, nmL_S, ptI_S, cs2_L, cs2_R, okI_b, okI_1, okI_0, rdI_in, wrI_in, rdI_L, wrI_L, rdL_in, wrL_in, if_true, if_false]
/-- the reference after a trial -/
theorem Tt_end (h : Tt (rowV V2 2 (fun i => if i < 810 then V2 1 i else V2 2 i)) V w) : TwK V2 (rowV V 1 (fun i => if i < 810 then V 2 i else V 1 i)) ∧ (∀ j, j < 810 → rowV V 1 (fun i => if i < 810 then V 2 i else V 1 i) 1 j = V2 1 j) ∧ ∀ j, j ≠ 1 → j ≠ 2 → j ≠ 24 → j ≠ 25 → j ≠ 26 → rowV V 1 (fun i => if i < 810 then V 2 i else V 1 i) j = V2 j := by
  have b3 := h.2.2
  have bb : ∀ a, a ≠ 1 → a ≠ 2 → a ≠ 24 → a ≠ 25 → a ≠ 26 → rowV V 1 (fun i => if i < 810 then V 2 i else V 1 i) a = V2 a := fun a h1 h2 h24 h25 h26 => by rw [rowV_ne h1, b3 a h1 h24 h25 h26, rowV_ne h2]
  have b0 := bb 0 (by omega) (by omega) (by omega) (by omega) (by omega)
  refine ⟨⟨bb 3 (by omega) (by omega) (by omega) (by omega) (by omega), bb 4 (by omega) (by omega) (by omega) (by omega) (by omega), bb 5 (by omega) (by omega) (by omega) (by omega) (by omega), bb 33 (by omega) (by omega) (by omega) (by omega) (by omega), bb 36 (by omega) (by omega) (by omega) (by omega) (by omega), bb 37 (by omega) (by omega) (by omega) (by omega) (by omega), by rw [b0], by rw [b0], by rw [b0], by rw [b0], by rw [b0]⟩, fun j hj => ?_, bb⟩
  rw [rowV_eq, if_pos hj, b3 2 (by omega) (by omega) (by omega) (by omega), rowV_eq, if_pos hj]
theorem q_off (h : GG (Sh, V, L, n) x ρ m u mt q V2 L2) : Ans (cm_X0_off gp (Sh, V, L, n) x) (tw_off V2) x L2 := by
  have hM : GM Sh x (m 0) (mt 0) q := h.gm
  have hF : FS0 Sh m (u 0) := h.f0
  obtain ⟨Vs, g, s1, s2, hG0⟩ : ∃ Vs g, cm_X1_isShut (Sh, V, L, n) (m 0) = some (b2i (pShut (V2 1)), (Sh, Vs, L, n)) ∧ tw_isShut V2 = some (b2i (pShut (V2 1)), rowV V2 26 g) ∧ GG (Sh, Vs, L, n) x ρ m u mt q (rowV V2 26 g) L2 := by
    obtain ⟨A, B, e1⟩ := cm_isShut_eq h.fr.1 (pWayO_lt h.kok)
    obtain ⟨g, e2⟩ := tw_isShut_eq h.kok
    exact ⟨_, g, e1, e2, GG_way h A B g⟩
  obtain ⟨tt, np, nh, hX, -⟩ := hG0.2.1
  have hFt : FS0 Sh mt tt := hX.1
  unfold cm_X0_off tw_off
  simp only [zSh_T, zV_T, zL_T, zn_T, x_K hM, x_has h, tw_hasShaft_eq, bnd_S, b2iF, x_now hM, f_KT hF, s1, s2, un2_S]
  cases pHas (V2 1) with
  | false => exact ⟨_, _, _, rfl, rfl, h.g⟩
  | true =>
    simp only [Bool.true_eq_false, if_false]
    cases pShut (V2 1) with
    | false => exact ⟨_, _, _, rfl, rfl, hG0.g⟩
    | true =>
      simp only [Bool.true_eq_false, if_false]
      obtain ⟨Sh1, V1, n1, ρ1, mt1, e1, hG, e2, hT⟩ := x_try (gp := gp) hG0
      have hM1 : GM Sh1 x (m 0) (mt1 0) q := hG.gm
      have hTt : Tt (rowV (rowV V2 26 g) 2 (fun i => if i < 810 then rowV V2 26 g 1 i else rowV V2 26 g 2 i)) (rowV (rowV V2 26 g) 2 (fun i => if i < 810 then rowV V2 26 g 1 i else rowV V2 26 g 2 i)) (rowV V2 26 g 1) := ⟨rowV_ne (by omega), hG0.inv.1, fun _ _ _ _ _ => rfl⟩
      obtain ⟨Vc, c1, c2⟩ := cm_off1 (gp := gp) hM1 hT
      obtain ⟨Vd, d1, d2⟩ := tw_off1 hTt
      generalize hwo : pOff (rowV V2 26 g 1) (pNp (rowV V2 26 g 1)) = wo at c1 d1
      obtain ⟨K, k1, k2, k3⟩ := first_b (fun j => !pShut (pTk wo (j + 1))) 60
      obtain ⟨Va, wa, a1, a2⟩ := cm_off2 (gp := gp) hM1 c1 k1 k2 k3
      obtain ⟨Vb, wb, b1, b2⟩ := tw_off2 d1 k1 k2 k3
      obtain ⟨t1, t2, -⟩ := Tt_end b1
      have hGe := GG_end hG a1 t1 t2
      simp only [zSh_T, zV_T, zL_T, zn_T, bnd_S, x_tri hM, x_now hM, f_KT hFt, e1, tw_saves_eq, c2, d2, a2, b2, un2_S, tw_putsBack_eq]
      by_cases h61 : K < 60
      · rw [if_pos h61, if_pos h61]
        exact ⟨_, _, _, rfl, rfl, hGe.g⟩
      · rw [if_neg h61, if_neg h61]
        exact ⟨_, _, _, rfl, rfl, hGe.g⟩
end OF
