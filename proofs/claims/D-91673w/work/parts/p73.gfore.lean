/-! PURE: what would be: foretell, off -/
set_option maxRecDepth 100000
theorem first_b (P : Nat → Bool) (M : Nat) : ∃ K, K ≤ M ∧ (∀ j, j < K → P j = false) ∧ (K < M → P K = true) := by
  induction M with
  | zero => exact ⟨0, Nat.le_refl 0, fun j hj => by omega, fun h => by omega⟩
  | succ M ih =>
    obtain ⟨K, h1, h2, h3⟩ := ih
    by_cases hK : K < M
    · exact ⟨K, by omega, h2, fun _ => h3 hK⟩
    · have : K = M := by omega
      subst this
      cases hp : P K with
      | true => exact ⟨K, by omega, h2, fun _ => hp⟩
      | false =>
        refine ⟨K + 1, by omega, fun j hj => ?_, fun h => by omega⟩
        by_cases e : j = K
        · rw [e]; exact hp
        · exact h2 j (by omega)
section FO
variable {Sh Sh' : g_Sh} {V V' V0 : g_V} {L L' : g_L} {n n' x : Nat} {m u mt mt' q ρ : Nat → Nat} {V2 V2' : g_V} {L2 : g_L} {w : Nat → Int32} {gp : Nat → Nat} {m0 : Nat}
theorem cm_fore (hM : GM Sh x m0 (mt 0) q) (h : Tc Sh V0 L n ρ mt u V w) {K : Nat} (hK : K ≤ 61) (hf : ∀ j, j < K → pShut (pTk w j) = false) (ht : K < 61 → pShut (pTk w K) = true) : ∃ V' w', Tc Sh V0 L n ρ mt u V' w' ∧ cm_X0_foretell_L23 gp x 1000 0 (Sh, V, L, n) = some (if K < 61 then .inr (nI K, (Sh, V', L, n)) else .inl (Sh, V', L, n)) := by
  have hF : FS0 Sh mt (u 0) := h.1.1.1.1
  have z1 : ¬ (1 : Int32) = 0 := by decide
  have hr := lp_rel (F := cm_X0_foretell_F23 gp x) (N := K) (P := fun out => ∃ V' w', Tc Sh V0 L n ρ mt u V' w' ∧ out = (if K < 61 then .inr (nI K, (Sh, V', L, n)) else .inl (Sh, V', L, n))) (fun i s => ∃ Vi, s = (nI i, (Sh, Vi, L, n)) ∧ Tc Sh V0 L n ρ mt u Vi (pTk w i)) ?_ ?_ 1000 0 (nI 0, (Sh, V, L, n)) (by omega) (by omega) ⟨V, rfl, h⟩
  · obtain ⟨out, e1, V', w', e2, rfl⟩ := hr
    exact ⟨V', w', e2, e1⟩
  · intro i s hi hs
    obtain ⟨Vi, rfl, hT⟩ := hs
    obtain ⟨Va, a1, a2⟩ := Tc_shut hT
    obtain ⟨Vb, b1, b2⟩ := Tc_tick a2
    rw [hf i hi] at a1
    refine ⟨(nI (i + 1), (Sh, Vb, L, n)), fun rec => ?_, Vb, rfl, b2⟩
    unfold cm_X0_foretell_F23
    simp (disch := omega) only [cm_X0_foretell_B23, zSh_T, zV_T, zL_T, zn_T, L_add, L_addR, L_mul, L_mulR, L_div, N_div, N_rem, L_sub, L_subN, nI_add, nI_mul, L_le, L_leR, L_lt, L_ltR, L_eq, N_leT, N_leF, N_ltT, N_ltF, N_eqT, N_eqF, N_m1, bnd_S, un2_S, un3_S, nmI_S, nmL_S, ptI_S, cs2_L, cs2_R, okI_b, okI_1, okI_0, rdI_in, wrI_in, rdI_L, wrI_L, rdL_in, wrL_in, if_true, if_false, x_tri hM, f_KT hF, a1, b2iF, b1]
  · intro s hs
    obtain ⟨Vi, rfl, hT⟩ := hs
    by_cases h61 : K < 61
    · obtain ⟨Va, a1, a2⟩ := Tc_shut hT
      rw [ht h61] at a1
      refine ⟨_, fun rec => ?_, Va, _, a2, rfl⟩
      unfold cm_X0_foretell_F23
      simp (disch := omega) only [cm_X0_foretell_B23, zSh_T, zV_T, zL_T, zn_T, L_add, L_addR, L_mul, L_mulR, L_div, N_div, N_rem, L_sub, L_subN, nI_add, nI_mul, L_le, L_leR, L_lt, L_ltR, L_eq, N_leT, N_leF, N_ltT, N_ltF, N_eqT, N_eqF, N_m1, bnd_S, un2_S, un3_S, nmI_S, nmL_S, ptI_S, cs2_L, cs2_R, okI_b, okI_1, okI_0, rdI_in, wrI_in, rdI_L, wrI_L, rdL_in, wrL_in, if_true, if_false, x_tri hM, f_KT hF, a1, b2iF, Bool.true_eq_false]
      rw [if_pos h61]
    · refine ⟨_, fun rec => ?_, Vi, _, hT, rfl⟩
      unfold cm_X0_foretell_F23
      simp (disch := omega) only [cm_X0_foretell_B23, L_add, L_addR, L_mul, L_mulR, L_div, N_div, N_rem, L_sub, L_subN, nI_add, nI_mul, L_le, L_leR, L_lt, L_ltR, L_eq, N_leT, N_leF, N_ltT, N_ltF, N_eqT, N_eqF, N_m1, bnd_S, un2_S, un3_S, nmI_S, nmL_S, ptI_S, cs2_L, cs2_R, okI_b, okI_1, okI_0, rdI_in, wrI_in, rdI_L, wrI_L, rdL_in, wrL_in, if_true, if_false]
      rw [if_neg h61]
theorem tw_fore (h : Tt V0 V w) {K : Nat} (hK : K ≤ 61) (hf : ∀ j, j < K → pShut (pTk w j) = false) (ht : K < 61 → pShut (pTk w K) = true) : ∃ V' w', Tt V0 V' w' ∧ tw_foretell_L18 1000 (-1) 0 V = some (if K < 61 then nI K else -1, V') := by
  have go : ∀ i V, i ≤ K → i < 61 → Tt V0 V (pTk w (i - 1)) → ∃ V', Tt V0 V' (pTk w i) ∧ ∀ rec, tw_foretell_F18 rec (-1, nI i, V) = rec (if pShut (pTk w i) = false then -1 else nI i, nI (i + 1), V') := by
    intro i V hi h61 hT
    unfold tw_foretell_F18
    by_cases h0 : i = 0
    · subst h0
      obtain ⟨V', a1, a2⟩ := Tt_shut hT
      refine ⟨V', a2, fun rec => ?_⟩
      simp (disch := omega) only [tw_foretell_B18, tw_foretell_J37, L_add, L_addR, L_mul, L_mulR, L_div, N_div, N_rem, L_sub, L_subN, nI_add, nI_mul, L_le, L_leR, L_lt, L_ltR, L_eq, N_leT, N_leF, N_ltT, N_ltF, N_eqT, N_eqF, N_m1, bnd_S, un2_S, un3_S, nmI_S, nmL_S, ptI_S, cs2_L, cs2_R, okI_b, okI_1, okI_0, rdI_in, wrI_in, rdI_L, wrI_L, rdL_in, wrL_in, if_true, if_false, a1, b2iF]
      have : pTk w (0 - 1) = pTk w 0 := rfl
      rw [this]
      split <;> rfl
    · obtain ⟨j, rfl⟩ : ∃ j, i = j + 1 := ⟨i - 1, by omega⟩
      obtain ⟨Va, b1, b2⟩ := Tt_tick hT
      obtain ⟨V', a1, a2⟩ := Tt_shut b2
      refine ⟨V', a2, fun rec => ?_⟩
      simp (disch := omega) only [tw_foretell_B18, tw_foretell_J37, L_add, L_addR, L_mul, L_mulR, L_div, N_div, N_rem, L_sub, L_subN, nI_add, nI_mul, L_le, L_leR, L_lt, L_ltR, L_eq, N_leT, N_leF, N_ltT, N_ltF, N_eqT, N_eqF, N_m1, bnd_S, un2_S, un3_S, nmI_S, nmL_S, ptI_S, cs2_L, cs2_R, okI_b, okI_1, okI_0, rdI_in, wrI_in, rdI_L, wrI_L, rdL_in, wrL_in, if_true, if_false, a1, b1, b2iF]
      have : pTicks (pTk w (j + 1 - 1)) = pTk w (j + 1) := rfl
      rw [this]
      split <;> rfl
  have hr := lp_rel (F := tw_foretell_F18) (N := if K < 61 then K + 1 else K) (P := fun out => ∃ V' w', Tt V0 V' w' ∧ out = (if K < 61 then nI K else -1, V')) (fun i s => ∃ V, (i ≤ K ∧ s = (-1, nI i, V) ∧ Tt V0 V (pTk w (i - 1))) ∨ (i = K + 1 ∧ s = (nI K, nI (K + 1), V) ∧ Tt V0 V (pTk w K))) ?_ ?_ 1000 0 (-1, nI 0, V) (by omega) (by split <;> omega) ⟨V, Or.inl ⟨by omega, rfl, h⟩⟩
  · obtain ⟨out, e1, V', w', e2, rfl⟩ := hr
    exact ⟨V', w', e2, e1⟩
  · intro i s hi hs
    obtain ⟨Vi, ⟨hiK, rfl, hT⟩ | ⟨hiK, rfl, hT⟩⟩ := hs
    · have h61 : i < 61 := by split at hi <;> omega
      obtain ⟨V', c1, c2⟩ := go i Vi hiK h61 hT
      refine ⟨_, c2, V', ?_⟩
      by_cases e : i = K
      · right
        subst e
        have h61 : i < 61 := h61
        rw [ht h61, if_neg (by simp)]
        exact ⟨rfl, rfl, c1⟩
      · left
        rw [hf i (by omega), if_pos rfl]
        exact ⟨by omega, rfl, c1⟩
    · exfalso
      split at hi <;> omega
  · intro s hs
    obtain ⟨Vi, ⟨hiK, rfl, hT⟩ | ⟨hiK, rfl, hT⟩⟩ := hs
    · have h61 : ¬ K < 61 := by intro h; rw [if_pos h] at hiK; omega
      have e61 : K = 61 := by omega
      refine ⟨_, fun rec => ?_, Vi, _, hT, rfl⟩
      unfold tw_foretell_F18
      rw [if_neg h61, if_neg h61]
      simp (disch := omega) only [tw_foretell_B18, L_add, L_addR, L_mul, L_mulR, L_div, N_div, N_rem, L_sub, L_subN, nI_add, nI_mul, L_le, L_leR, L_lt, L_ltR, L_eq, N_leT, N_leF, N_ltT, N_ltF, N_eqT, N_eqF, N_m1, bnd_S, un2_S, un3_S, nmI_S, nmL_S, ptI_S, cs2_L, cs2_R, okI_b, okI_1, okI_0, rdI_in, wrI_in, rdI_L, wrI_L, rdL_in, wrL_in, if_true, if_false]
    · have h61 : K < 61 := by by_cases h : K < 61; · exact h
                              · rw [if_neg h] at hiK; omega
      refine ⟨_, fun rec => ?_, Vi, _, hT, rfl⟩
      unfold tw_foretell_F18
      rw [if_pos h61]
      by_cases h60 : 60 < K + 1
      · simp (disch := omega) only [tw_foretell_B18, L_add, L_addR, L_mul, L_mulR, L_div, N_div, N_rem, L_sub, L_subN, nI_add, nI_mul, L_le, L_leR, L_lt, L_ltR, L_eq, N_leT, N_leF, N_ltT, N_ltF, N_eqT, N_eqF, N_m1, bnd_S, un2_S, un3_S, nmI_S, nmL_S, ptI_S, cs2_L, cs2_R, okI_b, okI_1, okI_0, rdI_in, wrI_in, rdI_L, wrI_L, rdL_in, wrL_in, if_true, if_false]
      · simp (disch := omega) only [tw_foretell_B18, L_add, L_addR, L_mul, L_mulR, L_div, N_div, N_rem, L_sub, L_subN, nI_add, nI_mul, L_le, L_leR, L_lt, L_ltR, L_eq, N_leT, N_leF, N_ltT, N_ltF, N_eqT, N_eqF, N_m1, bnd_S, un2_S, un3_S, nmI_S, nmL_S, ptI_S, cs2_L, cs2_R, okI_b, okI_1, okI_0, rdI_in, wrI_in, rdI_L, wrI_L, rdL_in, wrL_in, if_true, if_false]
theorem q_foretell (h : GG (Sh, V, L, n) x ρ m u mt q V2 L2) : Ans (cm_X0_foretell gp (Sh, V, L, n) x) (tw_foretell V2) x L2 := by
  have hM : GM Sh x (m 0) (mt 0) q := h.gm
  obtain ⟨tt, np, nh, hX, -⟩ := h.2.1
  have hFt : FS0 Sh mt tt := hX.1
  unfold cm_X0_foretell tw_foretell
  simp only [zSh_T, zV_T, zL_T, zn_T, x_K hM, x_has h, tw_hasShaft_eq, bnd_S, b2iF]
  cases pHas (V2 1) with
  | false => exact ⟨_, _, _, rfl, rfl, h.g⟩
  | true =>
    obtain ⟨Sh1, V1, n1, ρ1, mt1, e1, hG, e2, hT⟩ := x_try (gp := gp) h
    have hM1 : GM Sh1 x (m 0) (mt1 0) q := hG.gm
    obtain ⟨K, k1, k2, k3⟩ := first_b (fun j => pShut (pTk (V2 1) j)) 61
    obtain ⟨Va, wa, a1, a2⟩ := cm_fore (gp := gp) hM1 hT k1 k2 k3
    have hTt : Tt (rowV V2 2 (fun i => if i < 810 then V2 1 i else V2 2 i)) (rowV V2 2 (fun i => if i < 810 then V2 1 i else V2 2 i)) (V2 1) := ⟨rowV_ne (by omega), h.inv.1, fun _ _ _ _ _ => rfl⟩
    obtain ⟨Vb, wb, b1, b2⟩ := tw_fore hTt k1 k2 k3
    have b3 := b1.2.2
    have bb : ∀ a, a ≠ 1 → a ≠ 2 → a ≠ 24 → a ≠ 25 → a ≠ 26 → rowV Vb 1 (fun i => if i < 810 then Vb 2 i else Vb 1 i) a = V2 a := fun a h1 h2 h24 h25 h26 => by rw [rowV_ne h1, b3 a h1 h24 h25 h26, rowV_ne h2]
    have hGe : GG (Sh1, Va, L, n1) x ρ1 m u mt1 q (rowV Vb 1 (fun i => if i < 810 then Vb 2 i else Vb 1 i)) L2 := by
      refine GG_end hG a1 ⟨bb 3 (by omega) (by omega) (by omega) (by omega) (by omega), bb 4 (by omega) (by omega) (by omega) (by omega) (by omega), bb 5 (by omega) (by omega) (by omega) (by omega) (by omega), bb 33 (by omega) (by omega) (by omega) (by omega) (by omega), bb 36 (by omega) (by omega) (by omega) (by omega) (by omega), bb 37 (by omega) (by omega) (by omega) (by omega) (by omega), ?_, ?_, ?_, ?_, ?_⟩ (fun j hj => ?_)
      · rw [bb 0 (by omega) (by omega) (by omega) (by omega) (by omega)]
      · rw [bb 0 (by omega) (by omega) (by omega) (by omega) (by omega)]
      · rw [bb 0 (by omega) (by omega) (by omega) (by omega) (by omega)]
      · rw [bb 0 (by omega) (by omega) (by omega) (by omega) (by omega)]
      · rw [bb 0 (by omega) (by omega) (by omega) (by omega) (by omega)]
      · rw [rowV_eq, if_pos hj, b3 2 (by omega) (by omega) (by omega) (by omega), rowV_eq, if_pos hj]
    simp only [zSh_T, zV_T, zL_T, zn_T, bnd_S, Bool.true_eq_false, if_false, x_tri hM, x_now hM, f_KT hFt, e1, tw_saves_eq, a2, b2, un2_S, tw_putsBack_eq]
    by_cases h61 : K < 61
    · rw [if_pos h61, if_pos h61]
      exact ⟨_, _, _, rfl, rfl, hGe.g⟩
    · rw [if_neg h61, if_neg h61]
      exact ⟨_, _, _, rfl, rfl, hGe.g⟩
end FO
