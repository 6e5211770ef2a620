/-! PURE: more calls that ask: most, count, pipes, houses, cells -/
set_option maxRecDepth 100000
section Q3
variable {Sh : g_Sh} {V : g_V} {L : g_L} {n x : Nat} {m u mt q ρ : Nat → Nat} {V2 : g_V} {L2 : g_L}
theorem q_most (h : GG (Sh, V, L, n) x ρ m u mt q V2 L2) (a : Int32) : AnQ (cm_X0_most (Sh, V, L, n) x a) (tw_most V2 a) := by
  have hM : GM Sh x (m 0) (mt 0) q := h.gm
  have hF : FS0 Sh m (u 0) := h.f0
  have hA : FSa Sh m := h.fa
  have hV : VA V m (V2 1) := h.va
  unfold cm_X0_most tw_most
  simp only [cm_in_tw]
  rcases in_N (a := a) (hi := 1) (N := 2) (by omega) (by decide) with h1 | ⟨y, hy, ey, h1⟩
  · rw [h1]; exact ⟨_, rfl, rfl⟩
  · rw [h1]
    refine AnQ_b ?_
    have key : ∀ i (s s' : Int32 × Int32), i ≤ 144 → (∃ o : Option Nat, (∀ b, o = some b → b < 144) ∧ s = (oI0 o, nI i) ∧ s' = (oI0 o, nI i)) → (∃ o o' : Int32, (∀ rec, cm_X0_most_F16 x a (Sh, V, L, n) rec s = some o) ∧ (∀ rec, tw_most_F16 a V2 rec s' = some o') ∧ o = o') ∨ (i < 144 ∧ ∃ t t', (∀ rec, cm_X0_most_F16 x a (Sh, V, L, n) rec s = rec t) ∧ (∀ rec, tw_most_F16 a V2 rec s' = rec t') ∧ ∃ o : Option Nat, (∀ b, o = some b → b < 144) ∧ t = (oI0 o, nI (i + 1)) ∧ t' = (oI0 o, nI (i + 1))) := by
      intro i s s' hi hR
      obtain ⟨o, ho, rfl, rfl⟩ := hR
      by_cases hl : i < 144
      · right
        refine ⟨hl, ?_⟩
        have d1 : V (m 4) i = b2i (pDug (V2 1) i) := VA_dug (Z := (Sh, V, L, n)) hV hl
        have d2 := tw_isDug_eq (V := V2) hl
        have d3 := (hV i hl).1
        unfold cm_X0_most_F16 tw_most_F16
        cases hd : pDug (V2 1) i with
        | true =>
          rw [hd] at d1 d2
          refine ⟨(oI0 o, nI (i + 1)), (oI0 o, nI (i + 1)), fun rec => ?_, fun rec => ?_, o, ho, rfl, rfl⟩
          · simp (disch := omega) only [cm_X0_most_B16, zSh_T, zV_T, zL_T, zn_T, L_add, L_addR, L_mul, L_mulR, L_div, N_div, N_rem, L_sub, L_subN, nI_add, nI_mul, L_le, L_leR, L_lt, L_ltR, L_eq, N_leT, N_leF, N_ltT, N_ltF, N_eqT, N_eqF, N_m1, bnd_S, un2_S, un3_S, nmI_S, nmL_S, ptI_S, cs2_L, cs2_R, okI_b, okI_1, okI_0, rdI_in, wrI_in, rdI_L, wrI_L, rdL_in, wrL_in, if_true, if_false, x_now hM, f_A hF, caI_eq hA.2.2.2.1, d1, b2iF, Bool.true_eq_false]
          · simp (disch := omega) only [tw_most_B16, L_add, L_addR, L_mul, L_mulR, L_div, N_div, N_rem, L_sub, L_subN, nI_add, nI_mul, L_le, L_leR, L_lt, L_ltR, L_eq, N_leT, N_leF, N_ltT, N_ltF, N_eqT, N_eqF, N_m1, bnd_S, un2_S, un3_S, nmI_S, nmL_S, ptI_S, cs2_L, cs2_R, okI_b, okI_1, okI_0, rdI_in, wrI_in, rdI_L, wrI_L, rdL_in, wrL_in, if_true, if_false, d2, b2iF, Bool.true_eq_false]
        | false =>
          rw [hd] at d1 d2
          cases o with
          | none =>
            refine ⟨(oI0 (some i), nI (i + 1)), (oI0 (some i), nI (i + 1)), fun rec => ?_, fun rec => ?_, some i, fun b e => (by cases e; exact hl), rfl, rfl⟩
            · simp (disch := omega) only [cm_X0_most_B16, zSh_T, zV_T, zL_T, zn_T, L_add, L_addR, L_mul, L_mulR, L_div, N_div, N_rem, L_sub, L_subN, nI_add, nI_mul, L_le, L_leR, L_lt, L_ltR, L_eq, N_leT, N_leF, N_ltT, N_ltF, N_eqT, N_eqF, N_m1, bnd_S, un2_S, un3_S, nmI_S, nmL_S, ptI_S, cs2_L, cs2_R, okI_b, okI_1, okI_0, rdI_in, wrI_in, rdI_L, wrI_L, rdL_in, wrL_in, if_true, if_false, x_now hM, f_A hF, caI_eq hA.2.2.2.1, d1, b2iF, oI0_N, oI0_S]
            · simp (disch := omega) only [tw_most_B16, L_add, L_addR, L_mul, L_mulR, L_div, N_div, N_rem, L_sub, L_subN, nI_add, nI_mul, L_le, L_leR, L_lt, L_ltR, L_eq, N_leT, N_leF, N_ltT, N_ltF, N_eqT, N_eqF, N_m1, bnd_S, un2_S, un3_S, nmI_S, nmL_S, ptI_S, cs2_L, cs2_R, okI_b, okI_1, okI_0, rdI_in, wrI_in, rdI_L, wrI_L, rdL_in, wrL_in, if_true, if_false, d2, b2iF, oI0_N, oI0_S]
          | some b =>
            have hb := ho b rfl
            have d4 := (hV b hb).1
            by_cases ha : a = 0
            · by_cases hc : V2 1 (192 + b) ≤ V2 1 (192 + i)
              · refine ⟨(oI0 (some b), nI (i + 1)), (oI0 (some b), nI (i + 1)), fun rec => ?_, fun rec => ?_, some b, ho, rfl, rfl⟩
                · simp (disch := omega) only [cm_X0_most_B16, zSh_T, zV_T, zL_T, zn_T, L_add, L_addR, L_mul, L_mulR, L_div, N_div, N_rem, L_sub, L_subN, nI_add, nI_mul, L_le, L_leR, L_lt, L_ltR, L_eq, N_leT, N_leF, N_ltT, N_ltF, N_eqT, N_eqF, N_m1, bnd_S, un2_S, un3_S, nmI_S, nmL_S, ptI_S, cs2_L, cs2_R, okI_b, okI_1, okI_0, rdI_in, wrI_in, rdI_L, wrI_L, rdL_in, wrL_in, if_true, if_false, x_now hM, f_A hF, caI_eq hA.2.2.2.1, d1, b2iF, oI0_N, oI0_S, ha, caI_eq hA.1, d3, d4, hc]
                · simp (disch := omega) only [tw_most_B16, L_add, L_addR, L_mul, L_mulR, L_div, N_div, N_rem, L_sub, L_subN, nI_add, nI_mul, L_le, L_leR, L_lt, L_ltR, L_eq, N_leT, N_leF, N_ltT, N_ltF, N_eqT, N_eqF, N_m1, bnd_S, un2_S, un3_S, nmI_S, nmL_S, ptI_S, cs2_L, cs2_R, okI_b, okI_1, okI_0, rdI_in, wrI_in, rdI_L, wrI_L, rdL_in, wrL_in, if_true, if_false, d2, b2iF, oI0_N, oI0_S, ha, hc]
              · refine ⟨(oI0 (some i), nI (i + 1)), (oI0 (some i), nI (i + 1)), fun rec => ?_, fun rec => ?_, some i, fun b e => (by cases e; exact hl), rfl, rfl⟩
                · simp (disch := omega) only [cm_X0_most_B16, zSh_T, zV_T, zL_T, zn_T, L_add, L_addR, L_mul, L_mulR, L_div, N_div, N_rem, L_sub, L_subN, nI_add, nI_mul, L_le, L_leR, L_lt, L_ltR, L_eq, N_leT, N_leF, N_ltT, N_ltF, N_eqT, N_eqF, N_m1, bnd_S, un2_S, un3_S, nmI_S, nmL_S, ptI_S, cs2_L, cs2_R, okI_b, okI_1, okI_0, rdI_in, wrI_in, rdI_L, wrI_L, rdL_in, wrL_in, if_true, if_false, x_now hM, f_A hF, caI_eq hA.2.2.2.1, d1, b2iF, oI0_N, oI0_S, ha, caI_eq hA.1, d3, d4, hc]
                · simp (disch := omega) only [tw_most_B16, L_add, L_addR, L_mul, L_mulR, L_div, N_div, N_rem, L_sub, L_subN, nI_add, nI_mul, L_le, L_leR, L_lt, L_ltR, L_eq, N_leT, N_leF, N_ltT, N_ltF, N_eqT, N_eqF, N_m1, bnd_S, un2_S, un3_S, nmI_S, nmL_S, ptI_S, cs2_L, cs2_R, okI_b, okI_1, okI_0, rdI_in, wrI_in, rdI_L, wrI_L, rdL_in, wrL_in, if_true, if_false, d2, b2iF, oI0_N, oI0_S, ha, hc]
            · by_cases hc : V2 1 (192 + i) ≤ V2 1 (192 + b)
              · refine ⟨(oI0 (some b), nI (i + 1)), (oI0 (some b), nI (i + 1)), fun rec => ?_, fun rec => ?_, some b, ho, rfl, rfl⟩
                · simp (disch := omega) only [cm_X0_most_B16, zSh_T, zV_T, zL_T, zn_T, L_add, L_addR, L_mul, L_mulR, L_div, N_div, N_rem, L_sub, L_subN, nI_add, nI_mul, L_le, L_leR, L_lt, L_ltR, L_eq, N_leT, N_leF, N_ltT, N_ltF, N_eqT, N_eqF, N_m1, bnd_S, un2_S, un3_S, nmI_S, nmL_S, ptI_S, cs2_L, cs2_R, okI_b, okI_1, okI_0, rdI_in, wrI_in, rdI_L, wrI_L, rdL_in, wrL_in, if_true, if_false, x_now hM, f_A hF, caI_eq hA.2.2.2.1, d1, b2iF, oI0_N, oI0_S, ha, caI_eq hA.1, d3, d4, hc]
                · simp (disch := omega) only [tw_most_B16, L_add, L_addR, L_mul, L_mulR, L_div, N_div, N_rem, L_sub, L_subN, nI_add, nI_mul, L_le, L_leR, L_lt, L_ltR, L_eq, N_leT, N_leF, N_ltT, N_ltF, N_eqT, N_eqF, N_m1, bnd_S, un2_S, un3_S, nmI_S, nmL_S, ptI_S, cs2_L, cs2_R, okI_b, okI_1, okI_0, rdI_in, wrI_in, rdI_L, wrI_L, rdL_in, wrL_in, if_true, if_false, d2, b2iF, oI0_N, oI0_S, ha, hc]
              · refine ⟨(oI0 (some i), nI (i + 1)), (oI0 (some i), nI (i + 1)), fun rec => ?_, fun rec => ?_, some i, fun b e => (by cases e; exact hl), rfl, rfl⟩
                · simp (disch := omega) only [cm_X0_most_B16, zSh_T, zV_T, zL_T, zn_T, L_add, L_addR, L_mul, L_mulR, L_div, N_div, N_rem, L_sub, L_subN, nI_add, nI_mul, L_le, L_leR, L_lt, L_ltR, L_eq, N_leT, N_leF, N_ltT, N_ltF, N_eqT, N_eqF, N_m1, bnd_S, un2_S, un3_S, nmI_S, nmL_S, ptI_S, cs2_L, cs2_R, okI_b, okI_1, okI_0, rdI_in, wrI_in, rdI_L, wrI_L, rdL_in, wrL_in, if_true, if_false, x_now hM, f_A hF, caI_eq hA.2.2.2.1, d1, b2iF, oI0_N, oI0_S, ha, caI_eq hA.1, d3, d4, hc]
                · simp (disch := omega) only [tw_most_B16, L_add, L_addR, L_mul, L_mulR, L_div, N_div, N_rem, L_sub, L_subN, nI_add, nI_mul, L_le, L_leR, L_lt, L_ltR, L_eq, N_leT, N_leF, N_ltT, N_ltF, N_eqT, N_eqF, N_m1, bnd_S, un2_S, un3_S, nmI_S, nmL_S, ptI_S, cs2_L, cs2_R, okI_b, okI_1, okI_0, rdI_in, wrI_in, rdI_L, wrI_L, rdL_in, wrL_in, if_true, if_false, d2, b2iF, oI0_N, oI0_S, ha, hc]
      · have : i = 144 := by omega
        subst this
        left
        refine ⟨oI0 o, oI0 o, fun rec => ?_, fun rec => ?_, rfl⟩
        · unfold cm_X0_most_F16
          simp (disch := omega) only [cm_X0_most_B16, L_add, L_addR, L_mul, L_mulR, L_div, N_div, N_rem, L_sub, L_subN, nI_add, nI_mul, L_le, L_leR, L_lt, L_ltR, L_eq, N_leT, N_leF, N_ltT, N_ltF, N_eqT, N_eqF, N_m1, bnd_S, un2_S, un3_S, nmI_S, nmL_S, ptI_S, cs2_L, cs2_R, okI_b, okI_1, okI_0, rdI_in, wrI_in, rdI_L, wrI_L, rdL_in, wrL_in, if_true, if_false]
        · unfold tw_most_F16
          simp (disch := omega) only [tw_most_B16, L_add, L_addR, L_mul, L_mulR, L_div, N_div, N_rem, L_sub, L_subN, nI_add, nI_mul, L_le, L_leR, L_lt, L_ltR, L_eq, N_leT, N_leF, N_ltT, N_ltF, N_eqT, N_eqF, N_m1, bnd_S, un2_S, un3_S, nmI_S, nmL_S, ptI_S, cs2_L, cs2_R, okI_b, okI_1, okI_0, rdI_in, wrI_in, rdI_L, wrI_L, rdL_in, wrL_in, if_true, if_false]
    obtain ⟨o, o', h1, h2, h3⟩ := lp_sim (P := fun o o' => o = o') (fun i s s' => ∃ o : Option Nat, (∀ b, o = some b → b < 144) ∧ s = (oI0 o, nI i) ∧ s' = (oI0 o, nI i)) key 1000 1000 0 (-1, nI 0) (-1, nI 0) (by omega) (by omega) (by omega) ⟨none, fun b e => (by cases e), rfl, rfl⟩
    subst h3
    exact ⟨o, h1, h2⟩
theorem q_pipeAt (h : GG (Sh, V, L, n) x ρ m u mt q V2 L2) (a : Int32) : ∃ r, (r = -1 ∨ ∃ p, p < pNp (V2 1) ∧ r = nI p ∧ V2 1 (624 + 6 * p) = a) ∧ (r = -1 → ∀ p, p < pNp (V2 1) → ¬ V2 1 (624 + 6 * p) = a) ∧ cm_X0_pipeAt (Sh, V, L, n) x a = some r ∧ tw_pipeAt V2 a = some r := by
  have hM : GM Sh x (m 0) (mt 0) q := h.gm
  have hF : FS0 Sh m (u 0) := h.f0
  obtain ⟨h2, h18, -, -⟩ := h.inv.1.2.1
  obtain ⟨-, ⟨p1, p2, p3, p4⟩, -, hL, hP, -, -⟩ := h.fr
  simp only [zSh_T, zV_T, zL_T, zn_T] at p1 p3 hL hP
  have l5 : V (m 5) 2 = nI (pNp (V2 1)) := by rw [hL.1]; exact h2
  have key : ∀ i (s s' : Int32), i ≤ pNp (V2 1) → (s = nI i ∧ s' = nI i ∧ ∀ j, j < i → ¬ V2 1 (624 + 6 * j) = a) → (∃ o o' : Unit ⊕ Int32, (∀ rec, cm_X0_pipeAt_F2 x a (Sh, V, L, n) rec s = some o) ∧ (∀ rec, tw_pipeAt_F2 a V2 rec s' = some o') ∧ o = o' ∧ ((o = .inl () ∧ ∀ p, p < pNp (V2 1) → ¬ V2 1 (624 + 6 * p) = a) ∨ ∃ p, p < pNp (V2 1) ∧ o = .inr (nI p) ∧ V2 1 (624 + 6 * p) = a)) ∨ (i < pNp (V2 1) ∧ ∃ t t', (∀ rec, cm_X0_pipeAt_F2 x a (Sh, V, L, n) rec s = rec t) ∧ (∀ rec, tw_pipeAt_F2 a V2 rec s' = rec t') ∧ t = nI (i + 1) ∧ t' = nI (i + 1) ∧ ∀ j, j < i + 1 → ¬ V2 1 (624 + 6 * j) = a) := by
    intro i s s' hi hR
    obtain ⟨rfl, rfl, hj⟩ := hR
    unfold cm_X0_pipeAt_F2 tw_pipeAt_F2
    by_cases hl : i < pNp (V2 1)
    · obtain ⟨rf, r1, r2⟩ := p3 i hl
      have e1 := hP i 0 hl (by omega)
      rw [Nat.add_zero] at e1
      by_cases hc : V2 1 (624 + 6 * i) = a
      · left
        refine ⟨.inr (nI i), .inr (nI i), fun rec => ?_, fun rec => ?_, rfl, Or.inr ⟨i, hl, rfl, hc⟩⟩
        · simp (disch := omega) only [cm_X0_pipeAt_B2, zSh_T, zV_T, zL_T, zn_T, L_add, L_addR, L_mul, L_mulR, L_div, N_div, N_rem, L_sub, L_subN, nI_add, nI_mul, L_le, L_leR, L_lt, L_ltR, L_eq, N_leT, N_leF, N_ltT, N_ltF, N_eqT, N_eqF, N_m1, bnd_S, un2_S, un3_S, nmI_S, nmL_S, ptI_S, cs2_L, cs2_R, okI_b, okI_1, okI_0, rdI_in, wrI_in, rdI_L, wrI_L, rdL_in, wrL_in, if_true, if_false, x_now hM, f_A hF, l_K p1, l_size p1, l5, l_get p1 l5 hl, zCk, zK_T r1, nn_eq, cI_eq r1 (r2 0 (by omega)), e1, hc]
        · simp (disch := omega) only [tw_pipeAt_B2, L_add, L_addR, L_mul, L_mulR, L_div, N_div, N_rem, L_sub, L_subN, nI_add, nI_mul, L_le, L_leR, L_lt, L_ltR, L_eq, N_leT, N_leF, N_ltT, N_ltF, N_eqT, N_eqF, N_m1, bnd_S, un2_S, un3_S, nmI_S, nmL_S, ptI_S, cs2_L, cs2_R, okI_b, okI_1, okI_0, rdI_in, wrI_in, rdI_L, wrI_L, rdL_in, wrL_in, if_true, if_false, h2, hc]
      · right
        refine ⟨hl, nI (i + 1), nI (i + 1), fun rec => ?_, fun rec => ?_, rfl, rfl, fun j hj' => ?_⟩
        · simp (disch := omega) only [cm_X0_pipeAt_B2, zSh_T, zV_T, zL_T, zn_T, L_add, L_addR, L_mul, L_mulR, L_div, N_div, N_rem, L_sub, L_subN, nI_add, nI_mul, L_le, L_leR, L_lt, L_ltR, L_eq, N_leT, N_leF, N_ltT, N_ltF, N_eqT, N_eqF, N_m1, bnd_S, un2_S, un3_S, nmI_S, nmL_S, ptI_S, cs2_L, cs2_R, okI_b, okI_1, okI_0, rdI_in, wrI_in, rdI_L, wrI_L, rdL_in, wrL_in, if_true, if_false, x_now hM, f_A hF, l_K p1, l_size p1, l5, l_get p1 l5 hl, zCk, zK_T r1, nn_eq, cI_eq r1 (r2 0 (by omega)), e1, hc]
        · simp (disch := omega) only [tw_pipeAt_B2, L_add, L_addR, L_mul, L_mulR, L_div, N_div, N_rem, L_sub, L_subN, nI_add, nI_mul, L_le, L_leR, L_lt, L_ltR, L_eq, N_leT, N_leF, N_ltT, N_ltF, N_eqT, N_eqF, N_m1, bnd_S, un2_S, un3_S, nmI_S, nmL_S, ptI_S, cs2_L, cs2_R, okI_b, okI_1, okI_0, rdI_in, wrI_in, rdI_L, wrI_L, rdL_in, wrL_in, if_true, if_false, h2, hc]
        · by_cases e : j = i
          · rw [e]; exact hc
          · exact hj j (by omega)
    · have : i = pNp (V2 1) := by omega
      left
      refine ⟨.inl (), .inl (), fun rec => ?_, fun rec => ?_, rfl, Or.inl ⟨rfl, fun p hp => hj p (by omega)⟩⟩
      · simp (disch := omega) only [cm_X0_pipeAt_B2, zSh_T, zV_T, zL_T, zn_T, L_add, L_addR, L_mul, L_mulR, L_div, N_div, N_rem, L_sub, L_subN, nI_add, nI_mul, L_le, L_leR, L_lt, L_ltR, L_eq, N_leT, N_leF, N_ltT, N_ltF, N_eqT, N_eqF, N_m1, bnd_S, un2_S, un3_S, nmI_S, nmL_S, ptI_S, cs2_L, cs2_R, okI_b, okI_1, okI_0, rdI_in, wrI_in, rdI_L, wrI_L, rdL_in, wrL_in, if_true, if_false, x_now hM, f_A hF, l_K p1, l_size p1, l5]
      · simp (disch := omega) only [tw_pipeAt_B2, L_add, L_addR, L_mul, L_mulR, L_div, N_div, N_rem, L_sub, L_subN, nI_add, nI_mul, L_le, L_leR, L_lt, L_ltR, L_eq, N_leT, N_leF, N_ltT, N_ltF, N_eqT, N_eqF, N_m1, bnd_S, un2_S, un3_S, nmI_S, nmL_S, ptI_S, cs2_L, cs2_R, okI_b, okI_1, okI_0, rdI_in, wrI_in, rdI_L, wrI_L, rdL_in, wrL_in, if_true, if_false, h2]
  obtain ⟨o, o', e1, e2, e3, e4⟩ := lp_sim (P := fun o o' : Unit ⊕ Int32 => o = o' ∧ ((o = .inl () ∧ ∀ p, p < pNp (V2 1) → ¬ V2 1 (624 + 6 * p) = a) ∨ ∃ p, p < pNp (V2 1) ∧ o = .inr (nI p) ∧ V2 1 (624 + 6 * p) = a)) (fun i s s' => s = nI i ∧ s' = nI i ∧ ∀ j, j < i → ¬ V2 1 (624 + 6 * j) = a) key 1000 1000 0 (nI 0) (nI 0) (by omega) (by omega) (by omega) ⟨rfl, rfl, fun j hj => by omega⟩
  subst e3
  unfold cm_X0_pipeAt tw_pipeAt cm_X0_pipeAt_L2 tw_pipeAt_L2
  rw [show (0 : Int32) = nI 0 from rfl, e1, e2]
  rcases e4 with ⟨rfl, hn⟩ | ⟨p, hp, rfl, hpe⟩
  · exact ⟨-1, Or.inl rfl, fun _ => hn, rfl, rfl⟩
  · exact ⟨nI p, Or.inr ⟨p, hp, rfl, hpe⟩, fun e => by rw [N_m1 (by omega)] at e; exact e.elim, rfl, rfl⟩
theorem x_pipe (h : GG (Sh, V, L, n) x ρ m u mt q V2 L2) (a : Int32) : (cm_X0_isPipe (Sh, V, L, n) x a = some 0 ∧ tw_isPipe V2 a = some 0) ∨ ∃ p, p < pNp (V2 1) ∧ a = nI p ∧ cm_X0_isPipe (Sh, V, L, n) x a = some 1 ∧ tw_isPipe V2 a = some 1 := by
  have hM : GM Sh x (m 0) (mt 0) q := h.gm
  have hF : FS0 Sh m (u 0) := h.f0
  obtain ⟨h2, h18, -, -⟩ := h.inv.1.2.1
  obtain ⟨-, ⟨p1, p2, p3, p4⟩, -, hL, hP, -, -⟩ := h.fr
  simp only [zSh_T, zV_T, zL_T, zn_T] at p1 p3 hL hP
  have l5 : V (m 5) 2 = nI (pNp (V2 1)) := by rw [hL.1]; exact h2
  unfold cm_X0_isPipe tw_isPipe
  simp (disch := omega) only [zSh_T, zV_T, zL_T, zn_T, bnd_S, un2_S, un3_S, nmI_S, nmL_S, ptI_S, cs2_L, cs2_R, okI_b, okI_1, okI_0, rdI_in, wrI_in, rdI_L, wrI_L, rdL_in, wrL_in, if_true, if_false, x_now hM, f_A hF, l_K p1, l_size p1, l5, h2, cm_in_tw]
  rcases in_N (a := a) (hi := (nI (pNp (V2 1)) - 1).toInt64) (N := pNp (V2 1)) (by omega) (hi_S (by omega)) with h1 | ⟨k, hk, ek, h1⟩
  · left; rw [h1]; exact ⟨rfl, rfl⟩
  · right; rw [h1]; exact ⟨k, hk, ek, rfl, rfl⟩
theorem q_pipe (h : GG (Sh, V, L, n) x ρ m u mt q V2 L2) (a b : Int32) : AnQ (cm_X0_pipe (Sh, V, L, n) x a b) (tw_pipe V2 a b) := by
  have hM : GM Sh x (m 0) (mt 0) q := h.gm
  have hF : FS0 Sh m (u 0) := h.f0
  obtain ⟨h2, h18, -, -⟩ := h.inv.1.2.1
  obtain ⟨-, ⟨p1, p2, p3, p4⟩, -, hL, hP, -, -⟩ := h.fr
  simp only [zSh_T, zV_T, zL_T, zn_T] at p1 p3 hL hP
  have l5 : V (m 5) 2 = nI (pNp (V2 1)) := by rw [hL.1]; exact h2
  have h33 := h.inv.1.2.2.2.2.1.1
  unfold cm_X0_pipe tw_pipe
  rcases x_pipe h a with ⟨e1, e2⟩ | ⟨p, hp, rfl, e1, e2⟩
  · rw [e1, e2]; simp only [x_K hM]; exact ⟨_, rfl, rfl⟩
  · obtain ⟨rf, r1, r2⟩ := p3 p hp
    have z1 : ¬ (1 : Int32) = 0 := by decide
    have e0 := fun i hi => hP p i hp hi
    rw [e1, e2]
    simp (disch := omega) only [zSh_T, zV_T, zL_T, zn_T, bnd_S, un2_S, un3_S, nmI_S, nmL_S, ptI_S, cs2_L, cs2_R, okI_b, okI_1, okI_0, rdI_in, wrI_in, rdI_L, wrI_L, rdL_in, wrL_in, if_true, if_false, x_K hM, x_now hM, f_A hF, l_K p1, l_get p1 l5 hp, zCk, zK_T r1, nn_eq, cI_eq r1 (r2 _ _), z1, e0]
    rcases in_N (a := b) (hi := 5) (N := 6) (by omega) (by decide) with h1 | ⟨k, hk, rfl, h1⟩
    · have ne : ∀ k, k < 6 → ¬ b = nI k := by
        intro k hk e
        subst e
        rw [tw_inI, nI_toInt (by omega), show (0 : Int64).toInt = 0 from rfl, show (5 : Int64).toInt = 5 from rfl, if_pos (by omega)] at h1
        exact z1 (Option.some.inj h1)
      rw [h1, bnd_S, if_pos rfl, if_neg (show ¬ b = 0 from ne 0 (by omega)), if_neg (show ¬ b = 1 from ne 1 (by omega)), if_neg (show ¬ b = 2 from ne 2 (by omega)), if_neg (show ¬ b = 3 from ne 3 (by omega)), if_neg (show ¬ b = 4 from ne 4 (by omega)), if_neg (show ¬ b = 5 from ne 5 (by omega))]
      exact ⟨_, rfl, rfl⟩
    · rw [h1, bnd_S, if_neg z1]
      have h6 : k = 0 ∨ k = 1 ∨ k = 2 ∨ k = 3 ∨ k = 4 ∨ k = 5 := by omega
      have rd : rdI (V2 1) 810 (624 + 6 * nI p + nI k) (fun x => some x) = some (V2 1 (624 + 6 * p + k)) := by
        simp (disch := omega) only [L_add, L_addR, L_mul, L_mulR, L_div, N_div, N_rem, L_sub, L_subN, nI_add, nI_mul, L_le, L_leR, L_lt, L_ltR, L_eq, N_leT, N_leF, N_ltT, N_ltF, N_eqT, N_eqF, N_m1, bnd_S, un2_S, un3_S, nmI_S, nmL_S, ptI_S, cs2_L, cs2_R, okI_b, okI_1, okI_0, rdI_in, wrI_in, rdI_L, wrI_L, rdL_in, wrL_in, if_true, if_false]
      rw [rd]
      rcases h6 with rfl | rfl | rfl | rfl | rfl | rfl
      · rw [if_pos (show nI 0 = 0 from rfl)]; exact ⟨_, rfl, rfl⟩
      · rw [if_neg (by decide), if_pos (show nI 1 = 1 from rfl)]; exact ⟨_, rfl, rfl⟩
      · rw [if_neg (by decide), if_neg (by decide), if_pos (show nI 2 = 2 from rfl)]; exact ⟨_, rfl, rfl⟩
      · rw [if_neg (by decide), if_neg (by decide), if_neg (by decide), if_pos (show nI 3 = 3 from rfl)]
        rcases (h33 p hp).2.2 with hb | hb
        · rw [hb]; exact ⟨_, rfl, rfl⟩
        · rw [hb]; exact ⟨_, rfl, rfl⟩
      · rw [if_neg (by decide), if_neg (by decide), if_neg (by decide), if_neg (by decide), if_pos (show nI 4 = 4 from rfl)]; exact ⟨_, rfl, rfl⟩
      · rw [if_neg (by decide), if_neg (by decide), if_neg (by decide), if_neg (by decide), if_neg (by decide), if_pos (show nI 5 = 5 from rfl)]; exact ⟨_, rfl, rfl⟩
theorem q_house (h : GG (Sh, V, L, n) x ρ m u mt q V2 L2) (a b : Int32) : AnQ (cm_X0_house (Sh, V, L, n) x a b) (tw_house V2 a b) := by
  have hM : GM Sh x (m 0) (mt 0) q := h.gm
  have hF : FS0 Sh m (u 0) := h.f0
  obtain ⟨h3, h6, -⟩ := h.inv.1.2.2.1
  obtain ⟨-, ⟨p1, p2, p3, p4⟩, -, hL, -, hH, -⟩ := h.fr
  simp only [zSh_T, zV_T, zL_T, zn_T] at p2 p4 hL hH
  have l6 : V (m 6) 2 = nI (pNh (V2 1)) := by rw [hL.2]; exact h3
  have z1 : ¬ (1 : Int32) = 0 := by decide
  unfold cm_X0_house tw_house
  simp (disch := omega) only [zSh_T, zV_T, zL_T, zn_T, bnd_S, un2_S, un3_S, nmI_S, nmL_S, ptI_S, cs2_L, cs2_R, okI_b, okI_1, okI_0, rdI_in, wrI_in, rdI_L, wrI_L, rdL_in, wrL_in, if_true, if_false, x_now hM, f_A hF, l_K p2, l_size p2, l6, h3, cm_in_tw]
  rcases in_N (a := a) (hi := (nI (pNh (V2 1)) - 1).toInt64) (N := pNh (V2 1)) (by omega) (hi_S (by omega)) with h1 | ⟨p, hp, rfl, h1⟩
  · rw [h1]; exact ⟨_, rfl, rfl⟩
  · obtain ⟨rf, r1, r2⟩ := p4 p hp
    have e0 := fun i hi => hH p i hp hi
    rw [h1]
    simp (disch := omega) only [zSh_T, zV_T, zL_T, zn_T, bnd_S, un2_S, un3_S, nmI_S, nmL_S, ptI_S, cs2_L, cs2_R, okI_b, okI_1, okI_0, rdI_in, wrI_in, rdI_L, wrI_L, rdL_in, wrL_in, if_true, if_false, x_now hM, f_A hF, l_K p2, l_get p2 l6 hp, zCk, zK_T r1, nn_eq, cI_eq r1 (r2 _ _), z1, e0]
    rcases in_N (a := b) (hi := 2) (N := 3) (by omega) (by decide) with h1 | ⟨k, hk, rfl, h1⟩
    · have ne : ∀ k, k < 3 → ¬ b = nI k := by
        intro k hk e
        subst e
        rw [tw_inI, nI_toInt (by omega), show (0 : Int64).toInt = 0 from rfl, show (2 : Int64).toInt = 2 from rfl, if_pos (by omega)] at h1
        exact z1 (Option.some.inj h1)
      rw [h1, bnd_S, if_pos rfl, if_neg (show ¬ b = 0 from ne 0 (by omega)), if_neg (show ¬ b = 1 from ne 1 (by omega)), if_neg (show ¬ b = 2 from ne 2 (by omega))]
      exact ⟨_, rfl, rfl⟩
    · rw [h1, bnd_S, if_neg z1]
      have h6 : k = 0 ∨ k = 1 ∨ k = 2 := by omega
      have rd : rdI (V2 1) 810 (732 + 3 * nI p + nI k) (fun x => some x) = some (V2 1 (732 + 3 * p + k)) := by
        simp (disch := omega) only [L_add, L_addR, L_mul, L_mulR, L_div, N_div, N_rem, L_sub, L_subN, nI_add, nI_mul, L_le, L_leR, L_lt, L_ltR, L_eq, N_leT, N_leF, N_ltT, N_ltF, N_eqT, N_eqF, N_m1, bnd_S, un2_S, un3_S, nmI_S, nmL_S, ptI_S, cs2_L, cs2_R, okI_b, okI_1, okI_0, rdI_in, wrI_in, rdI_L, wrI_L, rdL_in, wrL_in, if_true, if_false]
      rw [rd]
      rcases h6 with rfl | rfl | rfl
      · rw [if_pos (show nI 0 = 0 from rfl)]; exact ⟨_, rfl, rfl⟩
      · rw [if_neg (by decide), if_pos (show nI 1 = 1 from rfl)]; exact ⟨_, rfl, rfl⟩
      · rw [if_neg (by decide), if_neg (by decide), if_pos (show nI 2 = 2 from rfl)]; exact ⟨_, rfl, rfl⟩
end Q3
