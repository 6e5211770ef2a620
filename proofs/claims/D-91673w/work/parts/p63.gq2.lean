/-! PURE: more calls that ask: two loops side by side -/
set_option maxRecDepth 100000
section SIM
variable {σ σ' α α' : Type} {F : (σ → Option α) → σ → Option α} {F' : (σ' → Option α') → σ' → Option α'}
/-- two loops side by side: both go on, or both end -/
theorem lp_sim {N : Nat} {P : α → α' → Prop} (R : Nat → σ → σ' → Prop) (h : ∀ i s s', i ≤ N → R i s s' → (∃ o o', (∀ rec, F rec s = some o) ∧ (∀ rec, F' rec s' = some o') ∧ P o o') ∨ (i < N ∧ ∃ t t', (∀ rec, F rec s = rec t) ∧ (∀ rec, F' rec s' = rec t') ∧ R (i + 1) t t')) : ∀ n n' i s s', i ≤ N → N - i < n → N - i < n' → R i s s' → ∃ o o', lp F n s = some o ∧ lp F' n' s' = some o' ∧ P o o' := by
  intro n
  induction n with
  | zero => intro n' i s s' _ h1; omega
  | succ n ih =>
    intro n' i s s' hi h1 h2 hR
    cases n' with
    | zero => omega
    | succ n' =>
      rw [lp_s, lp_s]
      rcases h i s s' hi hR with ⟨o, o', e1, e2, hp⟩ | ⟨hl, t, t', e1, e2, hR'⟩
      · exact ⟨o, o', e1 _, e2 _, hp⟩
      · rw [e1, e2]
        exact ih n' (i + 1) t t' (by omega) (by omega) (by omega) hR'
end SIM
theorem AnQ_b {c t : Option Int32} (h : AnQ c t) : AnQ (bnd c fun x => some x) (bnd t fun x => some x) := by
  obtain ⟨r, rfl, rfl⟩ := h
  exact ⟨r, rfl, rfl⟩
theorem AnQ_lp {F F' : ((Int32 × Int32) → Option Int32) → Int32 × Int32 → Option Int32} {N n n' : Nat} {a : Int32} (hn : N < n) (hn' : N < n') (h : ∀ i a, i < N → ∃ b, (∀ rec, F rec (a, nI i) = rec (b, nI (i + 1))) ∧ ∀ rec, F' rec (a, nI i) = rec (b, nI (i + 1))) (he : ∀ a, (∀ rec, F rec (a, nI N) = some a) ∧ ∀ rec, F' rec (a, nI N) = some a) : AnQ (lp F n (a, 0)) (lp F' n' (a, 0)) := by
  have key : ∀ i (s s' : Int32 × Int32), i ≤ N → (∃ a, s = (a, nI i) ∧ s' = (a, nI i)) → (∃ o o' : Int32, (∀ rec, F rec s = some o) ∧ (∀ rec, F' rec s' = some o') ∧ o = o') ∨ (i < N ∧ ∃ t t', (∀ rec, F rec s = rec t) ∧ (∀ rec, F' rec s' = rec t') ∧ ∃ a, t = (a, nI (i + 1)) ∧ t' = (a, nI (i + 1))) := by
    intro i s s' hi hR
    obtain ⟨a, rfl, rfl⟩ := hR
    by_cases hl : i < N
    · obtain ⟨b, e1, e2⟩ := h i a hl
      exact Or.inr ⟨hl, _, _, e1, e2, b, rfl, rfl⟩
    · have : i = N := by omega
      subst this
      exact Or.inl ⟨a, a, (he a).1, (he a).2, rfl⟩
  obtain ⟨o, o', h1, h2, h3⟩ := lp_sim (P := fun o o' => o = o') (fun i s s' => ∃ a, s = (a, nI i) ∧ s' = (a, nI i)) key n n' 0 (a, nI 0) (a, nI 0) (by omega) (by omega) (by omega) ⟨a, rfl, rfl⟩
  subst h3
  exact ⟨o, h1, h2⟩
section Q2
variable {Sh : g_Sh} {V : g_V} {L : g_L} {n x : Nat} {m u mt q ρ : Nat → Nat} {V2 : g_V} {L2 : g_L}
theorem q_frost (h : GG (Sh, V, L, n) x ρ m u mt q V2 L2) (a : Int32) : AnQ (cm_X0_frost (Sh, V, L, n) x a) (tw_frost V2 a) := by
  have hM : GM Sh x (m 0) (mt 0) q := h.gm
  have hF : FS0 Sh m (u 0) := h.f0
  have hk := h.kok
  unfold cm_X0_frost tw_frost
  simp only [cm_in_tw]
  rcases in_N (a := a) (hi := 11) (N := 12) (by omega) (by decide) with h1 | ⟨y, hy, ey, h1⟩
  · rw [h1]; exact ⟨_, rfl, rfl⟩
  · rw [h1]
    subst ey
    refine AnQ_b (AnQ_lp (N := 12) (by omega) (by omega) (fun i a hi => ?_) (fun a => ⟨fun rec => ?_, fun rec => ?_⟩))
    · have hc : 12 * y + i < 144 := by omega
      have e1 := cm_isFrozen_eq h.rd hc
      have e2 := tw_isFrozen_eq (V := V2) hk hc
      refine ⟨if pFro (V2 1) (12 * y + i) = false then a ||| 0 else a ||| ((1 : Int32) <<< (nI i &&& 31)), fun rec => ?_, fun rec => ?_⟩
      · unfold cm_X0_frost_F18
        simp (disch := omega) only [cm_X0_frost_B18, zSh_T, zV_T, zL_T, zn_T, L_add, L_addR, L_mul, L_mulR, L_div, N_div, N_rem, L_sub, L_subN, nI_add, nI_mul, L_le, L_leR, L_lt, L_ltR, L_eq, N_leT, N_leF, N_ltT, N_ltF, N_eqT, N_eqF, N_m1, bnd_S, un2_S, un3_S, nmI_S, nmL_S, ptI_S, cs2_L, cs2_R, okI_b, okI_1, okI_0, rdI_in, wrI_in, rdI_L, wrI_L, rdL_in, wrL_in, if_true, if_false, x_now hM, f_KT hF, e1, b2iF]
        split <;> rfl
      · unfold tw_frost_F18
        simp (disch := omega) only [tw_frost_B18, L_add, L_addR, L_mul, L_mulR, L_div, N_div, N_rem, L_sub, L_subN, nI_add, nI_mul, L_le, L_leR, L_lt, L_ltR, L_eq, N_leT, N_leF, N_ltT, N_ltF, N_eqT, N_eqF, N_m1, bnd_S, un2_S, un3_S, nmI_S, nmL_S, ptI_S, cs2_L, cs2_R, okI_b, okI_1, okI_0, rdI_in, wrI_in, rdI_L, wrI_L, rdL_in, wrL_in, if_true, if_false, e2, b2iF]
        split <;> rfl
    · unfold cm_X0_frost_F18
      simp (disch := omega) only [cm_X0_frost_B18, L_add, L_addR, L_mul, L_mulR, L_div, N_div, N_rem, L_sub, L_subN, nI_add, nI_mul, L_le, L_leR, L_lt, L_ltR, L_eq, N_leT, N_leF, N_ltT, N_ltF, N_eqT, N_eqF, N_m1, bnd_S, un2_S, un3_S, nmI_S, nmL_S, ptI_S, cs2_L, cs2_R, okI_b, okI_1, okI_0, rdI_in, wrI_in, rdI_L, wrI_L, rdL_in, wrL_in, if_true, if_false]
    · unfold tw_frost_F18
      simp (disch := omega) only [tw_frost_B18, L_add, L_addR, L_mul, L_mulR, L_div, N_div, N_rem, L_sub, L_subN, nI_add, nI_mul, L_le, L_leR, L_lt, L_ltR, L_eq, N_leT, N_leF, N_ltT, N_ltF, N_eqT, N_eqF, N_m1, bnd_S, un2_S, un3_S, nmI_S, nmL_S, ptI_S, cs2_L, cs2_R, okI_b, okI_1, okI_0, rdI_in, wrI_in, rdI_L, wrI_L, rdL_in, wrL_in, if_true, if_false]
theorem q_cracks (h : GG (Sh, V, L, n) x ρ m u mt q V2 L2) : AnQ (cm_X0_cracks (Sh, V, L, n) x) (tw_cracks V2) := by
  have hM : GM Sh x (m 0) (mt 0) q := h.gm
  have hF : FS0 Sh m (u 0) := h.f0
  obtain ⟨h3, h6, -⟩ := h.inv.1.2.2.1
  obtain ⟨-, ⟨p1, p2, p3, p4⟩, -, hL, -, hH, -⟩ := h.fr
  simp only [zSh_T, zV_T, zL_T, zn_T] at p2 p4 hL hH
  have l6 : V (m 6) 2 = nI (pNh (V2 1)) := by rw [hL.2]; exact h3
  unfold cm_X0_cracks tw_cracks
  refine AnQ_b (AnQ_lp (N := pNh (V2 1)) (by omega) (by omega) (fun i a hi => ?_) (fun a => ⟨fun rec => ?_, fun rec => ?_⟩))
  · have e1 := hH i 2 hi (by omega)
    obtain ⟨rf, r1, r2⟩ := p4 i hi
    refine ⟨if V2 1 (732 + 3 * i + 2) = -1 then a ||| 0 else a ||| ((1 : Int32) <<< (nI i &&& 31)), fun rec => ?_, fun rec => ?_⟩
    · unfold cm_X0_cracks_F4
      simp (disch := omega) only [cm_X0_cracks_B4, zSh_T, zV_T, zL_T, zn_T, L_add, L_addR, L_mul, L_mulR, L_div, N_div, N_rem, L_sub, L_subN, nI_add, nI_mul, L_le, L_leR, L_lt, L_ltR, L_eq, N_leT, N_leF, N_ltT, N_ltF, N_eqT, N_eqF, N_m1, bnd_S, un2_S, un3_S, nmI_S, nmL_S, ptI_S, cs2_L, cs2_R, okI_b, okI_1, okI_0, rdI_in, wrI_in, rdI_L, wrI_L, rdL_in, wrL_in, if_true, if_false, x_now hM, f_A hF, l_K p2, l_size p2, l6, l_get p2 l6 hi, zCk, zK_T r1, nn_eq, cI_eq r1 (r2 2 (by omega)), e1]
      split <;> rfl
    · unfold tw_cracks_F4
      simp (disch := omega) only [tw_cracks_B4, L_add, L_addR, L_mul, L_mulR, L_div, N_div, N_rem, L_sub, L_subN, nI_add, nI_mul, L_le, L_leR, L_lt, L_ltR, L_eq, N_leT, N_leF, N_ltT, N_ltF, N_eqT, N_eqF, N_m1, bnd_S, un2_S, un3_S, nmI_S, nmL_S, ptI_S, cs2_L, cs2_R, okI_b, okI_1, okI_0, rdI_in, wrI_in, rdI_L, wrI_L, rdL_in, wrL_in, if_true, if_false, h3]
      split <;> rfl
  · unfold cm_X0_cracks_F4
    simp (disch := omega) only [cm_X0_cracks_B4, zSh_T, zV_T, zL_T, zn_T, L_add, L_addR, L_mul, L_mulR, L_div, N_div, N_rem, L_sub, L_subN, nI_add, nI_mul, L_le, L_leR, L_lt, L_ltR, L_eq, N_leT, N_leF, N_ltT, N_ltF, N_eqT, N_eqF, N_m1, bnd_S, un2_S, un3_S, nmI_S, nmL_S, ptI_S, cs2_L, cs2_R, okI_b, okI_1, okI_0, rdI_in, wrI_in, rdI_L, wrI_L, rdL_in, wrL_in, if_true, if_false, x_now hM, f_A hF, l_K p2, l_size p2, l6]
  · unfold tw_cracks_F4
    simp (disch := omega) only [tw_cracks_B4, L_add, L_addR, L_mul, L_mulR, L_div, N_div, N_rem, L_sub, L_subN, nI_add, nI_mul, L_le, L_leR, L_lt, L_ltR, L_eq, N_leT, N_leF, N_ltT, N_ltF, N_eqT, N_eqF, N_m1, bnd_S, un2_S, un3_S, nmI_S, nmL_S, ptI_S, cs2_L, cs2_R, okI_b, okI_1, okI_0, rdI_in, wrI_in, rdI_L, wrI_L, rdL_in, wrL_in, if_true, if_false, h3]
theorem q_lies (h : GG (Sh, V, L, n) x ρ m u mt q V2 L2) (a : Int32) : AnQ (cm_X0_lies (Sh, V, L, n) x a) (tw_lies V2 a) := by
  have hM : GM Sh x (m 0) (mt 0) q := h.gm
  have hF : FS0 Sh m (u 0) := h.f0
  have hA : FSa Sh m := h.fa
  have hV : VA V m (V2 1) := h.va
  have hG : VGa V m (V2 1) := h.fr.2.2.2.2.2.2
  have hI := h.inv.2.2.2.2.2.1
  unfold cm_X0_lies tw_lies
  simp only [cm_in_tw]
  rcases in_N (a := a) (hi := 99) (N := 100) (by omega) (by decide) with h1 | ⟨y, hy, ey, h1⟩
  · rw [h1]; exact ⟨_, rfl, rfl⟩
  · rw [h1]
    refine AnQ_b (AnQ_lp (N := 10) (by omega) (by omega) (fun i b hi => ?_) (fun b => ⟨fun rec => ?_, fun rec => ?_⟩))
    · obtain ⟨g1, g2⟩ := hG i hi
      rcases hI i hi with hn | ⟨c, hc, ec⟩
      · refine ⟨b, fun rec => ?_, fun rec => ?_⟩
        · unfold cm_X0_lies_F19
          simp (disch := omega) only [cm_X0_lies_B19, zSh_T, zV_T, zL_T, zn_T, L_add, L_addR, L_mul, L_mulR, L_div, N_div, N_rem, L_sub, L_subN, nI_add, nI_mul, L_le, L_leR, L_lt, L_ltR, L_eq, N_leT, N_leF, N_ltT, N_ltF, N_eqT, N_eqF, N_m1, bnd_S, un2_S, un3_S, nmI_S, nmL_S, ptI_S, cs2_L, cs2_R, okI_b, okI_1, okI_0, rdI_in, wrI_in, rdI_L, wrI_L, rdL_in, wrL_in, if_true, if_false, x_now hM, f_A hF, caI_eq hA.2.2.2.2.1, g1, hn]
        · unfold tw_lies_F19
          simp (disch := omega) only [tw_lies_B19, L_add, L_addR, L_mul, L_mulR, L_div, N_div, N_rem, L_sub, L_subN, nI_add, nI_mul, L_le, L_leR, L_lt, L_ltR, L_eq, N_leT, N_leF, N_ltT, N_ltF, N_eqT, N_eqF, N_m1, bnd_S, un2_S, un3_S, nmI_S, nmL_S, ptI_S, cs2_L, cs2_R, okI_b, okI_1, okI_0, rdI_in, wrI_in, rdI_L, wrI_L, rdL_in, wrL_in, if_true, if_false, hn]
      · have g3 : V (m 8) i = V2 1 (790 + 2 * i + 1) := by
          rcases g2 with g2 | g2
          · rw [ec, N_m1 (by omega)] at g2; exact g2.elim
          · exact g2
        rw [ec] at g1
        have d1 : V (m 4) c = b2i (pDug (V2 1) c) := VA_dug (Z := (Sh, V, L, n)) hV hc
        have d2 := tw_isDug_eq (V := V2) hc
        have d3 := (hV c hc).1
        refine ⟨if pDug (V2 1) c = false then (if (if 0 ≤ (V2 1 (192 + c) - V2 1 (790 + 2 * i + 1)) then (V2 1 (192 + c) - V2 1 (790 + 2 * i + 1)) else 0 - (V2 1 (192 + c) - V2 1 (790 + 2 * i + 1))) ≤ a then b else b ||| ((1 : Int32) <<< (nI i &&& 31))) else b ||| ((1 : Int32) <<< (nI i &&& 31)), fun rec => ?_, fun rec => ?_⟩
        · unfold cm_X0_lies_F19
          simp (disch := omega) only [cm_X0_lies_B19, zSh_T, zV_T, zL_T, zn_T, L_add, L_addR, L_mul, L_mulR, L_div, N_div, N_rem, L_sub, L_subN, nI_add, nI_mul, L_le, L_leR, L_lt, L_ltR, L_eq, N_leT, N_leF, N_ltT, N_ltF, N_eqT, N_eqF, N_m1, bnd_S, un2_S, un3_S, nmI_S, nmL_S, ptI_S, cs2_L, cs2_R, okI_b, okI_1, okI_0, rdI_in, wrI_in, rdI_L, wrI_L, rdL_in, wrL_in, if_true, if_false, x_now hM, f_A hF, caI_eq hA.2.2.2.2.1, g1, caI_eq hA.2.2.2.1, d1, b2iF, caI_eq hA.1, caI_eq hA.2.2.2.2.2.1, d3, g3]
          cases pDug (V2 1) c with
          | false =>
            simp only [if_true]
            generalize (if 0 ≤ (V2 1 (192 + c) - V2 1 (790 + 2 * i + 1)) then (V2 1 (192 + c) - V2 1 (790 + 2 * i + 1)) else 0 - (V2 1 (192 + c) - V2 1 (790 + 2 * i + 1))) = z
            by_cases hz : z ≤ a
            · rw [if_pos hz, if_pos hz]
            · rw [if_neg hz, if_neg hz]
          | true => simp only [Bool.true_eq_false, if_false]
        · unfold tw_lies_F19
          simp (disch := omega) only [tw_lies_B19, L_add, L_addR, L_mul, L_mulR, L_div, N_div, N_rem, L_sub, L_subN, nI_add, nI_mul, L_le, L_leR, L_lt, L_ltR, L_eq, N_leT, N_leF, N_ltT, N_ltF, N_eqT, N_eqF, N_m1, bnd_S, un2_S, un3_S, nmI_S, nmL_S, ptI_S, cs2_L, cs2_R, okI_b, okI_1, okI_0, rdI_in, wrI_in, rdI_L, wrI_L, rdL_in, wrL_in, if_true, if_false, ec, d2, b2iF]
          cases pDug (V2 1) c with
          | false =>
            simp only [if_true]
            generalize (if 0 ≤ (V2 1 (192 + c) - V2 1 (790 + 2 * i + 1)) then (V2 1 (192 + c) - V2 1 (790 + 2 * i + 1)) else 0 - (V2 1 (192 + c) - V2 1 (790 + 2 * i + 1))) = z
            by_cases hz : z ≤ a
            · rw [if_pos hz, if_pos hz]
            · rw [if_neg hz, if_neg hz]
          | true => simp only [Bool.true_eq_false, if_false]
    · unfold cm_X0_lies_F19
      simp (disch := omega) only [cm_X0_lies_B19, L_add, L_addR, L_mul, L_mulR, L_div, N_div, N_rem, L_sub, L_subN, nI_add, nI_mul, L_le, L_leR, L_lt, L_ltR, L_eq, N_leT, N_leF, N_ltT, N_ltF, N_eqT, N_eqF, N_m1, bnd_S, un2_S, un3_S, nmI_S, nmL_S, ptI_S, cs2_L, cs2_R, okI_b, okI_1, okI_0, rdI_in, wrI_in, rdI_L, wrI_L, rdL_in, wrL_in, if_true, if_false]
    · unfold tw_lies_F19
      simp (disch := omega) only [tw_lies_B19, L_add, L_addR, L_mul, L_mulR, L_div, N_div, N_rem, L_sub, L_subN, nI_add, nI_mul, L_le, L_leR, L_lt, L_ltR, L_eq, N_leT, N_leF, N_ltT, N_ltF, N_eqT, N_eqF, N_m1, bnd_S, un2_S, un3_S, nmI_S, nmL_S, ptI_S, cs2_L, cs2_R, okI_b, okI_1, okI_0, rdI_in, wrI_in, rdI_L, wrI_L, rdL_in, wrL_in, if_true, if_false]
end Q2
