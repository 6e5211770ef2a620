/-! PURE: whether a slot's places may have pipes: the reference -/
set_option maxRecDepth 100000
theorem first_p (P : Nat → Prop) (M : Nat) : ∃ K, K ≤ M ∧ (∀ j, j < K → ¬ P j) ∧ (K < M → P K) := by
  induction M with
  | zero => exact ⟨0, Nat.le_refl 0, fun j hj => by omega, fun h => by omega⟩
  | succ M ih =>
    obtain ⟨K, h1, h2, h3⟩ := ih
    by_cases hK : K < M
    · exact ⟨K, by omega, h2, fun _ => h3 hK⟩
    · have : K = M := by omega
      subst this
      rcases Classical.em (P K) with hp | hp
      · exact ⟨K, by omega, h2, fun _ => hp⟩
      · refine ⟨K + 1, by omega, fun j hj => ?_, fun h => by omega⟩
        by_cases e : j = K
        · rw [e]; exact hp
        · exact h2 j (by omega)
section MT
variable {Sh : g_Sh} {V : g_V} {L : g_L} {n x : Nat} {m u mt q ρ : Nat → Nat} {V2 : g_V} {L2 : g_L} {s N : Nat}
theorem tw_may_in (hs : s < 4) {k : Nat} (hk : k < 60) (v : Int64) : ((∀ i, i < k → L2 38 (60 * s + i) ≠ v) ∧ tw_mayTell_L59 (nI s) (nI k) v V2 L2 1000 0 = some (.inl ())) ∨ ((¬ ∀ i, i < k → L2 38 (60 * s + i) ≠ v) ∧ tw_mayTell_L59 (nI s) (nI k) v V2 L2 1000 0 = some (.inr ())) := by
  obtain ⟨K, k1, k2, k3⟩ := first_b (fun i => L2 38 (60 * s + i) == v) k
  have hr := lp_rel (F := tw_mayTell_F59 (nI s) (nI k) v V2 L2) (N := K) (P := fun out => out = if K < k then .inr () else .inl ()) (fun i z => z = nI i) ?_ ?_ 1000 0 (nI 0) (by omega) (by omega) rfl
  · obtain ⟨out, e1, rfl⟩ := hr
    have e1 : tw_mayTell_L59 (nI s) (nI k) v V2 L2 1000 0 = _ := e1
    by_cases hK : K < k
    · right
      rw [if_pos hK] at e1
      refine ⟨fun z => z K hK ?_, e1⟩
      have := k3 hK
      exact eq_of_beq this
    · left
      rw [if_neg hK] at e1
      refine ⟨fun i hi e => ?_, e1⟩
      have := k2 i (by omega)
      rw [e] at this
      simp at this
  · intro i z hi hz
    subst hz
    refine ⟨nI (i + 1), fun rec => ?_, rfl⟩
    have hne : ¬ L2 38 (60 * s + i) = v := fun e => by have := k2 i hi; rw [e] at this; simp at this
    unfold tw_mayTell_F59
    simp (disch := omega) only [tw_mayTell_B59, L_add, L_addR, L_mul, L_mulR, L_div, N_div, N_rem, L_sub, L_subN, nI_add, nI_mul, L_le, L_leR, L_lt, L_ltR, L_eq, N_leT, N_leF, N_ltT, N_ltF, N_eqT, N_eqF, N_m1, bnd_S, un2_S, un3_S, nmI_S, nmL_S, ptI_S, cs2_L, cs2_R, okI_b, okI_1, okI_0, rdI_in, wrI_in, rdI_L, wrI_L, rdL_in, wrL_in, if_true, if_false]
    rw [if_neg (fun z => hne ((lg_cmp_eq _ _).mp z))]
  · intro z hz
    subst hz
    refine ⟨_, fun rec => ?_, rfl⟩
    unfold tw_mayTell_F59
    by_cases hK : K < k
    · have heq : L2 38 (60 * s + K) = v := eq_of_beq (k3 hK)
      simp (disch := omega) only [tw_mayTell_B59, L_add, L_addR, L_mul, L_mulR, L_div, N_div, N_rem, L_sub, L_subN, nI_add, nI_mul, L_le, L_leR, L_lt, L_ltR, L_eq, N_leT, N_leF, N_ltT, N_ltF, N_eqT, N_eqF, N_m1, bnd_S, un2_S, un3_S, nmI_S, nmL_S, ptI_S, cs2_L, cs2_R, okI_b, okI_1, okI_0, rdI_in, wrI_in, rdI_L, wrI_L, rdL_in, wrL_in, if_true, if_false]
      rw [if_pos ((lg_cmp_eq _ _).mpr heq), if_pos hK]
    · simp (disch := omega) only [tw_mayTell_B59, L_add, L_addR, L_mul, L_mulR, L_div, N_div, N_rem, L_sub, L_subN, nI_add, nI_mul, L_le, L_leR, L_lt, L_ltR, L_eq, N_leT, N_leF, N_ltT, N_ltF, N_eqT, N_eqF, N_m1, bnd_S, un2_S, un3_S, nmI_S, nmL_S, ptI_S, cs2_L, cs2_R, okI_b, okI_1, okI_0, rdI_in, wrI_in, rdI_L, wrI_L, rdL_in, wrL_in, if_true, if_false]
      rw [if_neg hK]
theorem tw_may_eq (hG : GG (Sh, V, L, n) x ρ m u mt q V2 L2) (hs : s < 4) (hN : N ≤ 60) (h36 : V2 36 s = nI N) : ∃ b1, tw_mayTell V2 L2 (nI s) = some (b2i b1) ∧ (b1 = true ↔ ∀ k, k < N → okN (V2 1) (fun i => L2 38 (60 * s + i)) k) := by
  obtain ⟨K, k1, k2, k3⟩ := first_p (fun j => ¬ okN (V2 1) (fun i => L2 38 (60 * s + i)) j) N
  have k2' : ∀ j, j < K → okN (V2 1) (fun i => L2 38 (60 * s + i)) j := fun j hj => Classical.byContradiction (fun z => k2 j hj z)
  have hr := lp_rel (F := tw_mayTell_F2 (nI s) V2 L2) (N := K) (P := fun out => (K = N ∧ out = .inl ()) ∨ (K < N ∧ (out = .inr (.inl ()) ∨ out = .inr (.inr ())))) (fun i z => z = nI i) ?_ ?_ 1000 0 (nI 0) (by omega) (by omega) rfl
  · obtain ⟨out, e1, e2⟩ := hr
    have e1 : tw_mayTell_L2 (nI s) V2 L2 1000 0 = _ := e1
    unfold tw_mayTell
    rw [e1]
    rcases e2 with ⟨hK, rfl⟩ | ⟨hK, rfl | rfl⟩
    · exact ⟨true, rfl, ⟨fun _ k hk => k2' k (by omega), fun _ => rfl⟩⟩
    · exact ⟨false, rfl, ⟨fun z => Bool.noConfusion z, fun z => absurd (z K hK) (k3 hK)⟩⟩
    · exact ⟨false, rfl, ⟨fun z => Bool.noConfusion z, fun z => absurd (z K hK) (k3 hK)⟩⟩
  · intro i z hi hz
    subst hz
    obtain ⟨c1, c2, c3, c4⟩ := k2' i hi
    obtain ⟨c, hc, ec, e32⟩ := i64_c c1
    obtain ⟨r, r0, r1, -, r2⟩ := q_pipeAt hG (nI c)
    have rr : r = -1 := by
      rcases r0 with rr | ⟨p, hp, -, rp⟩
      · exact rr
      · exact absurd (rp.trans e32.symm) (c2 p hp)
    rw [rr] at r2
    rw [ec] at c3
    have hin : (∀ j, j < i → L2 38 (60 * s + j) ≠ L2 38 (60 * s + i)) := c4
    rcases tw_may_in (V2 := V2) (L2 := L2) hs (k := i) (by omega) (L2 38 (60 * s + i)) with ⟨-, t1⟩ | ⟨t0, -⟩
    · refine ⟨nI (i + 1), fun rec => ?_, rfl⟩
      unfold tw_mayTell_F2
      simp (disch := omega) only [tw_mayTell_B2, L_add, L_addR, L_mul, L_mulR, L_div, N_div, N_rem, L_sub, L_subN, nI_add, nI_mul, L_le, L_leR, L_lt, L_ltR, L_eq, N_leT, N_leF, N_ltT, N_ltF, N_eqT, N_eqF, N_m1, bnd_S, un2_S, un3_S, nmI_S, nmL_S, ptI_S, cs2_L, cs2_R, okI_b, okI_1, okI_0, rdI_in, wrI_in, rdI_L, wrI_L, rdL_in, wrL_in, if_true, if_false, h36, tw_in_eq, c1, and_self, show ¬ (1 : Int32) = 0 by decide, e32, r2, tw_isDug_eq hc, c3, b2iF, t1]
    · exact absurd hin t0
  · intro z hz
    subst hz
    unfold tw_mayTell_F2
    by_cases hK : K < N
    · have hno := k3 hK
      by_cases c1 : 0 ≤ L2 38 (60 * s + K) ∧ L2 38 (60 * s + K) ≤ 143
      · obtain ⟨c, hc, ec, e32⟩ := i64_c c1
        obtain ⟨r, r0, r1, -, r2⟩ := q_pipeAt hG (nI c)
        by_cases rr : r = -1
        · rw [rr] at r2
          cases hd : pDug (V2 1) c with
          | true =>
            refine ⟨.inr (.inl ()), fun rec => ?_, Or.inr ⟨hK, Or.inl rfl⟩⟩
            simp (disch := omega) only [tw_mayTell_B2, L_add, L_addR, L_mul, L_mulR, L_div, N_div, N_rem, L_sub, L_subN, nI_add, nI_mul, L_le, L_leR, L_lt, L_ltR, L_eq, N_leT, N_leF, N_ltT, N_ltF, N_eqT, N_eqF, N_m1, bnd_S, un2_S, un3_S, nmI_S, nmL_S, ptI_S, cs2_L, cs2_R, okI_b, okI_1, okI_0, rdI_in, wrI_in, rdI_L, wrI_L, rdL_in, wrL_in, if_true, if_false, h36, tw_in_eq, c1, and_self, show ¬ (1 : Int32) = 0 by decide, e32, r2, tw_isDug_eq hc, hd, b2iF, Bool.true_eq_false]
          | false =>
            rcases tw_may_in (V2 := V2) (L2 := L2) hs (k := K) (by omega) (L2 38 (60 * s + K)) with ⟨t0, -⟩ | ⟨-, t1⟩
            · exact absurd ⟨c1, fun p hp e => r1 rr p hp (e.trans e32), by rw [ec]; exact hd, t0⟩ hno
            · refine ⟨.inr (.inr ()), fun rec => ?_, Or.inr ⟨hK, Or.inr rfl⟩⟩
              simp (disch := omega) only [tw_mayTell_B2, L_add, L_addR, L_mul, L_mulR, L_div, N_div, N_rem, L_sub, L_subN, nI_add, nI_mul, L_le, L_leR, L_lt, L_ltR, L_eq, N_leT, N_leF, N_ltT, N_ltF, N_eqT, N_eqF, N_m1, bnd_S, un2_S, un3_S, nmI_S, nmL_S, ptI_S, cs2_L, cs2_R, okI_b, okI_1, okI_0, rdI_in, wrI_in, rdI_L, wrI_L, rdL_in, wrL_in, if_true, if_false, h36, tw_in_eq, c1, and_self, show ¬ (1 : Int32) = 0 by decide, e32, r2, tw_isDug_eq hc, hd, b2iF, t1]
        · refine ⟨.inr (.inl ()), fun rec => ?_, Or.inr ⟨hK, Or.inl rfl⟩⟩
          simp (disch := omega) only [tw_mayTell_B2, L_add, L_addR, L_mul, L_mulR, L_div, N_div, N_rem, L_sub, L_subN, nI_add, nI_mul, L_le, L_leR, L_lt, L_ltR, L_eq, N_leT, N_leF, N_ltT, N_ltF, N_eqT, N_eqF, N_m1, bnd_S, un2_S, un3_S, nmI_S, nmL_S, ptI_S, cs2_L, cs2_R, okI_b, okI_1, okI_0, rdI_in, wrI_in, rdI_L, wrI_L, rdL_in, wrL_in, if_true, if_false, h36, tw_in_eq, c1, and_self, show ¬ (1 : Int32) = 0 by decide, e32, r2, rr]
      · refine ⟨.inr (.inl ()), fun rec => ?_, Or.inr ⟨hK, Or.inl rfl⟩⟩
        simp (disch := omega) only [tw_mayTell_B2, L_add, L_addR, L_mul, L_mulR, L_div, N_div, N_rem, L_sub, L_subN, nI_add, nI_mul, L_le, L_leR, L_lt, L_ltR, L_eq, N_leT, N_leF, N_ltT, N_ltF, N_eqT, N_eqF, N_m1, bnd_S, un2_S, un3_S, nmI_S, nmL_S, ptI_S, cs2_L, cs2_R, okI_b, okI_1, okI_0, rdI_in, wrI_in, rdI_L, wrI_L, rdL_in, wrL_in, if_true, if_false, h36, tw_in_eq, c1]
    · have hKN : K = N := by omega
      refine ⟨.inl (), fun rec => ?_, Or.inl ⟨hKN, rfl⟩⟩
      simp (disch := omega) only [tw_mayTell_B2, L_add, L_addR, L_mul, L_mulR, L_div, N_div, N_rem, L_sub, L_subN, nI_add, nI_mul, L_le, L_leR, L_lt, L_ltR, L_eq, N_leT, N_leF, N_ltT, N_ltF, N_eqT, N_eqF, N_m1, bnd_S, un2_S, un3_S, nmI_S, nmL_S, ptI_S, cs2_L, cs2_R, okI_b, okI_1, okI_0, rdI_in, wrI_in, rdI_L, wrI_L, rdL_in, wrL_in, if_true, if_false, h36]
end MT
