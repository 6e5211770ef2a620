/-! PURE: whether a slot's places may have pipes -/
set_option maxRecDepth 100000
/-- a place that may have one more pipe -/
def okN (w : Nat → Int32) (g : Nat → Int64) (k : Nat) : Prop := (0 ≤ g k ∧ g k ≤ 143) ∧ (∀ p, p < pNp w → ¬ w (624 + 6 * p) = (g k).toInt32) ∧ pDug w (g k).toInt.toNat = false ∧ ∀ i, i < k → g i ≠ g k
theorem i64_c {v : Int64} (h : 0 ≤ v ∧ v ≤ 143) : ∃ c, c < 144 ∧ v.toInt.toNat = c ∧ v.toInt32 = nI c := by
  have h1 : 0 ≤ v.toInt := by have := Int64.le_iff_toInt_le.mp h.1; exact this
  have h2 : v.toInt ≤ 143 := by have := Int64.le_iff_toInt_le.mp h.2; exact this
  refine ⟨v.toInt.toNat, by omega, rfl, ?_⟩
  apply Int32.toInt_inj.mp
  rw [nI_toInt (by omega), Int64.toInt_toInt32, Int.bmod_eq_of_le] <;> omega
section MH
variable {Sh : g_Sh} {V : g_V} {L : g_L} {n x : Nat} {m u mt q ρ : Nat → Nat} {V2 : g_V} {L2 : g_L} {a b wd N : Nat} {g : Nat → Int64} {rf : Nat → Option (Option Nat)}
theorem cm_may_in (h1 : Sh a = some (d_obj 7 1 rf)) (h2 : rf 0 = some (some b)) (hN : N ≤ 60) (h : Row Sh V L b wd N g) {k : Nat} (hk : k < N) (b0 : Bool) : ∃ b1, cm_X0_mayHave_L71 x a (nI k) (Sh, V, L, n) 1000 (b2i b0) 0 = some (b2i b1) ∧ (b1 = true ↔ b0 = true ∧ ∀ i, i < k → g i ≠ g k) := by
  have hr := lp_rel (F := cm_X0_mayHave_F71 x a (nI k) (Sh, V, L, n)) (N := k) (P := fun out => ∃ b1, out = b2i b1 ∧ (b1 = true ↔ b0 = true ∧ ∀ i, i < k → g i ≠ g k)) (fun i s => ∃ b1, s = (b2i b1, nI i) ∧ (b1 = true ↔ b0 = true ∧ ∀ j, j < i → g j ≠ g k)) ?_ ?_ 1000 0 (b2i b0, nI 0) (by omega) (by omega) ⟨b0, rfl, ⟨fun e => ⟨e, fun i hi => by omega⟩, fun e => e.1⟩⟩
  · obtain ⟨out, e1, b1, rfl, e2⟩ := hr
    exact ⟨b1, e1, e2⟩
  · intro i s hi hs
    obtain ⟨b1, rfl, e⟩ := hs
    have s1 := s_number (n := n) h1 h2 hN h (i := i) (by omega)
    have s2 := s_number (n := n) h1 h2 hN h hk
    cases b1 with
    | false =>
      refine ⟨(b2i false, nI (i + 1)), fun rec => ?_, false, rfl, ⟨fun z => Bool.noConfusion z, fun z => e.mpr ⟨z.1, fun j hj => z.2 j (by omega)⟩⟩⟩
      unfold cm_X0_mayHave_F71
      simp (disch := omega) only [cm_X0_mayHave_B71, L_add, L_addR, L_mul, L_mulR, L_div, N_div, N_rem, L_sub, L_subN, nI_add, nI_mul, L_le, L_leR, L_lt, L_ltR, L_eq, N_leT, N_leF, N_ltT, N_ltF, N_eqT, N_eqF, N_m1, bnd_S, un2_S, un3_S, nmI_S, nmL_S, ptI_S, cs2_L, cs2_R, okI_b, okI_1, okI_0, rdI_in, wrI_in, rdI_L, wrI_L, rdL_in, wrL_in, if_true, if_false, b2iF]
      rfl
    | true =>
      have et := e.mp rfl
      by_cases c : g i = g k
      · refine ⟨(b2i false, nI (i + 1)), fun rec => ?_, false, rfl, ⟨fun z => Bool.noConfusion z, fun z => absurd c (z.2 i (by omega))⟩⟩
        unfold cm_X0_mayHave_F71
        simp (disch := omega) only [cm_X0_mayHave_B71, zSh_T, zV_T, zL_T, zn_T, L_add, L_addR, L_mul, L_mulR, L_div, N_div, N_rem, L_sub, L_subN, nI_add, nI_mul, L_le, L_leR, L_lt, L_ltR, L_eq, N_leT, N_leF, N_ltT, N_ltF, N_eqT, N_eqF, N_m1, bnd_S, un2_S, un3_S, nmI_S, nmL_S, ptI_S, cs2_L, cs2_R, okI_b, okI_1, okI_0, rdI_in, wrI_in, rdI_L, wrI_L, rdL_in, wrL_in, if_true, if_false, b2iF, Bool.true_eq_false, zK_T h1, s1, s2]
        rw [if_pos ((lg_cmp_eq _ _).mpr c)]
        rfl
      · refine ⟨(b2i true, nI (i + 1)), fun rec => ?_, true, rfl, ⟨fun _ => ⟨et.1, fun j hj => ?_⟩, fun _ => rfl⟩⟩
        · unfold cm_X0_mayHave_F71
          simp (disch := omega) only [cm_X0_mayHave_B71, zSh_T, zV_T, zL_T, zn_T, L_add, L_addR, L_mul, L_mulR, L_div, N_div, N_rem, L_sub, L_subN, nI_add, nI_mul, L_le, L_leR, L_lt, L_ltR, L_eq, N_leT, N_leF, N_ltT, N_ltF, N_eqT, N_eqF, N_m1, bnd_S, un2_S, un3_S, nmI_S, nmL_S, ptI_S, cs2_L, cs2_R, okI_b, okI_1, okI_0, rdI_in, wrI_in, rdI_L, wrI_L, rdL_in, wrL_in, if_true, if_false, b2iF, Bool.true_eq_false, zK_T h1, s1, s2]
          rw [if_neg (fun z => c ((lg_cmp_eq _ _).mp z))]
          rfl
        · by_cases ej : j = i
          · rw [ej]; exact c
          · exact et.2 j (by omega)
  · intro s hs
    obtain ⟨b1, rfl, e⟩ := hs
    refine ⟨b2i b1, fun rec => ?_, b1, rfl, e⟩
    unfold cm_X0_mayHave_F71
    simp (disch := omega) only [cm_X0_mayHave_B71, L_add, L_addR, L_mul, L_mulR, L_div, N_div, N_rem, L_sub, L_subN, nI_add, nI_mul, L_le, L_leR, L_lt, L_ltR, L_eq, N_leT, N_leF, N_ltT, N_ltF, N_eqT, N_eqF, N_m1, bnd_S, un2_S, un3_S, nmI_S, nmL_S, ptI_S, cs2_L, cs2_R, okI_b, okI_1, okI_0, rdI_in, wrI_in, rdI_L, wrI_L, rdL_in, wrL_in, if_true, if_false]
end MH
