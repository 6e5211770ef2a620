/-! PURE: whether a slot's places may have pipes: both sides -/
set_option maxRecDepth 100000
section MH2
variable {Sh : g_Sh} {V : g_V} {L : g_L} {n x : Nat} {m u mt q ρ : Nat → Nat} {V2 : g_V} {L2 : g_L} {a b wd N : Nat} {g : Nat → Int64} {rf : Nat → Option (Option Nat)}
theorem cm_may_eq (hG : GG (Sh, V, L, n) x ρ m u mt q V2 L2) (h1 : Sh a = some (d_obj 7 1 rf)) (h2 : rf 0 = some (some b)) (hN : N ≤ 60) (h : Row Sh V L b wd N g) : ∃ b1, cm_X0_mayHave (Sh, V, L, n) x a = some (b2i b1) ∧ (b1 = true ↔ ∀ k, k < N → okN (V2 1) g k) := by
  have hM : GM Sh x (m 0) (mt 0) q := hG.gm
  have hF : FS0 Sh m (u 0) := hG.f0
  have hA : FSa Sh m := hG.fa
  have hV : VA V m (V2 1) := hG.va
  have sm := s_many (n := n) h1 h2 hN h
  have hr := lp_rel (F := cm_X0_mayHave_F4 x a (Sh, V, L, n)) (N := N) (P := fun out => ∃ b1, out = b2i b1 ∧ (b1 = true ↔ ∀ k, k < N → okN (V2 1) g k)) (fun i s => ∃ b1, s = (b2i b1, nI i) ∧ (b1 = true ↔ ∀ k, k < i → okN (V2 1) g k)) ?_ ?_ 1000 0 (b2i true, nI 0) (by omega) (by omega) ⟨true, rfl, ⟨fun _ k hk => by omega, fun _ => rfl⟩⟩
  · obtain ⟨out, e1, b1, rfl, e2⟩ := hr
    refine ⟨b1, ?_, e2⟩
    unfold cm_X0_mayHave cm_X0_mayHave_L4
    rw [show ((1 : Int32), (0 : Int32)) = (b2i true, nI 0) from rfl, e1]
    simp only [bnd_S, okI_b]
  · intro i s hi hs
    obtain ⟨b1, rfl, e⟩ := hs
    have s1 := s_number (n := n) h1 h2 hN h hi
    obtain ⟨bf, f1, f2⟩ := cm_may_in (x := x) (n := n) h1 h2 hN h hi false
    obtain ⟨bt', t1, t2⟩ := cm_may_in (x := x) (n := n) h1 h2 hN h hi true
    have bff : bf = false := by cases bf with
      | false => rfl
      | true => exact (f2.mp rfl).1.symm
    subst bff
    have f1 : cm_X0_mayHave_L71 x a (nI i) (Sh, V, L, n) 1000 0 0 = some (b2i false) := f1
    have t1 : cm_X0_mayHave_L71 x a (nI i) (Sh, V, L, n) 1000 1 0 = some (b2i bt') := t1
    have no : ∀ (hno : ¬ okN (V2 1) g i), (∃ k : Bool, k = false) → (false = true ↔ ∀ k, k < i + 1 → okN (V2 1) g k) := fun hno _ => ⟨fun z => Bool.noConfusion z, fun z => absurd (z i (by omega)) hno⟩
    unfold cm_X0_mayHave_F4
    cases b1 with
    | false =>
      refine ⟨(b2i false, nI (i + 1)), fun rec => ?_, false, rfl, ⟨fun z => Bool.noConfusion z, fun z => e.mpr (fun k hk => z k (by omega))⟩⟩
      simp (disch := omega) only [cm_X0_mayHave_B4, cm_X0_mayHave_J66, cm_X0_mayHave_J67, zSh_T, zV_T, zL_T, zn_T, L_add, L_addR, L_mul, L_mulR, L_div, N_div, N_rem, L_sub, L_subN, nI_add, nI_mul, L_le, L_leR, L_lt, L_ltR, L_eq, N_leT, N_leF, N_ltT, N_ltF, N_eqT, N_eqF, N_m1, bnd_S, un2_S, un3_S, nmI_S, nmL_S, ptI_S, cs2_L, cs2_R, okI_b, okI_1, okI_0, rdI_in, wrI_in, rdI_L, wrI_L, rdL_in, wrL_in, if_true, if_false, zK_T h1, sm, b2iF, f1]
    | true =>
      have et := e.mp rfl
      by_cases c1 : 0 ≤ g i ∧ g i ≤ 143
      · obtain ⟨c, hc, ec, e32⟩ := i64_c c1
        have d1 : V (m 4) c = b2i (pDug (V2 1) c) := VA_dug (Z := (Sh, V, L, n)) hV hc
        obtain ⟨r, r0, r1, r2, -⟩ := q_pipeAt hG (g i).toInt32
        rcases r0 with rr | ⟨p, hp, rr, rp⟩
        · cases hd : pDug (V2 1) c with
          | true =>
            refine ⟨(b2i false, nI (i + 1)), fun rec => ?_, false, rfl, no (fun z => by have := z.2.2.1; rw [ec, hd] at this; exact Bool.noConfusion this) ⟨false, rfl⟩⟩
            rw [rr, e32] at r2
            simp (disch := omega) only [cm_X0_mayHave_B4, cm_X0_mayHave_J66, cm_X0_mayHave_J67, zSh_T, zV_T, zL_T, zn_T, L_add, L_addR, L_mul, L_mulR, L_div, N_div, N_rem, L_sub, L_subN, nI_add, nI_mul, L_le, L_leR, L_lt, L_ltR, L_eq, N_leT, N_leF, N_ltT, N_ltF, N_eqT, N_eqF, N_m1, bnd_S, un2_S, un3_S, nmI_S, nmL_S, ptI_S, cs2_L, cs2_R, okI_b, okI_1, okI_0, rdI_in, wrI_in, rdI_L, wrI_L, rdL_in, wrL_in, if_true, if_false, zK_T h1, sm, b2iF, Bool.true_eq_false, s1, cm_in_tw, tw_in_eq, c1, and_self, show ¬ (1 : Int32) = 0 by decide, x_K hM, r2, x_now hM, f_A hF, e32, caI_eq hA.2.2.2.1, d1, hd, f1]
          | false =>
            refine ⟨(b2i bt', nI (i + 1)), fun rec => ?_, bt', rfl, ?_⟩
            · rw [rr, e32] at r2
              simp (disch := omega) only [cm_X0_mayHave_B4, cm_X0_mayHave_J66, cm_X0_mayHave_J67, zSh_T, zV_T, zL_T, zn_T, L_add, L_addR, L_mul, L_mulR, L_div, N_div, N_rem, L_sub, L_subN, nI_add, nI_mul, L_le, L_leR, L_lt, L_ltR, L_eq, N_leT, N_leF, N_ltT, N_ltF, N_eqT, N_eqF, N_m1, bnd_S, un2_S, un3_S, nmI_S, nmL_S, ptI_S, cs2_L, cs2_R, okI_b, okI_1, okI_0, rdI_in, wrI_in, rdI_L, wrI_L, rdL_in, wrL_in, if_true, if_false, zK_T h1, sm, b2iF, Bool.true_eq_false, s1, cm_in_tw, tw_in_eq, c1, and_self, show ¬ (1 : Int32) = 0 by decide, x_K hM, r2, x_now hM, f_A hF, e32, caI_eq hA.2.2.2.1, d1, hd, t1]
            · refine ⟨fun z k hk => ?_, fun z => t2.mpr ⟨rfl, (z i (by omega)).2.2.2⟩⟩
              by_cases ek : k = i
              · subst ek
                exact ⟨c1, r1 rr, by rw [ec]; exact hd, (t2.mp z).2⟩
              · exact et k (by omega)
        · have hr1 : ¬ r = -1 := fun z => by rw [rr, N_m1 (by have := hG.inv.2.1; omega)] at z; exact z
          refine ⟨(b2i false, nI (i + 1)), fun rec => ?_, false, rfl, no (fun z => z.2.1 p hp rp) ⟨false, rfl⟩⟩
          simp (disch := omega) only [cm_X0_mayHave_B4, cm_X0_mayHave_J66, cm_X0_mayHave_J67, zSh_T, zV_T, zL_T, zn_T, L_add, L_addR, L_mul, L_mulR, L_div, N_div, N_rem, L_sub, L_subN, nI_add, nI_mul, L_le, L_leR, L_lt, L_ltR, L_eq, N_leT, N_leF, N_ltT, N_ltF, N_eqT, N_eqF, N_m1, bnd_S, un2_S, un3_S, nmI_S, nmL_S, ptI_S, cs2_L, cs2_R, okI_b, okI_1, okI_0, rdI_in, wrI_in, rdI_L, wrI_L, rdL_in, wrL_in, if_true, if_false, zK_T h1, sm, b2iF, Bool.true_eq_false, s1, cm_in_tw, tw_in_eq, c1, and_self, show ¬ (1 : Int32) = 0 by decide, x_K hM, r2, hr1, f1]
      · refine ⟨(b2i false, nI (i + 1)), fun rec => ?_, false, rfl, no (fun z => c1 z.1) ⟨false, rfl⟩⟩
        simp (disch := omega) only [cm_X0_mayHave_B4, cm_X0_mayHave_J66, cm_X0_mayHave_J67, zSh_T, zV_T, zL_T, zn_T, L_add, L_addR, L_mul, L_mulR, L_div, N_div, N_rem, L_sub, L_subN, nI_add, nI_mul, L_le, L_leR, L_lt, L_ltR, L_eq, N_leT, N_leF, N_ltT, N_ltF, N_eqT, N_eqF, N_m1, bnd_S, un2_S, un3_S, nmI_S, nmL_S, ptI_S, cs2_L, cs2_R, okI_b, okI_1, okI_0, rdI_in, wrI_in, rdI_L, wrI_L, rdL_in, wrL_in, if_true, if_false, zK_T h1, sm, b2iF, Bool.true_eq_false, s1, cm_in_tw, tw_in_eq, c1, f1]
  · intro s hs
    obtain ⟨b1, rfl, e⟩ := hs
    refine ⟨b2i b1, fun rec => ?_, b1, rfl, e⟩
    unfold cm_X0_mayHave_F4
    simp (disch := omega) only [cm_X0_mayHave_B4, zSh_T, zV_T, zL_T, zn_T, L_add, L_addR, L_mul, L_mulR, L_div, N_div, N_rem, L_sub, L_subN, nI_add, nI_mul, L_le, L_leR, L_lt, L_ltR, L_eq, N_leT, N_leF, N_ltT, N_ltF, N_eqT, N_eqF, N_m1, bnd_S, un2_S, un3_S, nmI_S, nmL_S, ptI_S, cs2_L, cs2_R, okI_b, okI_1, okI_0, rdI_in, wrI_in, rdI_L, wrI_L, rdL_in, wrL_in, if_true, if_false, zK_T h1, sm]
end MH2
