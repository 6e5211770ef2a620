/-! PURE: more -/
set_option maxRecDepth 100000
section MQ
variable {Sh Sh' : g_Sh} {V V' V0 : g_V} {L L' : g_L} {n n' x : Nat} {m u mt mt' q ρ : Nat → Nat} {V2 V2' : g_V} {L2 : g_L} {gp : Nat → Nat} {s N T : Nat}
theorem in_1 {a : Int32} : tw_in a.toInt64 1 30 = some 0 ∨ ∃ k, k ≤ 30 ∧ a = nI k ∧ tw_in a.toInt64 1 30 = some 1 := by
  rw [tw_inI, show (1 : Int64).toInt = 1 from rfl, show (30 : Int64).toInt = 30 from rfl]
  by_cases hc : 1 ≤ a.toInt ∧ a.toInt ≤ 30
  · right
    refine ⟨a.toInt.toNat, by omega, ?_, by rw [if_pos hc]⟩
    apply Int32.toInt_inj.mp
    rw [nI_toInt (by omega)]
    omega
  · left
    rw [if_neg hc]
theorem more_J (h : GG (Sh, V, L, n) x ρ m u mt q V2 L2) (hs : s < 4) (hN : N ≤ 6) (h36 : V2 36 s = nI N) (hT : T ≤ 30) : Ans (cm_X0_more_J48 gp x (nI T) (q (5 + s)) (Sh, V, L, n)) (bnd (tw_hasShaft V2) (fun x_19 => if x_19 = 0 then (some ((-6), V2)) else (rdI (V2 1) 810 2 fun x_21 => if x_21 = 0 then (some ((-6), V2)) else (bnd (tw_mayTell V2 L2 (nI s)) (fun x_27 => if x_27 = 0 then (some ((-7), V2)) else (bnd (tw_more_L78 (nI s) (nI T) L2 1000 (-1) 0 V2) (un2 fun x_66 V_67 => if x_66 = (-1) then (some ((-1), V_67)) else (ptI V_67 0 35 x_66 fun V_69 => bnd (tw_ones x_66) (fun x_73 => some (x_73, V_69)))))))))) x L2 := by
  have hM : GM Sh x (m 0) (mt 0) q := h.gm
  have hF : FS0 Sh m (u 0) := h.f0
  obtain ⟨wd, b, rf, s1, s2, s3, s4⟩ := x_slot h hs (by omega) h36
  have hP := h.inv.1.2.1
  have hLi : LSt Sh (m 5) (m 11) (pNp (V2 1)) (fun p => m (13 + p)) := h.fr.2.1.1
  have hv : V (m 5) 2 = nI (pNp (V2 1)) := by
    have : V (m 5) 2 = V2 1 2 := h.fr.2.2.2.1.1
    rw [this]; exact hP.1
  have lK : ∀ (α : Type) (k : Option α), zK (Sh, V, L, n) (m 5) 14 3 k = k := fun α k => l_K hLi
  have em := l_empty (L := L) (n := n) hLi hv (by have := hP.2.1; omega)
  have h2 : V2 1 2 = nI (pNp (V2 1)) := hP.1
  obtain ⟨c1, m1, m2⟩ := cm_may_eq h s1 s2 (by omega) s4
  obtain ⟨c2, m3, m4⟩ := tw_may_eq h hs (by omega) h36
  have cc : c1 = c2 := by
    have := m2.trans m4.symm
    cases c1 <;> cases c2 <;> simp at this <;> rfl
  subst cc
  unfold cm_X0_more_J48
  simp (disch := omega) only [zSh_T, zV_T, zL_T, zn_T, cR_eq s1 s2, zNl, x_K hM, x_has h, tw_hasShaft_eq, bnd_S, b2iF]
  cases pHas (V2 1) with
  | false => exact ⟨_, _, _, rfl, rfl, h.g⟩
  | true =>
    simp (disch := omega) only [Bool.true_eq_false, if_false, x_now hM, f_A hF, lK, em, bnd_S, b2iF, bnd_S, un2_S, un3_S, nmI_S, nmL_S, ptI_S, cs2_L, cs2_R, okI_b, okI_1, okI_0, rdI_in, wrI_in, rdI_L, wrI_L, rdL_in, wrL_in, if_true, if_false, h2, m1, m3]
    by_cases h0 : pNp (V2 1) = 0
    · rw [h0]
      exact ⟨_, _, _, rfl, rfl, h.g⟩
    · have d0 : decide (pNp (V2 1) = 0) = false := decide_eq_false h0
      have n0 : ¬ nI (pNp (V2 1)) = 0 := by
        intro z
        rw [← nI_0] at z
        exact h0 ((nI_eq (by have := hP.2.1; omega) (by omega)).mp z)
      simp only [d0, if_true, n0, if_false]
      cases hc : c1 with
      | false => exact ⟨_, _, _, rfl, rfl, h.g⟩
      | true =>
        simp only [Bool.true_eq_false, if_false]
        obtain ⟨o, o', l1, l2, Sh', V', n', V2', b', rfl, rfl, hb, ρ', mt', g1, g2, g3, g4⟩ := more_loop (gp := gp) hs hN hT (⟨ρ, mt, h, h36, by omega, m2.mp hc⟩ : Mr x m u q L2 s N (Sh, V, L, n) V2)
        rw [l1, l2]
        simp only [bnd_S, un2_S]
        have hM' : GM Sh' x (m 0) (mt' 0) q := g1.gm
        rcases hb with rfl | ⟨bb, hbb, rfl⟩
        · exact ⟨_, _, _, rfl, rfl, g1.g⟩
        · have nb : ¬ nI bb = -1 := by rw [N_m1 (by omega)]; exact id
          obtain ⟨kb, eb⟩ := ones_lt ⟨bb, hbb⟩
          have cb := ones_64 ⟨bb, hbb⟩
          dsimp only at eb cb
          rw [eb] at cb
          simp only [nb, if_false, x_P hM' (show 10 = 5 ∨ 10 = 6 ∨ 10 = 7 ∨ 10 = 9 ∨ 10 = 10 by omega), cb, eb, bnd_S, ptI_S]
          refine ⟨_, _, _, rfl, rfl, ρ', m, u, mt', q, GG_gn g1 (fun a a7 _ _ => ?_) ?_ ?_ ?_⟩
          · exact upd2_ne a (fun e => a7 (by rw [e]; exact g1.2.2.2.2.2.2.2.1))
          · obtain ⟨⟨i6, i7, i10⟩, ⟨t, t1, t2, t3⟩, ⟨k1, k2⟩, k3, t', t1', t2', t3', t4'⟩ := g1.2.2.2.1
            simp only [zSh_T, zV_T, zL_T, zn_T] at i6 i7 i10 t2 k1 k2 k3 t2' t4'
            have o := g1.2.2.2.2.2.2
            have n3 : q 3 ≠ x := fun e => by have a1 := o.2.1; have a2 := o.2.2.2.2.1; rw [e] at a2; omega
            have n4 : q 4 ≠ x := fun e => by have a1 := o.2.1; have a2 := o.2.2.2.2.2.1; rw [e] at a2; omega
            refine ⟨⟨?_, ?_, ?_⟩, ⟨t, t1, ?_, ?_⟩, ⟨k1, fun i hi => ?_⟩, k3, t', t1', ?_, ?_, fun i hi => ?_⟩
            · rw [upd2_eq, upd_ne (by omega), upd2_eq, upd_ne (by omega)]; exact i6
            · rw [upd2_eq, upd_ne (by omega), upd2_eq, upd_ne (by omega)]; exact i7
            · rw [upd2_eq, upd_eq, upd2_eq, upd_eq]
            · rw [upd2_eq, upd_ne (by omega)]; exact t2
            · rw [upd2_eq, upd_ne (by omega)]; exact t3
            · rw [upd2_ne _ n3, upd2_ne _ (by omega)]; exact k2 i hi
            · rw [upd2_eq, upd_ne (by omega)]; exact t2'
            · rw [upd2_eq, upd_ne (by omega)]; exact t3'
            · rw [upd2_ne _ n4, upd2_ne _ (by omega)]; exact t4' i hi
          · exact upd2_ne _ (by omega)
          · exact ⟨upd2_ne _ (by omega), upd2_ne _ (by omega), upd2_ne _ (by omega), upd2_ne _ (by omega)⟩
theorem q_more (h : GG (Sh, V, L, n) x ρ m u mt q V2 L2) (a b : Int32) : Ans (cm_X0_more gp (Sh, V, L, n) x a b) (tw_more V2 L2 a b) x L2 := by
  have hM : GM Sh x (m 0) (mt 0) q := h.gm
  have z1 : ¬ (1 : Int32) = 0 := by decide
  unfold cm_X0_more tw_more cm_X0_isSlot tw_isSlot
  simp only [cm_in_tw]
  rcases in_N (a := a) (hi := 3) (N := 4) (by omega) (by decide) with h1 | ⟨s, hs, rfl, h1⟩
  · rw [h1]; exact ⟨_, _, _, rfl, rfl, h.g⟩
  · rw [h1]
    rcases in_1 (a := b) with h2 | ⟨T, hT, rfl, h2⟩
    · rw [h2]; exact ⟨_, _, _, rfl, rfl, h.g⟩
    · rw [h2]
      obtain ⟨⟨el, e1, e2⟩, e3⟩ := h.2.2.2.2.1
      simp only [zSh_T, zV_T, zL_T, zn_T] at e1 e3
      have c1 : ∀ (α : Type) (k : Option Nat → Option α), caR Sh 7 (q 1) (nI s) k = k (some (q (5 + s))) := fun α k => by rw [caR_eq e1 hs (by omega), e2 s hs]
      simp (disch := omega) only [bnd_S, okI_1, z1, if_false, zSh_T, zV_T, zL_T, zn_T, x_sl hM, c1, nn_eq, rdI_in]
      rcases e3 s hs with ⟨k1, rf, k2, k3⟩ | ⟨N, wd, b, rf, k1, k2, k3, k4, k5, k6, k7, k8⟩
      · rw [k1, cR_eq k2 k3]
        simp only [zNl, cm_X0_more_J48, zSh_T, zV_T, zL_T, zn_T, cR_eq k2 k3]
        exact ⟨_, _, _, rfl, rfl, h.g⟩
      · have sm := s_many (n := n) k5 k6 k1 k8
        rw [k2, cR_eq k5 k6]
        have nb : ¬ nI N = -1 := by rw [N_m1 (by omega)]; exact id
        have e6 : (nI N ≤ (6 : Int32)) = (N ≤ 6) := by rw [show (6 : Int32) = nI 6 from rfl, N_le (by omega) (by omega)]
        simp only [zNl, zK_T k5, sm, bnd_S, e6, nb, if_false]
        by_cases h6 : N ≤ 6
        · rw [if_pos h6, if_pos h6]
          exact more_J h hs h6 k2 hT
        · rw [if_neg h6, if_neg h6]
          exact ⟨_, _, _, rfl, rfl, h.g⟩
end MQ
