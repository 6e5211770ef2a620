/-! PURE: a text is read: line pipe, all -/
set_option maxRecDepth 100000
section L10
variable {Sh Sh1 : g_Sh} {V V1 V' : g_V} {L : g_L} {n N0 r tp ms bg sz td np nh nr lc lt : Nat} {V2 W1 V2' : g_V} {κ u : Nat → Nat} {gp : Nat → Nat}
theorem OL_tr {c : Option (c_S ⊕ (Nat × c_S))} {t : Option g_V} (hf : ∀ a, a < N0 → Sh1 a = Sh a ∧ V1 a = V a) (tf : TF V2 W1) (ho : OL gp N0 Sh1 V1 L W1 r tp ms bg sz td lc lt c t) : OL gp N0 Sh V L V2 r tp ms bg sz td lc lt c t := by
  rcases ho with ⟨Sh', V', n', V2', κ', u', np', nh', nr', e1, e2, e3, e4, e5⟩ | ⟨V2', ⟨x, Z', k, f, e1, e2, e3, e4, e5, e6, e7, e8, e9, e10⟩, e11⟩
  · exact Or.inl ⟨Sh', V', n', V2', κ', u', np', nh', nr', e1, e2, e3, fun a ha => ⟨(e4 a ha).1.trans (hf a ha).1, (e4 a ha).2.trans (hf a ha).2⟩, TF_tr tf e5⟩
  · exact Or.inr ⟨V2', ⟨x, Z', k, f, e1, e2, e3, e4, e5, fun a ha => ⟨(e6 a ha).1.trans (hf a ha).1, (e6 a ha).2.1.trans (hf a ha).2, (e6 a ha).2.2⟩, e7, e8, e9, TF_tr tf e10⟩, e11⟩
theorem d_pipeJ {x : Int32} {W : g_V} (dd : ¬ W 0 13 = 0) : tw_readPipe_J86 x W = some W := by
  unfold tw_readPipe_J86
  simp only [d_number dd, bnd_S, un2_S, d_below dd, d_told dd, d_good dd, if_true]
theorem l_pipe (h : Ps gp N0 Sh V n V2 r tp ms bg sz td κ u np nh nr lc lt) (hg : gpI gp) (h6 : np < 12) : OL gp N0 Sh V L V2 r tp ms bg sz td lc lt (cm_X3_pipe gp (Sh, V, L, n) r td) (tw_readPipe V2) := by
  have rk := Ps_rk h
  have kN := Ps_N h
  have h1 := h.1
  have hro := h1.1
  have e11 : (11 : Int32).toInt = 11 := rfl
  have z1 : ¬ (1 : Int32) = 0 := by decide
  unfold cm_X3_pipe tw_readPipe
  rw [r_K hro]
  rcases t_number (gp := gp) (L := L) (lo := 0) (hi := 11) h1 rk.2 (by decide) (by decide) with ⟨v, V1, W1, c1, c2, ⟨x0, rfl, -, y2⟩, c4, c5⟩ | ⟨W1, c1, c2⟩
  · have P1 := Ps_tok h c4 c5
    have hu := P1.2.1
    rw [c1, c2, bnd_S, bnd_S, cs2_L, un2_S, un2_S]
    refine OL_tr (Sh1 := Sh) (V1 := V1) (W1 := W1) (Ps_fr h c4) (TF_st c4) ?_
    obtain ⟨a, f, t, k1, k2, k3, k4, k9, k5, k7, k10, k6, k11, kv, -⟩ := c5.2.2.2.2.2.2
    have gd : tw_good W1 = some 1 := if_pos c5.2.2.2.2.2.1
    have g1 := P1.2.2.1.1
    obtain ⟨q1, q2, q3, q4, q5, q6, q7, q8, q9⟩ := P1.2.2.1.2.2.2.2.1
    simp (disch := omega) only [zSh_T, zV_T, zL_T, zn_T, r_I hro, k6, k11, gd, bnd_S, z1, if_false]
    by_cases t2 : nI t = 2
    · obtain ⟨y, y1, y2', y3⟩ := kv ((nI_eq (b := 2) (by omega) (by omega)).mp t2)
      rw [if_pos t2, if_pos t2]
      simp (disch := omega) only [y3, y2', L_le, N_le]
      by_cases c : y ≤ 11
      · have m : min y 100000 = y := by omega
        have i1 : tw_in (nI y).toInt64 0 11 = some 1 := by
          rw [tw_inI, nI_toInt (by omega), if_pos]
          have e11 : (11 : Int64).toInt = 11 := rfl
          have e0 : (0 : Int64).toInt = 0 := rfl
          omega
        rw [m] at y3
        rw [m, if_neg (by omega), i1, bnd_S, if_neg z1]
        obtain ⟨K, K1, K2, K3⟩ := first_b (fun p => W1 15 (624 + 6 * p) == nI (12 * y + x0)) np
        have ne : ∀ p, p < K → ¬ W1 15 (624 + 6 * p) = nI (12 * y + x0) := fun p hp e => by
          have := K2 p hp
          rw [e] at this
          simp at this
        have get : ∀ i, i < np → cm_J2_get (Sh, V1, L, n) (u 8) (nI i) = some (some (u (20 + i))) := fun i hi => l_get q3 q4 hi
        have size := l_size (V := V1) (L := L) (n := n) q3
        rw [q4] at size
        have lK : ∀ (α : Type) (k : Option α), zK (Sh, V1, L, n) (u 8) 14 3 k = k := fun α k => l_K q3
        have tdA : ∀ (α : Type) (k : Nat → Option α), cA Sh td 2 13 3 k = k (u 8) := fun α k => by rw [← hu]; exact td_A g1 (by omega)
        have body : ∀ i, i < np → ∀ rec, cm_X3_pipe_F27 gp r td (nI x0) rec (nI i, (Sh, V1, L, n)) = if W1 15 (624 + 6 * i) = nI (12 * y + x0) then (bnd (cm_X3_fails gp (Sh, V1, L, n) r 2) (cs2 (fun Z_68 => nmI (nI i + 1) fun x_72 => rec (x_72, Z_68)) (un2 fun x_69 Z_70 => some (.inr (x_69, Z_70))))) else rec (nI (i + 1), (Sh, V1, L, n)) := by
          intro i hi rec
          obtain ⟨z1, ⟨rf, z2, z3⟩, z4, -⟩ := q7 i hi
          have ck : ∀ (α : Type) (k : Option α), zCk (Sh, V1, L, n) (some (u (20 + i))) 5 6 k = k := fun α k => by
            show zK (Sh, V1, L, n) (u (20 + i)) 5 6 _ = _
            exact zK_T z2
          have v0 : V1 (u (20 + i)) 0 = W1 15 (624 + 6 * i) := z4 0 (by omega)
          unfold cm_X3_pipe_F27
          simp (disch := omega) only [cm_X3_pipe_B27, zSh_T, zV_T, zL_T, zn_T, tdA, lK, size, bnd_S, N_leF, if_false, get i hi, ck, nn_eq, cI_eq z2 (z3 0 (by omega)), v0, r_I hro, y3, L_mul, nI_add, r_K hro, nmI_S, L_addR]
        by_cases hK : K < np
        · have heq : W1 15 (624 + 6 * K) = nI (12 * y + x0) := eq_of_beq (K3 hK)
          obtain ⟨x, Z', Wd, f1, f2, f3⟩ := t_fail (gp := gp) (L := L) c5 rk.2 (show ¬ (2 : Int32) = 0 by decide)
          have FF := f3 c_S _ rfl
          have dd := Fl_dead FF
          have D15 : Wd 15 = W1 15 := by obtain ⟨_, _, _, _, _, _, _, _, _, q, _⟩ := FF; exact q 15 (by omega)
          have cl := lp_rel (F := cm_X3_pipe_F27 gp r td (nI x0)) (N := K) (P := fun out => out = .inr (x, Z')) (fun i s => s = (nI i, (Sh, V1, L, n))) (fun i s hi hs => ⟨(nI (i + 1), (Sh, V1, L, n)), fun rec => by rw [hs, body i (by omega), if_neg (ne i hi)], rfl⟩) (fun s hs => ⟨.inr (x, Z'), fun rec => by rw [hs, body K hK, if_pos heq, f1, bnd_S, cs2_R, un2_S], rfl⟩) 13 0 (nI 0, (Sh, V1, L, n)) (by omega) (by omega) rfl
          obtain ⟨out, cl1, rfl⟩ := cl
          have cl1 : cm_X3_pipe_L27 gp r td (nI x0) 13 0 (Sh, V1, L, n) = some (.inr (x, Z')) := cl1
          have d12 : tw_wrong W1 2 = some Wd := f2
          have Wd12 : Wd 0 12 = nI y := by
            have : Wd = upd2 (upd2 W1 0 13 2) 0 14 (upd2 W1 0 13 2 0 10) := by
              unfold tw_wrong at d12
              rw [gd, bnd_S, if_neg z1, ptI_S, ptI_S] at d12
              injection d12 with d12
              exact d12.symm
            rw [this, upd2_eq, upd_ne (by omega), upd2_eq, upd_ne (by omega)]; exact y2'
          have tl := lp_rel (F := tw_readPipe_F40 (nI x0)) (N := np) (P := fun out => out = Wd) (fun i s => (i ≤ K ∧ s = (nI i, W1)) ∨ (K < i ∧ s = (nI i, Wd))) (by
            intro i s hi hs
            rcases hs with ⟨hiK, rfl⟩ | ⟨hiK, rfl⟩
            · by_cases e : i = K
              · subst e
                refine ⟨(nI (i + 1), Wd), fun rec => ?_, Or.inr ⟨by omega, rfl⟩⟩
                unfold tw_readPipe_F40
                simp (disch := omega) only [tw_readPipe_B40, rdI_L, rdI_in, q2, N_leF, if_false, L_mul, L_add, heq, y2', nI_add, if_true, f2, bnd_S, nmI_S, L_addR]
              · refine ⟨(nI (i + 1), W1), fun rec => ?_, Or.inl ⟨by omega, rfl⟩⟩
                have := ne i (by omega)
                unfold tw_readPipe_F40
                simp (disch := omega) only [tw_readPipe_B40, rdI_L, rdI_in, q2, N_leF, if_false, L_mul, L_add, y2', nI_add, this, nmI_S, L_addR]
            · refine ⟨(nI (i + 1), Wd), fun rec => ?_, Or.inr ⟨by omega, rfl⟩⟩
              have q2d : Wd 15 2 = nI np := by rw [D15]; exact q2
              unfold tw_readPipe_F40
              simp (disch := omega) only [tw_readPipe_B40, rdI_L, rdI_in, q2d, N_leF, if_false, L_mul, L_add, Wd12, nI_add, d_wrong dd, bnd_S, nmI_S, L_addR]
              split <;> rfl) (by
            intro s hs
            rcases hs with ⟨hiK, rfl⟩ | ⟨hiK, rfl⟩
            · omega
            · refine ⟨Wd, fun rec => ?_, rfl⟩
              have q2d : Wd 15 2 = nI np := by rw [D15]; exact q2
              unfold tw_readPipe_F40
              simp (disch := omega) only [tw_readPipe_B40, rdI_L, rdI_in, q2d, N_leT, if_true]) 1000 0 (nI 0, W1) (by omega) (by omega) (Or.inl ⟨by omega, rfl⟩)
          obtain ⟨out, tl1, rfl⟩ := tl
          have tl1 : tw_readPipe_L40 (nI x0) 1000 0 W1 = some out := tl1
          rw [cl1, tl1, bnd_S, bnd_S, cs2_R, un2_S, d_pipeJ dd]
          right
          obtain ⟨x', Z'', w1, w2⟩ := FL0_of kN rk.1 (fun a _ => ⟨rfl, rfl⟩) TF_rf FF Dd_rf
          exact ⟨out, w2 _ _ w1, rfl⟩
        · have KN : K = np := by omega
          subst KN
          have cl := lp_rel (F := cm_X3_pipe_F27 gp r td (nI x0)) (N := K) (P := fun out => out = .inl (Sh, V1, L, n)) (fun i s => s = (nI i, (Sh, V1, L, n))) (fun i s hi hs => ⟨(nI (i + 1), (Sh, V1, L, n)), fun rec => by rw [hs, body i (by omega), if_neg (ne i hi)], rfl⟩) (fun s hs => ⟨.inl (Sh, V1, L, n), fun rec => by
            rw [hs]
            unfold cm_X3_pipe_F27
            simp (disch := omega) only [cm_X3_pipe_B27, zSh_T, zV_T, zL_T, zn_T, tdA, lK, size, bnd_S, N_leT, if_true], rfl⟩) 13 0 (nI 0, (Sh, V1, L, n)) (by omega) (by omega) rfl
          obtain ⟨out, cl1, rfl⟩ := cl
          have cl1 : cm_X3_pipe_L27 gp r td (nI x0) 13 0 (Sh, V1, L, n) = some (.inl (Sh, V1, L, n)) := cl1
          have tl := lp_rel (F := tw_readPipe_F40 (nI x0)) (N := K) (P := fun out => out = W1) (fun i s => s = (nI i, W1)) (by
            intro i s hi hs
            subst hs
            refine ⟨(nI (i + 1), W1), fun rec => ?_, rfl⟩
            have := ne i (by omega)
            unfold tw_readPipe_F40
            simp (disch := omega) only [tw_readPipe_B40, rdI_L, rdI_in, q2, N_leF, if_false, L_mul, L_add, y2', nI_add, this, nmI_S, L_addR]) (by
            intro s hs
            subst hs
            refine ⟨W1, fun rec => ?_, rfl⟩
            unfold tw_readPipe_F40
            simp (disch := omega) only [tw_readPipe_B40, rdI_L, rdI_in, q2, N_leT, if_true]) 1000 0 (nI 0, W1) (by omega) (by omega) rfl
          obtain ⟨out, tl1, rfl⟩ := tl
          have tl1 : tw_readPipe_L40 (nI x0) 1000 0 out = some out := tl1
          rw [cl1, tl1, bnd_S, bnd_S, cs2_L]
          refine l_pipeJ P1 hg h6 (by omega) (fun _ k hk e p hp => ?_)
          rw [y2'] at e
          have : y = k := (nI_eq (by omega) (by omega)).mp e
          rw [← this]
          exact ne p hp
      · have i1 : tw_in (nI y).toInt64 0 11 = some 0 := by
          rw [tw_inI, nI_toInt (by omega), if_neg]
          have e11 : (11 : Int64).toInt = 11 := rfl
          omega
        rw [if_pos (by omega), i1]
        refine l_pipeJ P1 hg h6 (by omega) (fun _ k hk e p hp => ?_)
        rw [y2'] at e
        have : y = k := (nI_eq (by omega) (by omega)).mp e
        omega
    · rw [if_neg t2, if_neg t2]
      refine l_pipeJ P1 hg h6 (by omega) (fun e k hk _ p hp => ?_)
      rw [k11] at e
      exact absurd e t2
  · right
    have dd := Fl_dead c1
    obtain ⟨x, Z', w1, w2⟩ := FL0_of kN rk.1 (fun a _ => ⟨rfl, rfl⟩) TF_rf c1 Dd_rf
    refine ⟨W1, w2 _ _ ?_, ?_⟩
    · rw [w1]; rfl
    · rw [c2, bnd_S, un2_S, d_good dd, bnd_S, if_pos rfl]
      exact d_pipeJ dd
end L10
