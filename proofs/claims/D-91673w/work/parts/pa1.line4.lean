/-! PURE: a text is read: line stream, shaft -/
set_option maxRecDepth 100000
section L4
variable {Sh : g_Sh} {V V' : g_V} {L : g_L} {n N0 r tp ms bg sz td np nh nr lc lt : Nat} {V2 V2' : g_V} {κ u : Nat → Nat} {gp : Nat → Nat}
theorem Ps_rk (h : Ps gp N0 Sh V n V2 r tp ms bg sz td κ u np nh nr lc lt) : N0 ≤ r ∧ r < n := h.2.2.2.2.2.1.2.2.2.2.2 r (by rw [h.2.2.2.2.2.1.1]; omega)
theorem Ps_N (h : Ps gp N0 Sh V n V2 r tp ms bg sz td κ u np nh nr lc lt) : N0 ≤ n := h.2.2.2.2.2.1.2.2.2.2.1
theorem Ps_fr (h : Ps gp N0 Sh V n V2 r tp ms bg sz td κ u np nh nr lc lt) (hs : Tst r V V' V2 V2') : ∀ a, a < N0 → Sh a = Sh a ∧ V' a = V a := fun a ha => ⟨rfl, hs.1 a (by have := Ps_rk h; omega)⟩
theorem td_A {w' : Nat → Int32} (h : G1 Sh V κ u w') {α : Type} {i j : Nat} (hij : (i = 0 ∧ j = 1) ∨ (i = 1 ∧ j = 2) ∨ (i = 2 ∧ j = 3) ∨ (i = 3 ∧ j = 8) ∨ (i = 4 ∧ j = 10) ∨ (i = 5 ∧ j = 12)) {k : Nat → Option α} : cA Sh (u 0) 2 13 i k = k (u j) := by
  obtain ⟨⟨rf, h1, r0, r1, r2, r3, r4, r5, h2⟩, -⟩ := h
  rcases hij with ⟨rfl, rfl⟩ | ⟨rfl, rfl⟩ | ⟨rfl, rfl⟩ | ⟨rfl, rfl⟩ | ⟨rfl, rfl⟩ | ⟨rfl, rfl⟩
  · exact cA_eq h1 r0
  · exact cA_eq h1 r1
  · exact cA_eq h1 r2
  · exact cA_eq h1 r3
  · exact cA_eq h1 r4
  · exact cA_eq h1 r5
theorem l_streamJ (h : Ps gp N0 Sh V n V2 r tp ms bg sz td κ u np nh nr lc lt) (hg : gpI gp) : OL gp N0 Sh V L V2 r tp ms bg sz td lc lt (cm_X3_stream_J35 gp r td (Sh, V, L, n)) (tw_readStream_J47 V2) := by
  have hu := h.2.1
  subst hu
  have hro := h.1.1
  have rk := Ps_rk h
  have kN := Ps_N h
  have e11 : (11 : Int32).toInt = 11 := rfl
  have e30 : (30 : Int32).toInt = 30 := rfl
  unfold cm_X3_stream_J35 tw_readStream_J47
  rw [r_K hro]
  rcases t_number (gp := gp) (L := L) (lo := 0) (hi := 11) h.1 rk.2 (by decide) (by decide) with ⟨v, V1, W1, c1, c2, ⟨y, rfl, -, c7⟩, c4, c5⟩ | ⟨W1, c1, c2⟩
  · have P1 := Ps_tok h c4 c5
    have g1 : G1 Sh V1 κ u (W1 15) := P1.2.2.1.1
    rw [c1, c2, bnd_S, bnd_S, cs2_L, un2_S, un2_S]
    simp only [zSh_T, zV_T, zL_T, zn_T, td_A g1 (i := 2) (j := 3) (by omega), r_K hro]
    rcases t_told (gp := gp) (L := L) (w := 19) (lo := 0) (hi := 30) c5 rk.2 hg (by omega) (by decide) (by decide) with ⟨v, V3, W3, d1, d2, ⟨y2, rfl, -, d7⟩, d4, d5⟩ | ⟨W3, d1, d2⟩
    · have P3 := Ps_tok P1 d4 d5
      have hT := P3.2.2.1
      have g4 := hT.2.2.2.1
      have k3 := g4.1
      have gd : tw_good W3 = some 1 := if_pos d5.2.2.2.2.2.1
      have z1 : ¬ (1 : Int32) = 0 := by decide
      have kk := P3.2.2.2.2.2.1.2.2.2.2.2 (u 3) (by omega)
      have hw : ∀ j, j ≠ 36 + y → upd2 (upd2 W3 17 y 1) 15 (36 + y) (nI y2) 15 j = W3 15 j := fun j hj => by rw [upd2_eq, upd_ne hj, upd2_ne _ (by omega)]
      obtain ⟨n1, n2, n3, -, n5, n6, n7, n8⟩ := Td_keep (Sh' := Sh) (V' := upd2 V3 (u 3) y (nI y2)) (κ' := κ) (u' := u) (V2' := upd2 (upd2 W3 17 y 1) 15 (36 + y) (nI y2)) 4 hT (fun a a1 a7 aK => ⟨rfl, upd2_ne _ (fun e => aK (by rw [e]; exact k3)), rfl⟩) (fun _ _ => rfl) (fun j hj => hw j (by omega)) (fun _ => by rw [upd2_ne _ (by omega), upd2_ne _ (by omega)]) (fun e => by omega)
      have u03 : u 0 ≠ u 3 := fun e => by have := g1.2.1; rw [e] at this; omega
      left
      refine ⟨Sh, upd2 V3 (u 3) y (nI y2), n, upd2 (upd2 W3 17 y 1) 15 (36 + y) (nI y2), κ, u, np, nh, nr, ?_, ?_, Ps_set P3 ⟨n1 (by omega), n2 (by omega), n3 (by omega), ?_, n5 (by omega), n6 (by omega), n7 (by omega), n8⟩ (fun a ha => ⟨rfl, upd2_ne _ (fun e => by rw [e] at ha; omega), rfl⟩) (fun a ha => ⟨rfl, upd2_ne _ (by omega)⟩) ?_ (fun j hj => ?_) ?_ rfl (hw 0 (by omega)) (Nat.le_refl n) (fun a ha => Or.inl ha), fun a ha => ⟨rfl, ?_⟩, TF_tr (TF_st c4) (TF_tr (TF_st d4) (TF_tr (TF_r (a := 17) (by omega)) (TF_r (a := 15) (by omega))))⟩
      · simp (disch := omega) only [d1, bnd_S, cs2_L, un2_S, zsI_T g4.2.1]
      · simp (disch := omega) only [d2, bnd_S, un2_S, gd, z1, if_false, wrI_in, L_add]
      · refine ⟨k3, g4.2.1, fun j hj => ?_⟩
        by_cases e : j = y
        · subst e
          right
          rw [upd2_ne _ (by omega), upd2_eq, upd_eq, upd2_eq, upd_eq, upd2_eq, upd_eq]
          exact ⟨rfl, rfl, y2, rfl, by omega⟩
        · rw [hw _ (by omega), upd2_ne _ (by omega), upd2_eq, upd_ne e, upd2_eq, upd_ne e]
          exact g4.2.2 j hj
      · rw [upd2_ne _ (by omega), upd2_ne _ (by omega)]
      · rw [upd2_ne _ (by omega), upd2_ne _ (by omega)]
      · rw [upd2_ne _ u03]
      · rw [upd2_ne _ (by omega), d4.1 a (by omega), c4.1 a (by omega)]
    · right
      have dd := Fl_dead d1
      obtain ⟨x, Z', q1, q2⟩ := FL0_of kN rk.1 (Ps_fr h c4) (TF_st c4) d1 Dd_rf
      refine ⟨_, q2 _ _ ?_, ?_⟩
      · simp only [q1, bnd_S, cs2_R, un2_S]
      · simp only [d2, bnd_S, un2_S, d_good dd, if_true]
  · right
    have dd := Fl_dead c1
    obtain ⟨x, Z', q1, q2⟩ := FL0_of kN rk.1 (fun a _ => ⟨rfl, rfl⟩) TF_rf c1 Dd_rf
    refine ⟨_, q2 _ _ ?_, ?_⟩
    · simp only [q1, bnd_S, cs2_R, un2_S]
    · simp only [c2, bnd_S, un2_S, d_told dd, d_good dd, if_true]
theorem l_stream (h : Ps gp N0 Sh V n V2 r tp ms bg sz td κ u np nh nr lc lt) (hg : gpI gp) : OL gp N0 Sh V L V2 r tp ms bg sz td lc lt (cm_X3_stream gp (Sh, V, L, n) r td) (tw_readStream V2) := by
  have hJ := l_streamJ (L := L) h hg
  have h1 := h.1
  have hro := h1.1
  have rk := Ps_rk h
  have kN := Ps_N h
  have hu : u 0 = td := h.2.1
  have g1 : G1 Sh V κ u (V2 15) := h.2.2.1.1
  have g4 := h.2.2.1.2.2.2.1
  have z1 : ¬ (1 : Int32) = 0 := by decide
  have gd : tw_good V2 = some 1 := if_pos h1.2.2.2.2.2.1
  obtain ⟨a, f, t, k1, k2, k3, k4, k9, k5, k7, k10, k6, k11, kv, -⟩ := h1.2.2.2.2.2.2
  unfold cm_X3_stream tw_readStream
  simp (disch := omega) only [zSh_T, zV_T, zL_T, zn_T, r_I hro, k6, k11, gd, bnd_S, z1, if_false]
  by_cases t2 : nI t = 2
  · obtain ⟨y, y1, y2, y3⟩ := kv ((nI_eq (b := 2) (by omega) (by omega)).mp t2)
    rw [if_pos t2, if_pos t2]
    simp (disch := omega) only [y3, y2, L_le, N_le]
    by_cases c : y ≤ 11
    · have m : min y 100000 = y := by omega
      have i1 : tw_in (nI y).toInt64 0 11 = some 1 := by
        rw [tw_inI, nI_toInt (by omega), if_pos]
        have e11 : (11 : Int64).toInt = 11 := rfl
        have e0 : (0 : Int64).toInt = 0 := rfl
        omega
      rw [m, if_neg (by omega), i1]
      simp (disch := omega) only [bnd_S, z1, if_false, ← hu, td_A g1 (i := 2) (j := 3) (by omega), caI_eq g4.2.1, rdI_in]
      rw [hu]
      rcases g4.2.2 y (by omega) with ⟨s1, s2, -⟩ | ⟨s1, s2, k, s3, s4⟩
      · rw [s1, s2, if_pos rfl, if_pos rfl]
        exact hJ
      · rw [s1, s2, s3, if_neg (by rw [N_m1 (by omega)]; exact id), if_neg z1]
        obtain ⟨x, Z', Va, f1, f2, f3⟩ := t_fail (gp := gp) (L := L) h1 rk.2 (show ¬ (2 : Int32) = 0 by decide)
        simp only [r_K hro, f1, f2, bnd_S, cs2_R, un2_S]
        have F := f3 c_S _ rfl
        have dd := Fl_dead F
        right
        obtain ⟨x', Z'', q1, q2⟩ := FL0_of kN rk.1 (fun a _ => ⟨rfl, rfl⟩) TF_rf F Dd_rf
        refine ⟨Va, q2 _ _ q1, ?_⟩
        unfold tw_readStream_J47
        simp only [d_number dd, bnd_S, un2_S, d_told dd, d_good dd, if_true]
    · have i1 : tw_in (nI y).toInt64 0 11 = some 0 := by
        rw [tw_inI, nI_toInt (by omega), if_neg]
        have e11 : (11 : Int64).toInt = 11 := rfl
        omega
      rw [if_pos (by omega), i1]
      exact hJ
  · rw [if_neg t2, if_neg t2]
    exact hJ
end L4
