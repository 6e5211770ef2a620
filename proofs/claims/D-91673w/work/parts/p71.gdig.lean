/-! PURE: digging -/
set_option maxRecDepth 100000
section DG
variable {Sh : g_Sh} {V V' : g_V} {L L' : g_L} {n n' x : Nat} {m u mt q ρ : Nat → Nat} {V2 V2' : g_V} {L2 : g_L} {w : Nat → Int32}
theorem l_empty {l e q : Nat} {g : Nat → Nat} (h : LSt Sh l e q g) (hq : V l 2 = nI q) (hq2 : q < 100) : cm_J2_isEmpty (Sh, V, L, n) l = some (b2i (decide (q = 0))) := by
  obtain ⟨⟨rf, h1, h2, h3, h4⟩, -⟩ := h
  unfold cm_J2_isEmpty
  simp (disch := omega) only [zSh_T, zV_T, zL_T, zn_T, cI_eq h1 h4, hq]
  by_cases e : q = 0
  · subst e; rfl
  · have : ¬ nI q = 0 := fun z => e ((nI_eq (by omega) (by omega)).mp z)
    rw [if_neg this]
    simp [e, b2i]
theorem x_may (h : GG (Sh, V, L, n) x ρ m u mt q V2 L2) : ∃ b Z' V2', cm_X0_mayDig (Sh, V, L, n) x = some (b2i b, Z') ∧ tw_mayDig V2 = some (b2i b, V2') ∧ Nx Sh V L x ρ m u mt q (V2 1) L2 Z' V2' := by
  have hM : GM Sh x (m 0) (mt 0) q := h.gm
  have hF : FS0 Sh m (u 0) := h.f0
  obtain ⟨nr, a1, a2, ⟨rf, a3, a4⟩, a5, a6, -⟩ := h.1.2.2.2.1
  simp only [zSh_T, zV_T, zL_T, zn_T] at a3 a5 a6
  have z1 : ¬ (1 : Int32) = 0 := by decide
  have key : ∀ i (s : Int32 × Int32 × c_S) (s' : Int32 × Int32 × g_V), i ≤ nr → (∃ b Zi V2i, s = (b2i b, nI i, Zi) ∧ s' = (b2i b, nI i, V2i) ∧ Nx Sh V L x ρ m u mt q (V2 1) L2 Zi V2i) → (∃ (o : Int32 × c_S) (o' : Int32 × g_V), (∀ rec, cm_X0_mayDig_F18 x rec s = some o) ∧ (∀ rec, tw_mayDig_F17 rec s' = some o') ∧ ∃ b Zi V2i, o = (b2i b, Zi) ∧ o' = (b2i b, V2i) ∧ Nx Sh V L x ρ m u mt q (V2 1) L2 Zi V2i) ∨ (i < nr ∧ ∃ t1 t2, (∀ rec, cm_X0_mayDig_F18 x rec s = rec t1) ∧ (∀ rec, tw_mayDig_F17 rec s' = rec t2) ∧ ∃ b Zi V2i, t1 = (b2i b, nI (i + 1), Zi) ∧ t2 = (b2i b, nI (i + 1), V2i) ∧ Nx Sh V L x ρ m u mt q (V2 1) L2 Zi V2i) := by
    intro i s s' hi hR
    obtain ⟨b, Zi, V2i, rfl, rfl, Shi, Vi, ni, rfl, hG, hw, hz⟩ := hR
    have hMi : GM Shi x (m 0) (mt 0) q := hG.gm
    have hFi : FS0 Shi m (u 0) := hG.f0
    obtain ⟨nr1, b1, b2, ⟨rfi, b3, b4⟩, b5, b6, -, -, -, b7⟩ := hG.1.2.2.2.1
    simp only [zSh_T, zV_T, zL_T, zn_T] at b3 b5 b6 b7
    have b2' := b2
    rw [hw, a2] at b2'
    have : nr = nr1 := (nI_eq (by omega) (by omega)).mp b2'
    subst this
    unfold cm_X0_mayDig_F18 tw_mayDig_F17
    by_cases hl : i < nr
    · right
      refine ⟨hl, ?_⟩
      cases b with
      | true =>
        refine ⟨(b2i true, nI (i + 1), (Shi, Vi, L, ni)), (b2i true, nI (i + 1), V2i), fun rec => ?_, fun rec => ?_, true, _, _, rfl, rfl, Shi, Vi, ni, rfl, hG, hw, hz⟩
        · simp (disch := omega) only [cm_X0_mayDig_B18, zSh_T, zV_T, zL_T, zn_T, L_add, L_addR, L_mul, L_mulR, L_div, N_div, N_rem, L_sub, L_subN, nI_add, nI_mul, L_le, L_leR, L_lt, L_ltR, L_eq, N_leT, N_leF, N_ltT, N_ltF, N_eqT, N_eqF, N_m1, bnd_S, un2_S, un3_S, nmI_S, nmL_S, ptI_S, cs2_L, cs2_R, okI_b, okI_1, okI_0, rdI_in, wrI_in, rdI_L, wrI_L, rdL_in, wrL_in, if_true, if_false, x_now hMi, f_t hFi, cA_eq b3 b4, l_K b5, l_size b5, b6, b2iF, Bool.true_eq_false]
          rfl
        · simp (disch := omega) only [tw_mayDig_B17, L_add, L_addR, L_mul, L_mulR, L_div, N_div, N_rem, L_sub, L_subN, nI_add, nI_mul, L_le, L_leR, L_lt, L_ltR, L_eq, N_leT, N_leF, N_ltT, N_ltF, N_eqT, N_eqF, N_m1, bnd_S, un2_S, un3_S, nmI_S, nmL_S, ptI_S, cs2_L, cs2_R, okI_b, okI_1, okI_0, rdI_in, wrI_in, rdI_L, wrI_L, rdL_in, wrL_in, if_true, if_false, b2, b2iF, Bool.true_eq_false]
          rfl
      | false =>
        obtain ⟨r, Z', V2', e1, e2, Sh', V', n', rfl, e3, e4, e5⟩ := x_rule hG b1 b2 hl
        obtain ⟨-, -, ⟨rf2, d1, -⟩, -⟩ := b7 i hl
        refine ⟨(b2i (decide (r = 0)), nI (i + 1), (Sh', V', L, n')), (b2i (decide (r = 0)), nI (i + 1), V2'), fun rec => ?_, fun rec => ?_, _, _, _, rfl, rfl, Sh', V', n', rfl, e3, e4.trans hw, fun a ha => ⟨(e5 a ha).1.trans (hz a ha).1, (e5 a ha).2.trans (hz a ha).2⟩⟩
        · simp (disch := omega) only [cm_X0_mayDig_B18, zSh_T, zV_T, zL_T, zn_T, L_add, L_addR, L_mul, L_mulR, L_div, N_div, N_rem, L_sub, L_subN, nI_add, nI_mul, L_le, L_leR, L_lt, L_ltR, L_eq, N_leT, N_leF, N_ltT, N_ltF, N_eqT, N_eqF, N_m1, bnd_S, un2_S, un3_S, nmI_S, nmL_S, ptI_S, cs2_L, cs2_R, okI_b, okI_1, okI_0, rdI_in, wrI_in, rdI_L, wrI_L, rdL_in, wrL_in, if_true, if_false, x_now hMi, f_t hFi, cA_eq b3 b4, l_K b5, l_size b5, b6, b2iF, l_get b5 b6 hl, zCk, zK_T d1, nn_eq, e1]
          by_cases hr : r = 0
          · rw [if_pos hr]; simp [hr, b2i]
          · rw [if_neg hr]; simp [hr, b2i]
        · simp (disch := omega) only [tw_mayDig_B17, L_add, L_addR, L_mul, L_mulR, L_div, N_div, N_rem, L_sub, L_subN, nI_add, nI_mul, L_le, L_leR, L_lt, L_ltR, L_eq, N_leT, N_leF, N_ltT, N_ltF, N_eqT, N_eqF, N_m1, bnd_S, un2_S, un3_S, nmI_S, nmL_S, ptI_S, cs2_L, cs2_R, okI_b, okI_1, okI_0, rdI_in, wrI_in, rdI_L, wrI_L, rdL_in, wrL_in, if_true, if_false, b2, b2iF, e2]
          by_cases hr : r = 0
          · rw [if_pos hr]; simp [hr, b2i]
          · rw [if_neg hr]; simp [hr, b2i]
    · left
      have : i = nr := by omega
      subst this
      refine ⟨(b2i b, (Shi, Vi, L, ni)), (b2i b, V2i), fun rec => ?_, fun rec => ?_, b, _, _, rfl, rfl, Shi, Vi, ni, rfl, hG, hw, hz⟩
      · simp (disch := omega) only [cm_X0_mayDig_B18, zSh_T, zV_T, zL_T, zn_T, L_add, L_addR, L_mul, L_mulR, L_div, N_div, N_rem, L_sub, L_subN, nI_add, nI_mul, L_le, L_leR, L_lt, L_ltR, L_eq, N_leT, N_leF, N_ltT, N_ltF, N_eqT, N_eqF, N_m1, bnd_S, un2_S, un3_S, nmI_S, nmL_S, ptI_S, cs2_L, cs2_R, okI_b, okI_1, okI_0, rdI_in, wrI_in, rdI_L, wrI_L, rdL_in, wrL_in, if_true, if_false, x_now hMi, f_t hFi, cA_eq b3 b4, l_K b5, l_size b5, b6]
      · simp (disch := omega) only [tw_mayDig_B17, L_add, L_addR, L_mul, L_mulR, L_div, N_div, N_rem, L_sub, L_subN, nI_add, nI_mul, L_le, L_leR, L_lt, L_ltR, L_eq, N_leT, N_leF, N_ltT, N_ltF, N_eqT, N_eqF, N_m1, bnd_S, un2_S, un3_S, nmI_S, nmL_S, ptI_S, cs2_L, cs2_R, okI_b, okI_1, okI_0, rdI_in, wrI_in, rdI_L, wrI_L, rdL_in, wrL_in, if_true, if_false, b2]
  obtain ⟨o, o', f1, f2, b, Zi, V2i, rfl, rfl, f3⟩ := lp_sim (P := fun (o : Int32 × c_S) (o' : Int32 × g_V) => ∃ b Zi V2i, o = (b2i b, Zi) ∧ o' = (b2i b, V2i) ∧ Nx Sh V L x ρ m u mt q (V2 1) L2 Zi V2i) (fun i s s' => ∃ b Zi V2i, s = (b2i b, nI i, Zi) ∧ s' = (b2i b, nI i, V2i) ∧ Nx Sh V L x ρ m u mt q (V2 1) L2 Zi V2i) key 5 1000 0 (b2i (decide (nr = 0)), nI 0, (Sh, V, L, n)) (b2i (decide (nr = 0)), nI 0, V2) (by omega) (by omega) (by omega) ⟨_, _, _, rfl, rfl, Nx_0 h⟩
  refine ⟨b, Zi, V2i, ?_, ?_, f3⟩
  · unfold cm_X0_mayDig cm_X0_mayDig_L18
    simp (disch := omega) only [zSh_T, zV_T, zL_T, zn_T, bnd_S, un2_S, un3_S, nmI_S, nmL_S, ptI_S, cs2_L, cs2_R, okI_b, okI_1, okI_0, rdI_in, wrI_in, rdI_L, wrI_L, rdL_in, wrL_in, if_true, if_false, x_now hM, f_t hF, cA_eq a3 a4, l_K a5, l_empty a5 a6]
    rw [show (b2i (decide (nr = 0)), (0 : Int32), ((Sh, V, L, n) : c_S)) = (b2i (decide (nr = 0)), nI 0, (Sh, V, L, n)) from rfl, f1]
    simp only [bnd_S, un2_S, okI_b]
  · have f2' : tw_mayDig_J14 (b2i (decide (nr = 0))) V2 = some (b2i b, V2i) := by
      unfold tw_mayDig_J14 tw_mayDig_L17
      rw [show (b2i (decide (nr = 0)), (0 : Int32), V2) = (b2i (decide (nr = 0)), nI 0, V2) from rfl, f2]
      simp only [bnd_S, un2_S, okI_b]
    unfold tw_mayDig
    simp (disch := omega) only [bnd_S, un2_S, un3_S, nmI_S, nmL_S, ptI_S, cs2_L, cs2_R, okI_b, okI_1, okI_0, rdI_in, wrI_in, rdI_L, wrI_L, rdL_in, wrL_in, if_true, if_false, a2]
    by_cases e : nr = 0
    · rw [if_pos (by rw [e]; rfl)]
      have : b2i (decide (nr = 0)) = 1 := by simp [e, b2i]
      rw [this] at f2'
      exact f2'
    · have e2 : ¬ nI nr = 0 := fun z => e ((nI_eq (by omega) (by omega)).mp z)
      rw [if_neg e2]
      have : b2i (decide (nr = 0)) = 0 := by simp [e, b2i]
      rw [this] at f2'
      exact f2'
theorem q_dig (h : GG (Sh, V, L, n) x ρ m u mt q V2 L2) (a b : Int32) : Ans (cm_X0_dig (Sh, V, L, n) x a b) (tw_dig V2 a b) x L2 := by
  have hM : GM Sh x (m 0) (mt 0) q := h.gm
  have hF : FS0 Sh m (u 0) := h.f0
  have hA : FSa Sh m := h.fa
  have hT : TS Sh V (fun a => ρ a = 1) u (V2 1) := h.ts
  have hV : VA V m (V2 1) := h.va
  have z1 : ¬ (1 : Int32) = 0 := by decide
  unfold cm_X0_dig tw_dig
  rcases in_pl a b with ⟨e1, e2⟩ | ⟨X, Y, hX, hY, rfl, rfl, e1, e2⟩
  · rw [e1, e2]; exact ⟨_, _, _, rfl, rfl, h.g⟩
  · have hc : 12 * Y + X < 144 := by omega
    have d1 : V (m 4) (12 * Y + X) = b2i (pDug (V2 1) (12 * Y + X)) := VA_dug (Z := (Sh, V, L, n)) hV hc
    have s1 : cm_X2_isShaft (Sh, V, L, n) (u 0) (nI (12 * Y + X)) = some (b2i (pShf (V2 1) (12 * Y + X))) := cm_isShaft_eq (Z := (Sh, V, L, n)) hT hc
    have s2 := tw_isShaft_eq (V := V2) hc
    obtain ⟨bm, Z', V3, m1, m2, Sh1, V1, n1, rfl, hG, hw, -⟩ := x_may h
    have hM1 : GM Sh1 x (m 0) (mt 0) q := hG.gm
    have hF1 : FS0 Sh1 m (u 0) := hG.f0
    have hA1 : FSa Sh1 m := hG.fa
    have hFR := hG.fr
    have hT1 : TS Sh1 V1 (fun a => ρ a = 1) u (V3 1) := hG.ts
    obtain ⟨⟨⟨-, -, -, hV1, -⟩, hm, -⟩, -, hI, hL, hP, hH, hGa⟩ := hG.fr
    simp only [zSh_T, zV_T, zL_T, zn_T] at hV1 hI hL hP hH hGa
    have hI' := hI
    obtain ⟨i9, i10, i11, i12, i13, i14, i15, i16, i17⟩ := hI'
    have h18 := hG.inv.1.2.1.2.1
    have h6 := hG.inv.1.2.2.1.2.1
    obtain ⟨v1, v2, -⟩ := hV1 _ hc
    rw [e1, e2]
    simp (disch := omega) only [zSh_T, zV_T, zL_T, zn_T, L_add, L_addR, L_mul, L_mulR, L_div, N_div, N_rem, L_sub, L_subN, nI_add, nI_mul, L_le, L_leR, L_lt, L_ltR, L_eq, N_leT, N_leF, N_ltT, N_ltF, N_eqT, N_eqF, N_m1, bnd_S, un2_S, un3_S, nmI_S, nmL_S, ptI_S, cs2_L, cs2_R, okI_b, okI_1, okI_0, rdI_in, wrI_in, rdI_L, wrI_L, rdL_in, wrL_in, if_true, if_false, z1, x_K hM, x_now hM, f_t hF, f_A hF, t_KT hT, s1, s2, b2iF, caI_eq hA.2.2.2.1, d1, tw_isDug_eq hc, m1, m2]
    cases pShf (V2 1) (12 * Y + X) with
    | false => exact ⟨_, _, _, rfl, rfl, h.g⟩
    | true =>
      simp only [Bool.true_eq_false, if_false]
      cases pDug (V2 1) (12 * Y + X) with
      | true => exact ⟨_, _, _, rfl, rfl, h.g⟩
      | false =>
        simp only [if_true]
        cases bm with
        | false => exact ⟨_, _, _, rfl, rfl, hG.g⟩
        | true =>
          simp (disch := omega) only [zSh_T, zV_T, zL_T, zn_T, L_add, L_addR, L_mul, L_mulR, L_div, N_div, N_rem, L_sub, L_subN, nI_add, nI_mul, L_le, L_leR, L_lt, L_ltR, L_eq, N_leT, N_leF, N_ltT, N_ltF, N_eqT, N_eqF, N_m1, bnd_S, un2_S, un3_S, nmI_S, nmL_S, ptI_S, cs2_L, cs2_R, okI_b, okI_1, okI_0, rdI_in, wrI_in, rdI_L, wrI_L, rdL_in, wrL_in, if_true, if_false, Bool.true_eq_false, x_now hM1, f_I hF1, i17, f_A hF1, i14, caI_eq hA1.1, caI_eq hA1.2.1, v1, v2, f_pT hF1, zsI_T hA1.2.2.2.1, upd2_row, rowV_eq, rowM_ne hm, rowV_over, rowM_swap hm, upd_eq, upd_ne, upd_over, Nat.zero_add]
          rcases hG.inv.2.2.2.1 with hb | hb
          · rw [hb, if_pos rfl, if_neg (show ¬ (0 : Int32) = 1 by decide)]
            have hG2 : GG (Sh1, rowV (rowV V1 (m 0) (upd (V1 (m 0)) 14 (V3 1 17 + (V3 1 (192 + (12 * Y + X)) - V3 1 (336 + (12 * Y + X)))))) (m 4) (upd (V1 (m 4)) (12 * Y + X) 1), L, n1) x ρ m u mt q (rowV V3 1 (upd (upd (V3 1) 17 (V3 1 17 + (V3 1 (192 + (12 * Y + X)) - V3 1 (336 + (12 * Y + X))))) (480 + (12 * Y + X)) 1)) L2 := by
              generalize V3 1 17 + (V3 1 (192 + (12 * Y + X)) - V3 1 (336 + (12 * Y + X))) = g17
              generalize hcc : 12 * Y + X = c at hc
              refine GG_now (w' := upd (upd (V3 1) 17 g17) (480 + c) 1) hG (fun d hd => ?_) (FR_of hFR (fun d hd => ?_) (fun j hj => ?_) (fun c' hc' => ?_) ?_ ?_ (fun p i hp hi => ?_) (fun p i hp hi => ?_) (fun g hg => ?_)) ?_ ?_ (pInv_c hG.inv (fun j _ _ _ _ _ _ _ => ?_) (fun p hp => ?_) ?_ ?_ (fun g hg => ?_)) (fun j hj => ?_) (TwK_row (by omega)) (rowV_eq _ _ _)
              · rw [rowV_ne (fun e => hd (by rw [e]; exact hG.ow (by omega))), rowV_ne (fun e => hd (by rw [e]; exact hG.ow (by omega)))]
              · have r4 := hG.ow (i := 4) (by omega)
                have r0 := hG.ow (i := 0) (by omega)
                rw [rowV_ne (fun e => by rw [e] at hd; omega), rowV_ne (fun e => by rw [e] at hd; omega)]
              · simp (disch := omega) only [upd_ne]
              · by_cases e : c' = c
                · subst e
                  simp (disch := omega) only [rowM_ne hm, rowV_eq, upd_ne, upd_eq]
                  exact ⟨(hV1 c' hc').1, (hV1 c' hc').2.1, trivial, Or.inr trivial⟩
                · simp (disch := omega) only [rowM_ne hm, rowV_eq, upd_ne]
                  exact hV1 c' hc'
              · unfold VI
                simp (disch := omega) only [rowM_ne hm, rowV_eq, upd_ne, upd_eq]
                exact ⟨i9, i10, i11, i12, i13, trivial, i15, i16, i17⟩
              · unfold VLi
                simp (disch := omega) only [rowM_ne hm, upd_ne]; exact hL
              · have e : pNp (upd (upd (V3 1) 17 g17) (480 + c) 1) = pNp (V3 1) := pNp_eq (by simp (disch := omega) only [upd_ne])
                rw [e] at hp
                simp (disch := omega) only [rowM_ne hm, upd_ne]; exact hP p i hp hi
              · have e : pNh (upd (upd (V3 1) 17 g17) (480 + c) 1) = pNh (V3 1) := pNh_eq (by simp (disch := omega) only [upd_ne])
                rw [e] at hp
                simp (disch := omega) only [rowM_ne hm, upd_ne]; exact hH p i hp hi
              · simp (disch := omega) only [rowM_ne hm, upd_ne]; exact hGa g hg
              · simp (disch := omega) only [upd_ne]
              · simp (disch := omega) only [upd_ne]
              · simp (disch := omega) only [upd_ne]
              · simp (disch := omega) only [upd_ne]; exact (hG.inv.1.2.2.2.2.1.1 p hp).2.2
              · simp (disch := omega) only [upd_ne]; exact hG.inv.1.2.1.2.2.2
              · simp (disch := omega) only [upd_ne]; exact Or.inl hb
              · simp (disch := omega) only [upd_ne]; exact hG.inv.2.2.2.2.2.1 g hg
              · simp (disch := omega) only [upd_ne]
            generalize rowV (rowV V1 (m 0) (upd (V1 (m 0)) 14 (V3 1 17 + (V3 1 (192 + (12 * Y + X)) - V3 1 (336 + (12 * Y + X)))))) (m 4) (upd (V1 (m 4)) (12 * Y + X) 1) = V4 at hG2 ⊢
            generalize rowV V3 1 (upd (upd (V3 1) 17 (V3 1 17 + (V3 1 (192 + (12 * Y + X)) - V3 1 (336 + (12 * Y + X))))) (480 + (12 * Y + X)) 1) = V5 at hG2 ⊢
            have cnt : AnQ (cm_X0_dig_L114 x (Sh1, V4, L, n1) 1000 0 0) (tw_dig_L116 V5 1000 0 0) := by
              have hT4 : TS Sh1 V4 (fun a => ρ a = 1) u (V5 1) := hG2.ts
              have hV4 : VA V4 m (V5 1) := hG2.va
              refine AnQ_lp (N := 144) (by omega) (by omega) (fun i a hi => ?_) (fun a => ⟨fun rec => ?_, fun rec => ?_⟩)
              · have s1 : cm_X2_isShaft (Sh1, V4, L, n1) (u 0) (nI i) = some (b2i (pShf (V5 1) i)) := cm_isShaft_eq (Z := (Sh1, V4, L, n1)) hT4 hi
                have d1 : V4 (m 4) i = b2i (pDug (V5 1) i) := VA_dug (Z := (Sh1, V4, L, n1)) hV4 hi
                refine ⟨if pShf (V5 1) i = false then a + 0 else if pDug (V5 1) i = false then a + 1 else a + 0, fun rec => ?_, fun rec => ?_⟩
                · unfold cm_X0_dig_F114
                  simp (disch := omega) only [cm_X0_dig_B114, zSh_T, zV_T, zL_T, zn_T, L_le, L_leR, N_leF, N_leT, L_addR, bnd_S, un2_S, un3_S, nmI_S, nmL_S, ptI_S, cs2_L, cs2_R, okI_b, okI_1, okI_0, rdI_in, wrI_in, rdI_L, wrI_L, rdL_in, wrL_in, if_true, if_false, x_now hM1, f_t hF1, f_A hF1, t_KT hT4, s1, b2iF, caI_eq hA1.2.2.2.1, d1]
                  cases pShf (V5 1) i <;> cases pDug (V5 1) i <;> rfl
                · unfold tw_dig_F116
                  simp (disch := omega) only [tw_dig_B116, L_le, L_leR, N_leF, N_leT, L_addR, bnd_S, un2_S, un3_S, nmI_S, nmL_S, ptI_S, cs2_L, cs2_R, okI_b, okI_1, okI_0, rdI_in, wrI_in, rdI_L, wrI_L, rdL_in, wrL_in, if_true, if_false, tw_isShaft_eq hi, b2iF, tw_isDug_eq hi]
                  cases pShf (V5 1) i <;> cases pDug (V5 1) i <;> rfl
              · unfold cm_X0_dig_F114
                simp (disch := omega) only [cm_X0_dig_B114, L_add, L_addR, L_mul, L_mulR, L_div, N_div, N_rem, L_sub, L_subN, nI_add, nI_mul, L_le, L_leR, L_lt, L_ltR, L_eq, N_leT, N_leF, N_ltT, N_ltF, N_eqT, N_eqF, N_m1, bnd_S, un2_S, un3_S, nmI_S, nmL_S, ptI_S, cs2_L, cs2_R, okI_b, okI_1, okI_0, rdI_in, wrI_in, rdI_L, wrI_L, rdL_in, wrL_in, if_true, if_false]
              · unfold tw_dig_F116
                simp (disch := omega) only [tw_dig_B116, L_add, L_addR, L_mul, L_mulR, L_div, N_div, N_rem, L_sub, L_subN, nI_add, nI_mul, L_le, L_leR, L_lt, L_ltR, L_eq, N_leT, N_leF, N_ltT, N_ltF, N_eqT, N_eqF, N_m1, bnd_S, un2_S, un3_S, nmI_S, nmL_S, ptI_S, cs2_L, cs2_R, okI_b, okI_1, okI_0, rdI_in, wrI_in, rdI_L, wrI_L, rdL_in, wrL_in, if_true, if_false]
            obtain ⟨r, c1, c2⟩ := cnt
            rw [c1, c2]
            exact ⟨_, _, _, rfl, rfl, hG2.g⟩
          · rw [hb, if_neg z1, if_pos rfl]
            exact ⟨_, _, _, rfl, rfl, hG.g⟩
end DG
