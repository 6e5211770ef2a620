/-! PURE: run, tick -/
set_option maxRecDepth 100000
section TK0
variable {w : Nat → Int32}
theorem pTicks_keep (hp : pPok w) (hh : pHok w) {j : Nat} (h1 : j ≠ 1) (h12 : j ≠ 12) (h13 : j ≠ 13) (h14 : j ≠ 14) (h15 : j ≠ 15) (h16 : j ≠ 16) (ha : j < 192 ∨ 480 ≤ j) (hb : j < 624 ∨ 732 ≤ j ∨ (j - 624) % 6 < 4) (hc : j < 732 ∨ (j - 732) % 3 ≠ 2 ∨ 750 ≤ j) : pTicks w j = w j := by
  obtain ⟨hh4, en4⟩ := pT4_hok hp hh
  have h6 := hh.2.1
  have e5 : pT5 w j = w j := by
    unfold pT5 pHou pHouI
    rw [en4, if_neg (by omega), upd_ne h1]
    exact pT3_B hp j h14 h15 h16 ha hb
  unfold pTicks pFlood
  split
  · rw [upd_ne h13, upd_ne h12]; exact e5
  · exact e5
theorem pTicks_1 (hp : pPok w) : pTicks w 1 = w 1 + 1 := by
  have e5 : pT5 w 1 = w 1 + 1 := by
    unfold pT5 pHou pHouI
    rw [if_neg (by omega), upd_eq, pT3_B hp 1 (by omega) (by omega) (by omega) (by omega) (by omega)]
  unfold pTicks pFlood
  split
  · rw [upd_ne (by omega), upd_ne (by omega)]; exact e5
  · exact e5
theorem pTicks_12 (hp : pPok w) (h : w 12 = 0 ∨ w 12 = 1) : pTicks w 12 = 0 ∨ pTicks w 12 = 1 := by
  have e5 : pT5 w 12 = w 12 := by
    unfold pT5 pHou pHouI
    rw [if_neg (by omega), upd_ne (by omega), pT3_B hp 12 (by omega) (by omega) (by omega) (by omega) (by omega)]
  unfold pTicks pFlood
  split
  · rw [upd_ne (by omega), upd_eq]; exact Or.inr rfl
  · rw [e5]; exact h
theorem pInv_t (h : pInv w) {t : Nat} (ht : t < 2000) (h1 : w 1 = nI t) : pInv (pTicks w) ∧ pTicks w 1 = nI (t + 1) := by
  obtain ⟨k1, k2, k3, k4, k5, k6, k7⟩ := h
  have hp := k1.2.1
  have hh := k1.2.2.1
  have ek : ∀ j, j ≠ 1 → j ≠ 12 → j ≠ 13 → j ≠ 14 → j ≠ 15 → j ≠ 16 → (j < 192 ∨ 750 ≤ j) → pTicks w j = w j := fun j a b c d e f g => pTicks_keep hp hh a b c d e f (by omega) (by omega) (by omega)
  have e1 : pTicks w 1 = nI (t + 1) := by rw [pTicks_1 hp, h1, L_addR]
  refine ⟨⟨pTicks_good k1, ?_, ?_, pTicks_12 hp k4, ?_, fun g hg => ?_, t + 1, by omega, e1⟩, e1⟩
  · rw [pNp_eq (ek 2 (by omega) (by omega) (by omega) (by omega) (by omega) (by omega) (by omega))]; exact k2
  · unfold pShOk pHas at k3 ⊢
    rw [ek 7 (by omega) (by omega) (by omega) (by omega) (by omega) (by omega) (by omega), ek 8 (by omega) (by omega) (by omega) (by omega) (by omega) (by omega) (by omega), ek 9 (by omega) (by omega) (by omega) (by omega) (by omega) (by omega) (by omega), ek 10 (by omega) (by omega) (by omega) (by omega) (by omega) (by omega) (by omega), ek 11 (by omega) (by omega) (by omega) (by omega) (by omega) (by omega) (by omega)]
    exact k3
  · rw [ek 18 (by omega) (by omega) (by omega) (by omega) (by omega) (by omega) (by omega), ek 5 (by omega) (by omega) (by omega) (by omega) (by omega) (by omega) (by omega)]; exact k5
  · rw [ek _ (by omega) (by omega) (by omega) (by omega) (by omega) (by omega) (by omega)]; exact k6 g hg
theorem pStr_n1 (h : pGood w) : ∀ y, y < 12 → ¬ w (36 + y) = -1 := by
  intro y hy e
  have := (h.2.2.2.1.2.1 y hy)
  rw [e] at this
  have h2 : (-1 : Int32).toInt = -1 := by decide
  omega
end TK0
section TK1
variable {Sh : g_Sh} {V V' : g_V} {L L' : g_L} {n n' x : Nat} {m u mt q ρ : Nat → Nat} {V2 V2' : g_V} {L2 : g_L} {Fz : Nat → Prop} {w w' : Nat → Int32}
/-- one tick on both sides -/
theorem GG_tick {t : Nat} (h : GG (Sh, V, L, n) x ρ m u mt q V2 L2) (ht : t < 2000) (h1 : V2 1 1 = nI t) : ∃ V' V2', cm_X1_ticks (Sh, V, L, n) (m 0) = some (Sh, V', L, n) ∧ tw_ticks V2 = some V2' ∧ GG (Sh, V', L, n) x ρ m u mt q V2' L2 ∧ V2' 1 1 = nI (t + 1) := by
  have hg := h.inv.1
  obtain ⟨V', e1, e2, e3⟩ := cm_ticks_eq h.fr hg.2.1 hg.2.2.1 hg.bnd (pStr_n1 hg)
  obtain ⟨a, b, c, e4⟩ := tw_ticks_eq (V := V2) hg.1 hg.2.1 hg.2.2.1
  obtain ⟨i1, i2⟩ := pInv_t h.inv ht h1
  have ew : rowV (rowV (rowV (rowV V2 1 (pTicks (V2 1))) 24 a) 25 b) 26 c 1 = pTicks (V2 1) := by
    rw [rowV_ne (by omega), rowV_ne (by omega), rowV_ne (by omega), rowV_eq]
  have ek : ∀ j, j ≠ 1 → j ≠ 12 → j ≠ 13 → j ≠ 14 → j ≠ 15 → j ≠ 16 → (j < 192 ∨ 750 ≤ j) → pTicks (V2 1) j = V2 1 j := fun j a b c d e f g => pTicks_keep hg.2.1 hg.2.2.1 a b c d e f (by omega) (by omega) (by omega)
  refine ⟨V', _, e1, e4, GG_now h (fun d hd => e3 d (fun i hi e => hd (by rw [e]; exact h.ow hi))) e2 (ek 2 (by omega) (by omega) (by omega) (by omega) (by omega) (by omega) (by omega)) (ek 3 (by omega) (by omega) (by omega) (by omega) (by omega) (by omega) (by omega)) i1 (fun j hj => ek j (by omega) (by omega) (by omega) (by omega) (by omega) (by omega) (by omega)) ?_ ew, by rw [ew]; exact i2⟩
  refine ⟨?_, ?_, ?_, ?_, ?_, ?_, ?_, ?_, ?_, ?_, ?_⟩ <;> rw [rowV_ne (by omega), rowV_ne (by omega), rowV_ne (by omega), rowV_ne (by omega)]
theorem q_tick (h : GG (Sh, V, L, n) x ρ m u mt q V2 L2) (a : Int32) : Ans (cm_X0_tick (Sh, V, L, n) x a) (tw_tick V2 a) x L2 := by
  have hM : GM Sh x (m 0) (mt 0) q := h.gm
  have hF : FS0 Sh m (u 0) := h.f0
  obtain ⟨t, ht, h1⟩ := h.inv.2.2.2.2.2.2
  have i9 : V (m 0) 9 = V2 1 1 := h.fr.2.2.1.1
  have z1 : ¬ (1 : Int32) = 0 := by decide
  unfold cm_X0_tick tw_tick
  simp only [cm_in_tw]
  rw [tw_inI, show (1 : Int64).toInt = 1 from rfl, show (40 : Int64).toInt = 40 from rfl]
  by_cases hc : 1 ≤ a.toInt ∧ a.toInt ≤ 40
  · have hN : a.toInt.toNat ≤ 40 := by omega
    have ea : a = nI a.toInt.toNat := by
      apply Int32.toInt_inj.mp
      rw [nI_toInt (by omega)]
      omega
    rw [if_pos hc]
    generalize a.toInt.toNat = N at hN ea
    subst ea
    simp (disch := omega) only [zSh_T, zV_T, zL_T, zn_T, L_add, L_addR, L_mul, L_mulR, L_div, N_div, N_rem, L_sub, L_subN, nI_add, nI_mul, L_le, L_leR, L_lt, L_ltR, L_eq, N_leT, N_leF, N_ltT, N_ltF, N_eqT, N_eqF, N_m1, bnd_S, un2_S, un3_S, nmI_S, nmL_S, ptI_S, cs2_L, cs2_R, okI_b, okI_1, okI_0, rdI_in, wrI_in, rdI_L, wrI_L, rdL_in, wrL_in, if_true, if_false, z1, x_now hM, f_I hF, i9, h1]
    by_cases hl : t + N ≤ 2000
    · have hle : nI (t + N) ≤ nI 2000 := nI_le hl (by omega)
      rw [if_pos hle, if_pos hle]
      have key : ∀ i (s : Int32 × c_S) (s' : Int32 × g_V), i ≤ N → (∃ Vi V2i, s = (nI i, (Sh, Vi, L, n)) ∧ s' = (nI i, V2i) ∧ GG (Sh, Vi, L, n) x ρ m u mt q V2i L2 ∧ V2i 1 1 = nI (t + i)) → (∃ (o : c_S) (o' : g_V), (∀ rec, cm_X0_tick_F35 x (nI N) rec s = some o) ∧ (∀ rec, tw_tick_F34 (nI N) rec s' = some o') ∧ ∃ Vi, o = (Sh, Vi, L, n) ∧ GG (Sh, Vi, L, n) x ρ m u mt q o' L2 ∧ o' 1 1 = nI (t + N)) ∨ (i < N ∧ ∃ t1 t2, (∀ rec, cm_X0_tick_F35 x (nI N) rec s = rec t1) ∧ (∀ rec, tw_tick_F34 (nI N) rec s' = rec t2) ∧ ∃ Vi V2i, t1 = (nI (i + 1), (Sh, Vi, L, n)) ∧ t2 = (nI (i + 1), V2i) ∧ GG (Sh, Vi, L, n) x ρ m u mt q V2i L2 ∧ V2i 1 1 = nI (t + (i + 1))) := by
        intro i s s' hi hR
        obtain ⟨Vi, V2i, rfl, rfl, hG, ht1⟩ := hR
        unfold cm_X0_tick_F35 tw_tick_F34
        by_cases hlt : i < N
        · right
          obtain ⟨Vj, V2j, e1, e2, e3, e4⟩ := GG_tick hG (by omega) ht1
          refine ⟨hlt, (nI (i + 1), (Sh, Vj, L, n)), (nI (i + 1), V2j), fun rec => ?_, fun rec => ?_, Vj, V2j, rfl, rfl, e3, by rw [e4]; congr 1⟩
          · simp (disch := omega) only [cm_X0_tick_B35, zSh_T, zV_T, zL_T, zn_T, L_add, L_addR, L_mul, L_mulR, L_div, N_div, N_rem, L_sub, L_subN, nI_add, nI_mul, L_le, L_leR, L_lt, L_ltR, L_eq, N_leT, N_leF, N_ltT, N_ltF, N_eqT, N_eqF, N_m1, bnd_S, un2_S, un3_S, nmI_S, nmL_S, ptI_S, cs2_L, cs2_R, okI_b, okI_1, okI_0, rdI_in, wrI_in, rdI_L, wrI_L, rdL_in, wrL_in, if_true, if_false, x_now hM, f_KT hF, e1]
          · simp (disch := omega) only [tw_tick_B34, L_add, L_addR, L_mul, L_mulR, L_div, N_div, N_rem, L_sub, L_subN, nI_add, nI_mul, L_le, L_leR, L_lt, L_ltR, L_eq, N_leT, N_leF, N_ltT, N_ltF, N_eqT, N_eqF, N_m1, bnd_S, un2_S, un3_S, nmI_S, nmL_S, ptI_S, cs2_L, cs2_R, okI_b, okI_1, okI_0, rdI_in, wrI_in, rdI_L, wrI_L, rdL_in, wrL_in, if_true, if_false, e2]
        · left
          have : i = N := by omega
          subst this
          refine ⟨(Sh, Vi, L, n), V2i, fun rec => ?_, fun rec => ?_, Vi, rfl, hG, ht1⟩
          · simp (disch := omega) only [cm_X0_tick_B35, L_add, L_addR, L_mul, L_mulR, L_div, N_div, N_rem, L_sub, L_subN, nI_add, nI_mul, L_le, L_leR, L_lt, L_ltR, L_eq, N_leT, N_leF, N_ltT, N_ltF, N_eqT, N_eqF, N_m1, bnd_S, un2_S, un3_S, nmI_S, nmL_S, ptI_S, cs2_L, cs2_R, okI_b, okI_1, okI_0, rdI_in, wrI_in, rdI_L, wrI_L, rdL_in, wrL_in, if_true, if_false]
          · simp (disch := omega) only [tw_tick_B34, L_add, L_addR, L_mul, L_mulR, L_div, N_div, N_rem, L_sub, L_subN, nI_add, nI_mul, L_le, L_leR, L_lt, L_ltR, L_eq, N_leT, N_leF, N_ltT, N_ltF, N_eqT, N_eqF, N_m1, bnd_S, un2_S, un3_S, nmI_S, nmL_S, ptI_S, cs2_L, cs2_R, okI_b, okI_1, okI_0, rdI_in, wrI_in, rdI_L, wrI_L, rdL_in, wrL_in, if_true, if_false]
      obtain ⟨o, o', e1, e2, Vi, rfl, e3, e4⟩ := lp_sim (P := fun (o : c_S) (o' : g_V) => ∃ Vi, o = (Sh, Vi, L, n) ∧ GG (Sh, Vi, L, n) x ρ m u mt q o' L2 ∧ o' 1 1 = nI (t + N)) (fun i s s' => ∃ Vi V2i, s = (nI i, (Sh, Vi, L, n)) ∧ s' = (nI i, V2i) ∧ GG (Sh, Vi, L, n) x ρ m u mt q V2i L2 ∧ V2i 1 1 = nI (t + i)) key 1000 1000 0 (nI 0, (Sh, V, L, n)) (nI 0, V2) (by omega) (by omega) (by omega) ⟨V, V2, rfl, rfl, h, h1⟩
      unfold cm_X0_tick_L35 tw_tick_L34
      rw [show (0 : Int32) = nI 0 from rfl, e1, e2]
      have j9 : Vi (m 0) 9 = o' 1 1 := e3.fr.2.2.1.1
      simp (disch := omega) only [zSh_T, zV_T, zL_T, zn_T, bnd_S, un2_S, un3_S, nmI_S, nmL_S, ptI_S, cs2_L, cs2_R, okI_b, okI_1, okI_0, rdI_in, wrI_in, rdI_L, wrI_L, rdL_in, wrL_in, if_true, if_false, x_now hM, f_I hF, j9]
      exact ⟨_, _, _, rfl, rfl, e3.g⟩
    · have hle : ¬ nI (t + N) ≤ nI 2000 := nI_ge (by omega) (by omega)
      rw [if_neg hle, if_neg hle]
      exact ⟨_, _, _, rfl, rfl, h.g⟩
  · rw [if_neg hc]
    exact ⟨_, _, _, rfl, rfl, h.g⟩
theorem q_run (h : GG (Sh, V, L, n) x ρ m u mt q V2 L2) (a : Int32) (b : Bool) : Ans (cm_X0_run (Sh, V, L, n) x a (b2i b)) (tw_run V2 a (b2i b)) x L2 := by
  have hM : GM Sh x (m 0) (mt 0) q := h.gm
  have hF : FS0 Sh m (u 0) := h.f0
  have hFR := h.fr
  obtain ⟨h2, h18, -, -⟩ := h.inv.1.2.1
  obtain ⟨⟨⟨-, -, -, hV, -⟩, hm, -⟩, ⟨p1, p2, p3, p4⟩, hI, hL, hP, hH, hG⟩ := h.fr
  simp only [zSh_T, zV_T, zL_T, zn_T] at p1 p3 hL hP hV hI hH hG
  have l5 : V (m 5) 2 = nI (pNp (V2 1)) := by rw [hL.1]; exact h2
  have h33 := h.inv.1.2.2.2.2.1.1
  have h6 := h.inv.1.2.2.1.2.1
  have z1 : ¬ (1 : Int32) = 0 := by decide
  unfold cm_X0_run tw_run
  rcases x_pipe h a with ⟨e1, e2⟩ | ⟨p, hp, rfl, e1, e2⟩
  · rw [e1, e2]; simp only [x_K hM]; exact ⟨_, _, _, rfl, rfl, h.g⟩
  · obtain ⟨rf, r1, r2⟩ := p3 p hp
    have e0 := hP p 3 hp (by omega)
    obtain ⟨b0, hb0⟩ : ∃ b0, V2 1 (624 + 6 * p + 3) = b2i b0 := by
      rcases (h33 p hp).2.2 with e | e
      · exact ⟨false, e⟩
      · exact ⟨true, e⟩
    have i2 : ∀ b1 b2 : Bool, (b2i b1 = b2i b2) = (b1 = b2) := by intro b1 b2; cases b1 <;> cases b2 <;> decide
    have tw : tw_run V2 (nI p) (b2i b) = some (b2i (b0 != b), rowV V2 1 (upd (V2 1) (624 + 6 * p + 3) (b2i b))) := by
      unfold tw_run
      rw [e2]
      simp (disch := omega) only [L_add, L_addR, L_mul, L_mulR, L_div, N_div, N_rem, L_sub, L_subN, nI_add, nI_mul, L_le, L_leR, L_lt, L_ltR, L_eq, N_leT, N_leF, N_ltT, N_ltF, N_eqT, N_eqF, N_m1, bnd_S, un2_S, un3_S, nmI_S, nmL_S, ptI_S, cs2_L, cs2_R, okI_b, okI_1, okI_0, rdI_in, wrI_in, rdI_L, wrI_L, rdL_in, wrL_in, if_true, if_false, z1, hb0]
      cases b0 <;> cases b <;> unfold tw_run_J36 <;> simp (disch := omega) only [L_add, L_addR, L_mul, L_mulR, L_div, N_div, N_rem, L_sub, L_subN, nI_add, nI_mul, L_le, L_leR, L_lt, L_ltR, L_eq, N_leT, N_leF, N_ltT, N_ltF, N_eqT, N_eqF, N_m1, bnd_S, un2_S, un3_S, nmI_S, nmL_S, ptI_S, cs2_L, cs2_R, okI_b, okI_1, okI_0, rdI_in, wrI_in, rdI_L, wrI_L, rdL_in, wrL_in, if_true, if_false, upd2_row] <;> rfl
    have twu := tw
    unfold tw_run at twu
    rw [twu]
    rw [e1]
    simp (disch := omega) only [zSh_T, zV_T, zL_T, zn_T, bnd_S, un2_S, un3_S, nmI_S, nmL_S, ptI_S, cs2_L, cs2_R, okI_b, okI_1, okI_0, rdI_in, wrI_in, rdI_L, wrI_L, rdL_in, wrL_in, if_true, if_false, x_K hM, x_now hM, f_A hF, l_K p1, l_get p1 l5 hp, zCk, zK_T r1, nn_eq, cI_eq r1 (r2 _ _), z1, e0, hb0, i2, zPI_T r1 (r2 _ _), upd2_row]
    by_cases hbb : b0 = b
    · subst hbb
      rw [if_pos rfl]
      have : rowV V2 1 (upd (V2 1) (624 + 6 * p + 3) (b2i b0)) = V2 := by rw [upd_self' hb0.symm, rowV_self]
      rw [this, show (b0 != b0) = false by cases b0 <;> rfl]
      exact ⟨_, _, _, rfl, rfl, h.g⟩
    · rw [if_neg hbb, show (b0 != b) = true by revert hbb; cases b0 <;> cases b <;> simp]
      refine ⟨_, _, _, rfl, rfl, GG.g (GG_now (w' := upd (V2 1) (624 + 6 * p + 3) (b2i b)) h (fun d hd => rowV_ne (fun e => hd (by rw [e]; exact h.ow (by omega)))) (FR_of hFR (fun d hd => rowV_ne (fun e => ?_)) (fun j hj => upd_ne (by omega)) (fun c hc => ?_) ?_ ?_ (fun p' i hp' hi => ?_) (fun p' i hp' hi => ?_) (fun g hg => ?_)) (upd_ne (by omega)) (upd_ne (by omega)) (pInv_c h.inv (fun j _ _ _ _ _ hj _ => upd_ne (by omega)) (fun p' hp' => ?_) ?_ ?_ (fun g hg => ?_)) (fun j hj => upd_ne (by omega)) (TwK_row (by omega)) (rowV_eq _ _ _))⟩
      · have := h.ow (i := 13 + p) (by omega); rw [e] at hd; omega
      · simp (disch := omega) only [rowM_ne hm, upd_ne]; exact hV c hc
      · unfold VI
        simp (disch := omega) only [rowM_ne hm, upd_ne]
        exact hI
      · unfold VLi
        simp (disch := omega) only [rowM_ne hm, upd_ne]; exact hL
      · have e : pNp (upd (V2 1) (624 + 6 * p + 3) (b2i b)) = pNp (V2 1) := pNp_eq (upd_ne (by omega))
        rw [e] at hp'
        by_cases ep : p' = p
        · subst ep
          rw [rowV_eq]
          by_cases ei : i = 3
          · subst ei; rw [upd_eq, upd_eq]
          · rw [upd_ne (by omega), upd_ne (by omega)]; exact hP p' i hp' hi
        · simp (disch := omega) only [rowM_ne hm, upd_ne]; exact hP p' i hp' hi
      · have e : pNh (upd (V2 1) (624 + 6 * p + 3) (b2i b)) = pNh (V2 1) := pNh_eq (upd_ne (by omega))
        rw [e] at hp'
        simp (disch := omega) only [rowM_ne hm, upd_ne]; exact hH p' i hp' hi
      · simp (disch := omega) only [rowM_ne hm, upd_ne]; exact hG g hg
      · by_cases ep : p' = p
        · subst ep
          rw [upd_eq]; cases b
          · exact Or.inl rfl
          · exact Or.inr rfl
        · rw [upd_ne (by omega)]; exact (h33 p' hp').2.2
      · rw [upd_ne (by omega)]; exact h.inv.1.2.1.2.2.2
      · rw [upd_ne (by omega)]; exact h.inv.2.2.2.1
      · rw [upd_ne (by omega)]; exact h.inv.2.2.2.2.2.1 g hg
end TK1
