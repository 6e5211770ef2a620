/-! PURE: rules: what is measured, what a rule lacks -/
set_option maxRecDepth 100000
section RL
variable {Sh : g_Sh} {V V' : g_V} {L L' : g_L} {n n' x : Nat} {m u mt q ρ : Nat → Nat} {V2 V2' : g_V} {L2 : g_L} {w : Nat → Int32}
/-- after a question: all holds, the row is the same, what is told too -/
def Nx (Sh : g_Sh) (V : g_V) (L : g_L) (x : Nat) (ρ m u mt q : Nat → Nat) (w : Nat → Int32) (L2 : g_L) (Z' : c_S) (V2' : g_V) : Prop := ∃ Sh' V' n', Z' = (Sh', V', L, n') ∧ GG (Sh', V', L, n') x ρ m u mt q V2' L2 ∧ V2' 1 = w ∧ ∀ a, ρ a = 1 → Sh' a = Sh a ∧ V' a = V a
theorem Nx_0 (h : GG (Sh, V, L, n) x ρ m u mt q V2 L2) : Nx Sh V L x ρ m u mt q (V2 1) L2 (Sh, V, L, n) V2 := ⟨Sh, V, n, rfl, h, rfl, fun _ _ => ⟨rfl, rfl⟩⟩
theorem x_way (h : GG (Sh, V, L, n) x ρ m u mt q V2 L2) : ∃ Z' V2', cm_X1_isShut (Sh, V, L, n) (m 0) = some (b2i (pShut (V2 1)), Z') ∧ tw_isShut V2 = some (b2i (pShut (V2 1)), V2') ∧ Nx Sh V L x ρ m u mt q (V2 1) L2 Z' V2' := by
  obtain ⟨A, B, e1⟩ := cm_isShut_eq h.fr.1 (pWayO_lt h.kok)
  obtain ⟨g, e2⟩ := tw_isShut_eq h.kok
  refine ⟨_, _, e1, e2, Sh, _, n, rfl, GG_way h A B g, rowV_ne (by omega), fun a ha => ⟨rfl, ?_⟩⟩
  have m9 := h.ow (i := 9) (by omega)
  have m10 := h.ow (i := 10) (by omega)
  rw [rowV_ne (fun e => by rw [e] at ha; omega), rowV_ne (fun e => by rw [e] at ha; omega)]
theorem x_lift (h : GG (Sh, V, L, n) x ρ m u mt q V2 L2) : AnQ (cm_X0_greatestLift (Sh, V, L, n) x) (bnd (tw_wordOf_L21 V2 1000 0 0) fun x => some x) := by
  have hM : GM Sh x (m 0) (mt 0) q := h.gm
  have hF : FS0 Sh m (u 0) := h.f0
  unfold cm_X0_greatestLift
  refine AnQ_b (AnQ_lp (N := 12) (by omega) (by omega) (fun i a hi => ?_) (fun a => ⟨fun rec => ?_, fun rec => ?_⟩))
  · refine ⟨if a < pLift (V2 1) i then pLift (V2 1) i else a, fun rec => ?_, fun rec => ?_⟩
    · unfold cm_X0_greatestLift_F4
      simp (disch := omega) only [cm_X0_greatestLift_B4, zSh_T, zV_T, zL_T, zn_T, L_add, L_addR, L_mul, L_mulR, L_div, N_div, N_rem, L_sub, L_subN, nI_add, nI_mul, L_le, L_leR, L_lt, L_ltR, L_eq, N_leT, N_leF, N_ltT, N_ltF, N_eqT, N_eqF, N_m1, bnd_S, un2_S, un3_S, nmI_S, nmL_S, ptI_S, cs2_L, cs2_R, okI_b, okI_1, okI_0, rdI_in, wrI_in, rdI_L, wrI_L, rdL_in, wrL_in, if_true, if_false, x_now hM, f_KT hF, cm_lift_eq h.rd hi]
    · unfold tw_wordOf_F21
      simp (disch := omega) only [tw_wordOf_B21, L_add, L_addR, L_mul, L_mulR, L_div, N_div, N_rem, L_sub, L_subN, nI_add, nI_mul, L_le, L_leR, L_lt, L_ltR, L_eq, N_leT, N_leF, N_ltT, N_ltF, N_eqT, N_eqF, N_m1, bnd_S, un2_S, un3_S, nmI_S, nmL_S, ptI_S, cs2_L, cs2_R, okI_b, okI_1, okI_0, rdI_in, wrI_in, rdI_L, wrI_L, rdL_in, wrL_in, if_true, if_false, tw_liftOf_eq hi]
  · unfold cm_X0_greatestLift_F4
    simp (disch := omega) only [cm_X0_greatestLift_B4, L_add, L_addR, L_mul, L_mulR, L_div, N_div, N_rem, L_sub, L_subN, nI_add, nI_mul, L_le, L_leR, L_lt, L_ltR, L_eq, N_leT, N_leF, N_ltT, N_ltF, N_eqT, N_eqF, N_m1, bnd_S, un2_S, un3_S, nmI_S, nmL_S, ptI_S, cs2_L, cs2_R, okI_b, okI_1, okI_0, rdI_in, wrI_in, rdI_L, wrI_L, rdL_in, wrL_in, if_true, if_false]
  · unfold tw_wordOf_F21
    simp (disch := omega) only [tw_wordOf_B21, L_add, L_addR, L_mul, L_mulR, L_div, N_div, N_rem, L_sub, L_subN, nI_add, nI_mul, L_le, L_leR, L_lt, L_ltR, L_eq, N_leT, N_leF, N_ltT, N_ltF, N_eqT, N_eqF, N_m1, bnd_S, un2_S, un3_S, nmI_S, nmL_S, ptI_S, cs2_L, cs2_R, okI_b, okI_1, okI_0, rdI_in, wrI_in, rdI_L, wrI_L, rdL_in, wrL_in, if_true, if_false]
theorem x_meas (h : GG (Sh, V, L, n) x ρ m u mt q V2 L2) {k : Nat} (hk : k < 4) : ∃ r Z' V2', cm_X0_measured (Sh, V, L, n) x (nI k) = some (r, Z') ∧ tw_wordOf V2 (nI (k + 1)) = some (r, V2') ∧ Nx Sh V L x ρ m u mt q (V2 1) L2 Z' V2' := by
  have hM : GM Sh x (m 0) (mt 0) q := h.gm
  have hF : FS0 Sh m (u 0) := h.f0
  have h4 : k = 0 ∨ k = 1 ∨ k = 2 ∨ k = 3 := by omega
  have hn := h.2.2.2.2.2.2.1
  unfold cm_X0_measured tw_wordOf
  rcases h4 with rfl | rfl | rfl | rfl
  · rw [if_pos (show nI 0 = 0 from rfl), if_neg (show ¬ nI (0 + 1) = 3 by decide), if_neg (show ¬ nI (0 + 1) = 4 by decide), if_pos (show nI (0 + 1) = 1 from rfl)]
    simp only [zSh_T, zV_T, zL_T, zn_T, x_K hM, x_has h, tw_hasShaft_eq, bnd_S, b2iF]
    cases h7 : pHas (V2 1) with
    | false => exact ⟨_, _, _, rfl, rfl, Nx_0 h⟩
    | true =>
      obtain ⟨A, v, hv, e0, e1⟩ := cm_thick_eq h.fr.1 h.inv.2.2.1 h7
      obtain ⟨g, e2⟩ := tw_lo_thk h.kok
      simp only [zSh_T, zV_T, zL_T, zn_T, bnd_S, x_now hM, f_KT hF, e1, e2, un2_S, e0]
      refine ⟨_, _, _, rfl, rfl, Sh, _, n, rfl, GG_thk h A g, rowV_ne (by omega), fun a ha => ⟨rfl, ?_⟩⟩
      have m9 := h.ow (i := 9) (by omega)
      rw [rowV_ne (fun e => by rw [e] at ha; omega)]
  · rw [if_neg (show ¬ nI 1 = 0 by decide), if_pos (show nI 1 = 1 from rfl), if_neg (show ¬ nI (1 + 1) = 3 by decide), if_neg (show ¬ nI (1 + 1) = 4 by decide), if_neg (show ¬ nI (1 + 1) = 1 by decide)]
    simp only [zSh_T, zV_T, zL_T, zn_T, x_K hM, x_has h, tw_hasShaft_eq, bnd_S, b2iF]
    cases h7 : pHas (V2 1) with
    | false => exact ⟨_, _, _, rfl, rfl, Nx_0 h⟩
    | true =>
      obtain ⟨Sh1, V1, v, g, V3, e1, e2, e3, e4, e5, e6, e7, hG, ek⟩ := x_cut h
      have xn : x < n := hn x (by rw [h.2.2.2.2.2.2.2.1]; omega)
      have hMn : GM (updS Sh n (d_obj 13 9 (zrf tyX14))) x (m 0) (mt 0) q := by
        unfold GM
        rw [updS_ne (by omega)]
        exact hM
      obtain ⟨Sh2, V4, v', g', c1, c2, c3, c4, c5, c6, c7⟩ := cm_cut_eq (L := L) h.rd (fun i hi => h.lt (by omega)) (fun b hb => hn b (by rw [hb]; omega))
      rw [e1] at c1
      have c8 := Option.some.inj c1
      have c9 : Sh1 = Sh2 := congrArg Prod.fst c8
      have c10 : V1 = V4 := congrArg (fun z => z.2.1) c8
      subst c9
      subst c10
      simp (disch := omega) only [zSh_T, zV_T, zL_T, zn_T, zNew, bnd_S, Bool.true_eq_false, if_false, x_now hMn, e1, e6, un2_S, k_I8 e2, e3]
      exact ⟨_, _, _, rfl, rfl, Sh1, V1, _, rfl, hG, ek, fun a ha => c7 a (hn a (by rw [ha]; omega))⟩
  · rw [if_neg (show ¬ nI 2 = 0 by decide), if_neg (show ¬ nI 2 = 1 by decide), if_pos (show nI 2 = 2 from rfl), if_pos (show nI (2 + 1) = 3 from rfl)]
    have i9 : V (m 0) 9 = V2 1 1 := h.fr.2.2.1.1
    simp (disch := omega) only [zSh_T, zV_T, zL_T, zn_T, bnd_S, un2_S, un3_S, nmI_S, nmL_S, ptI_S, cs2_L, cs2_R, okI_b, okI_1, okI_0, rdI_in, wrI_in, rdI_L, wrI_L, rdL_in, wrL_in, if_true, if_false, x_now hM, f_I hF, i9]
    exact ⟨_, _, _, rfl, rfl, Nx_0 h⟩
  · rw [if_neg (show ¬ nI 3 = 0 by decide), if_neg (show ¬ nI 3 = 1 by decide), if_neg (show ¬ nI 3 = 2 by decide), if_neg (show ¬ nI (3 + 1) = 3 by decide), if_pos (show nI (3 + 1) = 4 from rfl)]
    obtain ⟨r, e1, e2⟩ := x_lift h
    simp only [zSh_T, zV_T, zL_T, zn_T, x_K hM, e1, bnd_S]
    cases hq : tw_wordOf_L21 V2 1000 0 0 with
    | none => rw [hq] at e2; cases e2
    | some y =>
      rw [hq] at e2
      have : y = r := Option.some.inj e2
      subst this
      exact ⟨_, _, _, rfl, rfl, Nx_0 h⟩
theorem x_cond (h : GG (Sh, V, L, n) x ρ m u mt q V2 L2) {a i : Nat} (hi : i + 2 < 810) (hz : ρ a = 1) (hc : RC Sh V a (fun j => V2 1 (i + j))) : ∃ b Z' V2', (if zAl [11] (Sh, V, L, n) a = true then cm_X12_holds (Sh, V, L, n) a x else zK (Sh, V, L, n) a 12 3 <| cm_X13_holds (Sh, V, L, n) a x) = some (b2i b, Z') ∧ tw_condHolds V2 (nI i) = some (b2i b, V2') ∧ Nx Sh V L x ρ m u mt q (V2 1) L2 Z' V2' := by
  have hM : GM Sh x (m 0) (mt 0) q := h.gm
  have hF : FS0 Sh m (u 0) := h.f0
  have hT : TS Sh V (fun a => ρ a = 1) u (V2 1) := h.ts
  rcases hc with ⟨h0, rf, h1⟩ | ⟨k, hk, h0, ⟨rf, h1, h2⟩, h3, h4, h5⟩
  · have hz : zAl [11] (Sh, V, L, n) a = true := by unfold zAl; simp only [zSh_T, zV_T, zL_T, zn_T, h1, d_obj]; rfl
    rw [if_pos hz]
    simp only [Nat.add_zero] at h0
    obtain ⟨Z', V2', e1, e2, e3⟩ := x_way h
    have h7 := cm_hasShaft2_eq h.ts
    unfold cm_X12_holds tw_condHolds
    simp (disch := omega) only [zSh_T, zV_T, zL_T, zn_T, bnd_S, un2_S, un3_S, nmI_S, nmL_S, ptI_S, cs2_L, cs2_R, okI_b, okI_1, okI_0, rdI_in, wrI_in, rdI_L, wrI_L, rdL_in, wrL_in, if_true, if_false, x_now hM, f_t hF, t_KT hT, h7, h0, b2iF, f_KT hF, e1, e2, tw_hasShaft_eq]
    cases pHas (V2 1) with
    | false => exact ⟨false, _, _, rfl, rfl, Nx_0 h⟩
    | true =>
      cases pShut (V2 1) with
      | false => exact ⟨false, _, _, rfl, rfl, e3⟩
      | true => exact ⟨true, _, _, rfl, rfl, e3⟩
  · have hz0 : ¬ zAl [11] (Sh, V, L, n) a = true := by unfold zAl; simp only [zSh_T, zV_T, zL_T, zn_T, h1, d_obj]; decide
    rw [if_neg hz0, zK_T h1]
    simp only [Nat.add_zero] at h0
    obtain ⟨r, Z', V2', e1, e2, e3⟩ := x_meas h hk
    obtain ⟨Sh1, V1, n1, rfl, g1, g2, g3⟩ := e3
    obtain ⟨g4, g5⟩ := g3 a hz
    have h1' : Sh1 a = some (d_obj 12 3 rf) := by rw [g4]; exact h1
    have nk : ¬ nI (k + 1) = 0 := by
      intro e
      have := (nI_eq (a := k + 1) (b := 0) (by omega) (by omega)).mp e
      omega
    have ei1 : nI i + 1 = nI (i + 1) := by rw [show (1 : Int32) = nI 1 from rfl, nI_add]
    have ei2 : nI i + 2 = nI (i + 2) := by rw [show (2 : Int32) = nI 2 from rfl, nI_add]
    unfold cm_X13_holds tw_condHolds
    simp (disch := omega) only [zSh_T, zV_T, zL_T, zn_T, bnd_S, un2_S, un3_S, nmI_S, nmL_S, ptI_S, cs2_L, cs2_R, okI_b, okI_1, okI_0, rdI_in, wrI_in, rdI_L, wrI_L, rdL_in, wrL_in, if_true, if_false, cI_eq h1 (h2 _ _), h3, x_K hM, e1, e2, cI_eq h1' (h2 _ _), g5, h4, h0, nk, ei1, ei2, g2]
    have mk : Nx Sh V L x ρ m u mt q (V2 1) L2 (Sh1, V1, L, n1) V2' := ⟨Sh1, V1, n1, rfl, g1, g2, g3⟩
    dsimp only at h5
    rcases h5 with ⟨k1, k2⟩ | ⟨k1, k2⟩
    · rw [k2, if_neg (show ¬ (1 : Int32) = 0 by decide), if_pos k1]
      by_cases hle : V2 1 (i + 2) ≤ r
      · rw [if_pos hle, if_pos hle]; exact ⟨false, _, _, rfl, rfl, mk⟩
      · rw [if_neg hle, if_neg hle]; exact ⟨true, _, _, rfl, rfl, mk⟩
    · rw [k2, if_pos rfl, if_neg k1]
      by_cases hle : r ≤ V2 1 (i + 2)
      · rw [if_pos hle, if_pos hle]; exact ⟨false, _, _, rfl, rfl, mk⟩
      · rw [if_neg hle, if_neg hle]; exact ⟨true, _, _, rfl, rfl, mk⟩
/-- a rule -/
theorem x_rule (h : GG (Sh, V, L, n) x ρ m u mt q V2 L2) {r nr : Nat} (hnr : nr ≤ 4) (h4 : V2 1 4 = nI nr) (hr : r < nr) : ∃ b Z' V2', cm_X10_lacks (Sh, V, L, n) (u (60 + r)) x = some (b, Z') ∧ tw_lacks V2 (nI r) = some (b, V2') ∧ Nx Sh V L x ρ m u mt q (V2 1) L2 Z' V2' := by
  obtain ⟨nr0, a1, a2, -, -, -, -, -, -, a3⟩ := h.1.2.2.2.1
  have : nr0 = nr := (nI_eq (by omega) (by omega)).mp (a2.symm.trans h4)
  subst this
  obtain ⟨-, -, -, nc, c1, c2, -⟩ := a3 r hr
  have c2 : V2 1 (750 + 10 * r) = nI nc := c2
  have key : ∀ i (s : Int32 × Int32 × c_S) (s' : Int32 × Int32 × g_V), i ≤ nc → (∃ acc Zi V2i, s = (acc, nI i, Zi) ∧ s' = (acc, nI i, V2i) ∧ Nx Sh V L x ρ m u mt q (V2 1) L2 Zi V2i) → (∃ (o : Int32 × c_S) (o' : Int32 × g_V), (∀ rec, cm_X10_lacks_F4 (u (60 + r)) x rec s = some o) ∧ (∀ rec, tw_lacks_F34 (nI (750 + 10 * r)) rec s' = some o') ∧ ∃ acc Zi V2i, o = (acc, Zi) ∧ o' = (acc, V2i) ∧ Nx Sh V L x ρ m u mt q (V2 1) L2 Zi V2i) ∨ (i < nc ∧ ∃ t1 t2, (∀ rec, cm_X10_lacks_F4 (u (60 + r)) x rec s = rec t1) ∧ (∀ rec, tw_lacks_F34 (nI (750 + 10 * r)) rec s' = rec t2) ∧ ∃ acc Zi V2i, t1 = (acc, nI (i + 1), Zi) ∧ t2 = (acc, nI (i + 1), V2i) ∧ Nx Sh V L x ρ m u mt q (V2 1) L2 Zi V2i) := by
    intro i s s' hi hR
    obtain ⟨acc, Zi, V2i, rfl, rfl, Shi, Vi, ni, rfl, hG, hw, hz⟩ := hR
    obtain ⟨nr1, b1, b2, -, -, -, -, -, -, b3⟩ := hG.1.2.2.2.1
    rw [hw, h4] at b2
    have : nr0 = nr1 := (nI_eq (by omega) (by omega)).mp b2
    subst this
    obtain ⟨-, -, ⟨rf, d1, d2, d3⟩, nc1, d4, d5, d6, ⟨el, d7, d8⟩, d9⟩ := b3 r hr
    simp only [zSh_T, zV_T, zL_T, zn_T] at d1 d6 d7 d9
    have d5 : V2i 1 (750 + 10 * r) = nI nc1 := d5
    rw [hw, c2] at d5
    have : nc = nc1 := (nI_eq (by omega) (by omega)).mp d5
    subst this
    have c2' : V2i 1 (750 + 10 * r) = nI nc := by rw [hw]; exact c2
    unfold cm_X10_lacks_F4 tw_lacks_F34
    by_cases hl : i < nc
    · right
      obtain ⟨z1, z2⟩ := d9 i hl
      obtain ⟨b, Z', V2', e1, e2, Sh', V', n', rfl, e3, e4, e5⟩ := x_cond hG (i := 750 + 10 * r + 1 + 3 * i) (by omega) z1 (by
        have : (fun j => V2i 1 (750 + 10 * r + 1 + 3 * i + j)) = fun j => V2i 1 (750 + 10 * r + (1 + 3 * i + j)) := by
          funext j; congr 1; omega
        rw [this]
        exact z2)
      refine ⟨hl, (if b = false then acc ||| ((1 : Int32) <<< (nI i &&& 31)) else acc ||| 0, nI (i + 1), (Sh', V', L, n')), (if b = false then acc ||| ((1 : Int32) <<< (nI i &&& 31)) else acc ||| 0, nI (i + 1), V2'), fun rec => ?_, fun rec => ?_, _, _, _, rfl, rfl, Sh', V', n', rfl, e3, e4.trans hw, fun a ha => ⟨(e5 a ha).1.trans (hz a ha).1, (e5 a ha).2.trans (hz a ha).2⟩⟩
      · simp (disch := omega) only [cm_X10_lacks_B4, zSh_T, zV_T, zL_T, zn_T, L_add, L_addR, L_mul, L_mulR, L_div, N_div, N_rem, L_sub, L_subN, nI_add, nI_mul, L_le, L_leR, L_lt, L_ltR, L_eq, N_leT, N_leF, N_ltT, N_ltF, N_eqT, N_eqF, N_m1, bnd_S, un2_S, un3_S, nmI_S, nmL_S, ptI_S, cs2_L, cs2_R, okI_b, okI_1, okI_0, rdI_in, wrI_in, rdI_L, wrI_L, rdL_in, wrL_in, if_true, if_false, cI_eq d1 d3, d6, cA_eq d1 d2, caR_eq d7, d8, nn_eq]
        rw [e1]
        cases b <;> rfl
      · simp (disch := omega) only [tw_lacks_B34, L_add, L_addR, L_mul, L_mulR, L_div, N_div, N_rem, L_sub, L_subN, nI_add, nI_mul, L_le, L_leR, L_lt, L_ltR, L_eq, N_leT, N_leF, N_ltT, N_ltF, N_eqT, N_eqF, N_m1, bnd_S, un2_S, un3_S, nmI_S, nmL_S, ptI_S, cs2_L, cs2_R, okI_b, okI_1, okI_0, rdI_in, wrI_in, rdI_L, wrI_L, rdL_in, wrL_in, if_true, if_false, c2', e2, b2iF]
        cases b <;> rfl
    · left
      have : i = nc := by omega
      subst this
      refine ⟨(acc, (Shi, Vi, L, ni)), (acc, V2i), fun rec => ?_, fun rec => ?_, acc, _, _, rfl, rfl, Shi, Vi, ni, rfl, hG, hw, hz⟩
      · simp (disch := omega) only [cm_X10_lacks_B4, zSh_T, zV_T, zL_T, zn_T, L_add, L_addR, L_mul, L_mulR, L_div, N_div, N_rem, L_sub, L_subN, nI_add, nI_mul, L_le, L_leR, L_lt, L_ltR, L_eq, N_leT, N_leF, N_ltT, N_ltF, N_eqT, N_eqF, N_m1, bnd_S, un2_S, un3_S, nmI_S, nmL_S, ptI_S, cs2_L, cs2_R, okI_b, okI_1, okI_0, rdI_in, wrI_in, rdI_L, wrI_L, rdL_in, wrL_in, if_true, if_false, cI_eq d1 d3, d6]
      · simp (disch := omega) only [tw_lacks_B34, L_add, L_addR, L_mul, L_mulR, L_div, N_div, N_rem, L_sub, L_subN, nI_add, nI_mul, L_le, L_leR, L_lt, L_ltR, L_eq, N_leT, N_leF, N_ltT, N_ltF, N_eqT, N_eqF, N_m1, bnd_S, un2_S, un3_S, nmI_S, nmL_S, ptI_S, cs2_L, cs2_R, okI_b, okI_1, okI_0, rdI_in, wrI_in, rdI_L, wrI_L, rdL_in, wrL_in, if_true, if_false, c2']
  obtain ⟨o, o', f1, f2, acc, Zi, V2i, rfl, rfl, f3⟩ := lp_sim (P := fun (o : Int32 × c_S) (o' : Int32 × g_V) => ∃ acc Zi V2i, o = (acc, Zi) ∧ o' = (acc, V2i) ∧ Nx Sh V L x ρ m u mt q (V2 1) L2 Zi V2i) (fun i s s' => ∃ acc Zi V2i, s = (acc, nI i, Zi) ∧ s' = (acc, nI i, V2i) ∧ Nx Sh V L x ρ m u mt q (V2 1) L2 Zi V2i) key 4 1000 0 (0, nI 0, (Sh, V, L, n)) (0, nI 0, V2) (by omega) (by omega) (by omega) ⟨0, _, _, rfl, rfl, Nx_0 h⟩
  refine ⟨acc, Zi, V2i, ?_, ?_, f3⟩
  · unfold cm_X10_lacks cm_X10_lacks_L4
    rw [show ((0 : Int32), (0 : Int32), ((Sh, V, L, n) : c_S)) = (0, nI 0, (Sh, V, L, n)) from rfl, f1]
    rfl
  · have hin : tw_in (nI r).toInt64 0 ((nI nr0 - 1).toInt64) = some 1 := by
      rw [tw_inI, hi_S (by omega), nI_toInt (by omega), show (0 : Int64).toInt = 0 from rfl, if_pos (by omega)]
    unfold tw_lacks
    simp (disch := omega) only [bnd_S, un2_S, un3_S, nmI_S, nmL_S, ptI_S, cs2_L, cs2_R, okI_b, okI_1, okI_0, rdI_in, wrI_in, rdI_L, wrI_L, rdL_in, wrL_in, if_true, if_false, h4, hin, L_mul, L_add, show ¬ (1 : Int32) = 0 by decide]
    unfold tw_lacks_L34
    rw [show ((0 : Int32), (0 : Int32), V2) = (0, nI 0, V2) from rfl, f2]
    rfl
theorem q_lacks (h : GG (Sh, V, L, n) x ρ m u mt q V2 L2) (a : Int32) : Ans (cm_X0_lacks (Sh, V, L, n) x a) (tw_lacks V2 a) x L2 := by
  have hM : GM Sh x (m 0) (mt 0) q := h.gm
  have hF : FS0 Sh m (u 0) := h.f0
  obtain ⟨nr, a1, a2, ⟨rf, a3, a4⟩, a5, a6, -, -, -, a7⟩ := h.1.2.2.2.1
  simp only [zSh_T, zV_T, zL_T, zn_T] at a3 a5 a6 a7
  rcases in_N (a := a) (hi := (nI nr - 1).toInt64) (N := nr) (by omega) (hi_S (by omega)) with h1 | ⟨k, hk, rfl, h1⟩
  · unfold cm_X0_lacks tw_lacks
    simp (disch := omega) only [zSh_T, zV_T, zL_T, zn_T, bnd_S, un2_S, un3_S, nmI_S, nmL_S, ptI_S, cs2_L, cs2_R, okI_b, okI_1, okI_0, rdI_in, wrI_in, rdI_L, wrI_L, rdL_in, wrL_in, if_true, if_false, x_now hM, f_t hF, cA_eq a3 a4, l_K a5, l_size a5, a6, cm_in_tw, h1, a2]
    exact ⟨_, _, _, rfl, rfl, h.g⟩
  · obtain ⟨b, Z', V2', e1, e2, Sh', V', n', rfl, e3, -⟩ := x_rule h a1 a2 hk
    obtain ⟨-, -, ⟨rf2, d1, -⟩, -⟩ := a7 k hk
    rw [e2]
    unfold cm_X0_lacks
    simp (disch := omega) only [zSh_T, zV_T, zL_T, zn_T, bnd_S, un2_S, un3_S, nmI_S, nmL_S, ptI_S, cs2_L, cs2_R, okI_b, okI_1, okI_0, rdI_in, wrI_in, rdI_L, wrI_L, rdL_in, wrL_in, if_true, if_false, x_now hM, f_t hF, cA_eq a3 a4, l_K a5, l_size a5, a6, cm_in_tw, h1, l_get a5 a6 hk, zCk, zK_T d1, nn_eq, e1, show ¬ (1 : Int32) = 0 by decide]
    exact ⟨_, _, _, rfl, rfl, e3.g⟩
end RL
