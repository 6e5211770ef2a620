/-! PURE: the reference's search, whole; a way is sent; gaps -/
set_option maxRecDepth 100000
section FG
variable {V : g_V} {w : Nat → Int32} {th : Nat → Bool} {on : Nat → Nat → Bool}
/-- one node is looked at -/
theorem tw_node {rec : Int32 × g_V → Option (g_V ⊕ (Int32 × g_V))} (hk : pKok (V 1)) (hw : V 1 = w) (hfl : FlR V th on) (hF : FI (pOp w) (pSr w) th on) {V1 : g_V} {b : Nat → Option (Option Nat)} {d q : Nat → Nat} {t fr : Nat} (h : SrR w th on V (fun _ => none) (fun _ => 0) 0 V1 b d q t) (hD : Dn (pOp w) th on b q fr) (hfr : fr < t) :
    (∃ c, c < 144 ∧ q fr = 2 * c + 1 ∧ pRim c = true ∧ tw_search_F70 rec (nI fr, V1) = some (.inr (nI (2 * c + 1), V1))) ∨ ∃ V2 b2 d2 q2 t2, tw_search_F70 rec (nI fr, V1) = rec (nI (fr + 1), V2) ∧ SrR w th on V (fun _ => none) (fun _ => 0) 0 V2 b2 d2 q2 t2 ∧ Dn (pOp w) th on b2 q2 (fr + 1) ∧ fr < t2 ∧ SLe b b2 := by
  obtain ⟨hS, hT, hE, -, -, -⟩ := h
  have h2 : SrR w th on V b q t V1 b d q t := ⟨hS, hT, hE, SLe.refl, fun _ _ => rfl, Nat.le_refl _⟩
  obtain ⟨n1, n2, n3⟩ := hS.2.1 fr hfr
  have ht : t ≤ 288 := by rw [hS.1]; exact cntV_le _
  have v1 : V1 1 = w := by rw [hE.1 1 (by omega) (by omega) (by omega)]; exact hw
  have fl1 := hfl.eq hE
  -- what is done stays done
  have dn : ∀ {b2 : Nat → Option (Option Nat)} {q2 : Nat → Nat}, SLe b b2 → (∀ k, k < t → q2 k = q k) → (∀ z, z < 288 → Rs (pOp w) th on (q fr) z → b2 z ≠ none) → (q fr % 2 = 1 → pRim (q fr / 2) = false) → Dn (pOp w) th on b2 q2 (fr + 1) := by
    intro b2 q2 hle hq2 hz hr k hk9
    by_cases hkf : k = fr
    · subst hkf; rw [hq2 k hfr]; exact ⟨hz, hr⟩
    · rw [hq2 k (by omega)]
      obtain ⟨c1, c2⟩ := hD k (by omega)
      refine ⟨fun z hz9 hR => ?_, c2⟩
      have := c1 z hz9 hR
      rw [hle z this]; exact this
  have r30 := hT.2.1 fr hfr
  have r31 := hT.2.2
  have hodd : q fr % 2 = 0 ∨ q fr % 2 = 1 := by omega
  unfold tw_search_F70
  rcases hodd with he | ho
  · -- gone into
    right
    have ec : q fr = 2 * (q fr / 2) := by omega
    have hcl : q fr / 2 < 144 := by omega
    generalize hcdef : q fr / 2 = c at *
    have hb : b (2 * c) ≠ none := by rw [← ec]; exact n2
    have th1 : V1 27 c = b2i (th c) := fl1.1 c hcl
    cases htc : th c with
    | true =>
      obtain ⟨V2, b2, d2, q2, t2, r1, r2, r3, r4⟩ := tw_side_in (x1 := nI (fr + 1)) hk hw hfl hF hcl h2 hb
      refine ⟨V2, b2, d2, q2, t2, ?_, ⟨r2.1, r2.2.1, r2.2.2.1, fun z hz => absurd rfl hz, fun k hk => by omega, by omega⟩, dn r3 r2.2.2.2.2.1 (fun z hz hR => ?_) (fun q9 => by omega), by have := r2.2.2.2.2.2; omega, r3⟩
      · simp (disch := omega) only [tw_search_B70, tw_search_J108, tw_search_J201, L_add, L_addR, L_mul, L_mulR, L_div, N_div, N_rem, L_sub, L_subN, nI_add, nI_mul, L_le, L_leR, L_lt, L_ltR, L_eq, N_leT, N_leF, N_ltT, N_ltF, N_eqT, N_eqF, N_m1, bnd_S, un2_S, un3_S, nmI_S, nmL_S, ptI_S, cs2_L, cs2_R, okI_b, okI_1, okI_0, rdI_in, wrI_in, rdI_L, wrI_L, rdL_in, wrL_in, if_true, if_false, r31, r30, ec, show 2 * c % 2 = 0 by omega, show 2 * c / 2 = c by omega, th1, htc, b2iF, Bool.true_eq_false, r1]
      · rw [ec] at hR
        rcases hR with ⟨b1, b2', b3⟩ | ⟨b1, b2', b3⟩ | ⟨b1, b2', k, b3, b4, b5⟩ | ⟨b1, b2', k, b3, b4, b5⟩
        · rw [show 2 * c / 2 = c by omega, htc] at b3; cases b3
        · omega
        · omega
        · rw [show 2 * c / 2 = c by omega] at b4
          have := r4 k (z / 2) b3 b4 b5
          rw [show 2 * (z / 2) + 1 = z by omega] at this
          exact this
    | false =>
      obtain ⟨V2, b2, d2, q2, t2, r1, r2, r3, r4⟩ := SrR_reach (z := 2 * c + 1) (o := some (2 * c)) (x := nI (2 * c)) h2 (by omega) rfl (fun q => by cases q) (fun y hy => by
        cases hy
        exact ⟨by omega, hb, Or.inl ⟨by omega, rfl, by rw [show 2 * c / 2 = c by omega]; exact htc⟩⟩)
      obtain ⟨V3, b3, d3, q3, t3, u1, u2, u3, u4⟩ := tw_side_in (x1 := nI (fr + 1)) hk hw hfl hF hcl r2 (by rw [r4 _ hb]; exact hb)
      refine ⟨V3, b3, d3, q3, t3, ?_, ⟨u2.1, u2.2.1, u2.2.2.1, fun z hz => absurd rfl hz, fun k hk => by omega, by omega⟩, dn (r4.trans u3) u2.2.2.2.2.1 (fun z hz hR => ?_) (fun q9 => by omega), by have := u2.2.2.2.2.2; omega, r4.trans u3⟩
      · simp (disch := omega) only [tw_search_B70, tw_search_J108, tw_search_J201, L_add, L_addR, L_mul, L_mulR, L_div, N_div, N_rem, L_sub, L_subN, nI_add, nI_mul, L_le, L_leR, L_lt, L_ltR, L_eq, N_leT, N_leF, N_ltT, N_ltF, N_eqT, N_eqF, N_m1, bnd_S, un2_S, un3_S, nmI_S, nmL_S, ptI_S, cs2_L, cs2_R, okI_b, okI_1, okI_0, rdI_in, wrI_in, rdI_L, wrI_L, rdL_in, wrL_in, if_true, if_false, r31, r30, ec, show 2 * c % 2 = 0 by omega, show 2 * c / 2 = c by omega, th1, htc, b2iF, r1, u1]
      · rw [ec] at hR
        rcases hR with ⟨b1, b2', b3'⟩ | ⟨b1, b2', b3'⟩ | ⟨b1, b2', k, b3', b4, b5⟩ | ⟨b1, b2', k, b3', b4, b5⟩
        · rw [b2', u3 _ r3]; exact r3
        · omega
        · omega
        · rw [show 2 * c / 2 = c by omega] at b4
          have := u4 k (z / 2) b3' b4 b5
          rw [show 2 * (z / 2) + 1 = z by omega] at this
          exact this
  · -- gone out of
    have ec : q fr = 2 * (q fr / 2) + 1 := by omega
    have hcl : q fr / 2 < 144 := by omega
    generalize hcdef : q fr / 2 = c at *
    have hb : b (2 * c + 1) ≠ none := by rw [← ec]; exact n2
    have th1 : V1 27 c = b2i (th c) := fl1.1 c hcl
    cases hri : pRim c with
    | true =>
      left
      refine ⟨c, hcl, ec, hri, ?_⟩
      simp (disch := omega) only [tw_search_B70, L_add, L_addR, L_mul, L_mulR, L_div, N_div, N_rem, L_sub, L_subN, nI_add, nI_mul, L_le, L_leR, L_lt, L_ltR, L_eq, N_leT, N_leF, N_ltT, N_ltF, N_eqT, N_eqF, N_m1, bnd_S, un2_S, un3_S, nmI_S, nmL_S, ptI_S, cs2_L, cs2_R, okI_b, okI_1, okI_0, rdI_in, wrI_in, rdI_L, wrI_L, rdL_in, wrL_in, if_true, if_false, r31, r30, ec, show (2 * c + 1) % 2 = 1 by omega, show (2 * c + 1) / 2 = c by omega, tw_isRim_eq hcl, hri, b2iF, Bool.true_eq_false]
    | false =>
      right
      cases htc : th c with
      | false =>
        obtain ⟨V2, b2, d2, q2, t2, r1, r2, r3, r4⟩ := tw_side_out (x1 := nI (fr + 1)) hk hw hcl h2 hb
        refine ⟨V2, b2, d2, q2, t2, ?_, ⟨r2.1, r2.2.1, r2.2.2.1, fun z hz => absurd rfl hz, fun k hk => by omega, by omega⟩, dn r3 r2.2.2.2.2.1 (fun z hz hR => ?_) (fun _ => hri), by have := r2.2.2.2.2.2; omega, r3⟩
        · simp (disch := omega) only [tw_search_B70, tw_search_J108, tw_search_J132, L_add, L_addR, L_mul, L_mulR, L_div, N_div, N_rem, L_sub, L_subN, nI_add, nI_mul, L_le, L_leR, L_lt, L_ltR, L_eq, N_leT, N_leF, N_ltT, N_ltF, N_eqT, N_eqF, N_m1, bnd_S, un2_S, un3_S, nmI_S, nmL_S, ptI_S, cs2_L, cs2_R, okI_b, okI_1, okI_0, rdI_in, wrI_in, rdI_L, wrI_L, rdL_in, wrL_in, if_true, if_false, r31, r30, ec, show (2 * c + 1) % 2 = 1 by omega, show (2 * c + 1) / 2 = c by omega, tw_isRim_eq hcl, hri, th1, htc, b2iF, r1]
        · rw [ec] at hR
          rcases hR with ⟨b1, b2', b3⟩ | ⟨b1, b2', b3⟩ | ⟨b1, b2', k, b3, b4, b5⟩ | ⟨b1, b2', k, b3, b4, b5⟩
          · omega
          · rw [show (2 * c + 1) / 2 = c by omega, htc] at b3; cases b3
          · rw [show (2 * c + 1) / 2 = c by omega] at b4
            have := r4 k (z / 2) b3 b4 b5
            rw [show 2 * (z / 2) = z by omega] at this
            exact this
          · omega
      | true =>
        obtain ⟨V2, b2, d2, q2, t2, r1, r2, r3, r4⟩ := SrR_reach (z := 2 * c) (o := some (2 * c + 1)) (x := nI (2 * c + 1)) h2 (by omega) rfl (fun q => by cases q) (fun y hy => by
          cases hy
          exact ⟨by omega, hb, Or.inr (Or.inl ⟨by omega, rfl, by rw [show (2 * c + 1) / 2 = c by omega]; exact htc⟩)⟩)
        obtain ⟨V3, b3, d3, q3, t3, u1, u2, u3, u4⟩ := tw_side_out (x1 := nI (fr + 1)) hk hw hcl r2 (by rw [r4 _ hb]; exact hb)
        refine ⟨V3, b3, d3, q3, t3, ?_, ⟨u2.1, u2.2.1, u2.2.2.1, fun z hz => absurd rfl hz, fun k hk => by omega, by omega⟩, dn (r4.trans u3) u2.2.2.2.2.1 (fun z hz hR => ?_) (fun _ => hri), by have := u2.2.2.2.2.2; omega, r4.trans u3⟩
        · simp (disch := omega) only [tw_search_B70, tw_search_J108, tw_search_J132, L_add, L_addR, L_mul, L_mulR, L_div, N_div, N_rem, L_sub, L_subN, nI_add, nI_mul, L_le, L_leR, L_lt, L_ltR, L_eq, N_leT, N_leF, N_ltT, N_ltF, N_eqT, N_eqF, N_m1, bnd_S, un2_S, un3_S, nmI_S, nmL_S, ptI_S, cs2_L, cs2_R, okI_b, okI_1, okI_0, rdI_in, wrI_in, rdI_L, wrI_L, rdL_in, wrL_in, if_true, if_false, r31, r30, ec, show (2 * c + 1) % 2 = 1 by omega, show (2 * c + 1) / 2 = c by omega, tw_isRim_eq hcl, hri, th1, htc, b2iF, Bool.true_eq_false, r1, u1]
        · rw [ec] at hR
          rcases hR with ⟨b1, b2', b3'⟩ | ⟨b1, b2', b3'⟩ | ⟨b1, b2', k, b3', b4, b5⟩ | ⟨b1, b2', k, b3', b4, b5⟩
          · omega
          · have ez : z = 2 * c := by omega
            rw [ez, u3 _ r3]; exact r3
          · rw [show (2 * c + 1) / 2 = c by omega] at b4
            have := u4 k (z / 2) b3' b4 b5
            rw [show 2 * (z / 2) = z by omega] at this
            exact this
          · omega
/-- the search -/
theorem tw_search_eq (hk : pKok (V 1)) (hw : V 1 = w) (hfl : FlR V th on) (hF : FI (pOp w) (pSr w) th on) : ∃ r V' b d q t, tw_search V = some (r, V') ∧ EqS V V' ∧ SQ (pOp w) (pSr w) th on b d q t ∧ TwS V' b q t ∧ ((r = -1 ∧ CX (pOp w) (pSr w) th on (xIn b) (xOut b)) ∨ ∃ c, c < 144 ∧ r = nI (2 * c + 1) ∧ b (2 * c + 1) ≠ none ∧ pRim c = true) := by
  -- nothing is reached
  have h1 : tw_search_L2 1000 0 V = some (rowV V 29 (fun j => if j < 288 then -1 else V 29 j)) := by
    have h := lp_run (F := tw_search_F2) (N := 288) (st := fun i => (nI i, rowV V 29 (fun j => if j < i then -1 else V 29 j))) (out := rowV V 29 (fun j => if j < 288 then -1 else V 29 j)) ?_ ?_ 1000 0 (by omega) (by omega)
    · simp only [Nat.not_lt_zero, if_false, nI_0] at h
      rw [show rowV V 29 (fun j => V 29 j) = V from rowV_self V 29] at h
      exact h
    · intro rec i hi
      unfold tw_search_F2
      simp (disch := omega) only [tw_search_B2, L_add, L_addR, L_mul, L_mulR, L_div, N_div, N_rem, L_sub, L_subN, nI_add, nI_mul, L_le, L_leR, L_lt, L_ltR, L_eq, N_leT, N_leF, N_ltT, N_ltF, N_eqT, N_eqF, N_m1, bnd_S, un2_S, un3_S, nmI_S, nmL_S, ptI_S, cs2_L, cs2_R, okI_b, okI_1, okI_0, rdI_in, wrI_in, rdI_L, wrI_L, rdL_in, wrL_in, if_true, if_false, upd2_row, rowV_over, rowV_eq, upd_pre (f := fun _ => -1) rfl]
    · intro rec
      unfold tw_search_F2
      simp (disch := omega) only [tw_search_B2, L_add, L_addR, L_mul, L_mulR, L_div, N_div, N_rem, L_sub, L_subN, nI_add, nI_mul, L_le, L_leR, L_lt, L_ltR, L_eq, N_leT, N_leF, N_ltT, N_ltF, N_eqT, N_eqF, N_m1, bnd_S, un2_S, un3_S, nmI_S, nmL_S, ptI_S, cs2_L, cs2_R, okI_b, okI_1, okI_0, rdI_in, wrI_in, rdI_L, wrI_L, rdL_in, wrL_in, if_true, if_false]
  have hV1 : ∃ V1, V1 = rowV (rowV V 29 (fun j => if j < 288 then -1 else V 29 j)) 0 (upd (V 0) 31 0) := ⟨_, rfl⟩
  obtain ⟨V1, hV1⟩ := hV1
  have E1 : EqS V V1 := by
    refine ⟨fun j a b c => by rw [hV1, rowV_ne a, rowV_ne b], fun i hi => ?_⟩
    rw [hV1, rowV_eq, upd_ne hi]
  have S1 : SrR w th on V (fun _ => none) (fun _ => 0) 0 V1 (fun _ => none) (fun _ => 0) (fun _ => 0) 0 := by
    refine ⟨SQ_0, ⟨fun z hz => ?_, fun k hk => by omega, ?_⟩, E1, SLe.refl, fun k hk => by omega, Nat.le_refl _⟩
    · rw [hV1, rowV_ne (by omega), rowV_eq, if_pos hz]; rfl
    · rw [hV1, rowV_eq, upd_eq, nI_0]
  -- where ways begin
  have h2 := lp_rel (F := tw_search_F29) (N := 144) (P := fun V' => ∃ b d q t, SrR w th on V (fun _ => none) (fun _ => 0) 0 V' b d q t ∧ ∀ c, c < 144 → pSr w c = true → b (2 * c) ≠ none) (fun i s => s.1 = nI i ∧ ∃ b d q t, SrR w th on V (fun _ => none) (fun _ => 0) 0 s.2 b d q t ∧ ∀ c, c < i → pSr w c = true → b (2 * c) ≠ none) ?_ ?_ 1000 0 (0, V1) (by omega) (by omega) ⟨nI_0.symm, _, _, _, _, S1, fun c hc => by omega⟩
  · obtain ⟨V2, g1, b, d, q, t, S2, g2⟩ := h2
    -- node by node
    have ht : t ≤ 288 := by rw [S2.1.1]; exact cntV_le _
    have h3 := lp_wf (F := tw_search_F70) (I := fun s => ∃ fr V3 b3 d3 q3 t3, s = (nI fr, V3) ∧ SrR w th on V (fun _ => none) (fun _ => 0) 0 V3 b3 d3 q3 t3 ∧ Dn (pOp w) th on b3 q3 fr ∧ fr ≤ t3 ∧ SLe b b3)
      (P := fun out => ∃ V3 b3 d3 q3 t3, SrR w th on V (fun _ => none) (fun _ => 0) 0 V3 b3 d3 q3 t3 ∧ SLe b b3 ∧ ((out = .inl V3 ∧ Dn (pOp w) th on b3 q3 t3) ∨ ∃ c, c < 144 ∧ out = .inr (nI (2 * c + 1), V3) ∧ b3 (2 * c + 1) ≠ none ∧ pRim c = true))
      (fun s => 400 - s.1.toNatClampNeg) ?_ 1000 (0, V2) ⟨0, V2, b, d, q, t, by rw [nI_0], S2, fun k hk => by omega, by omega, SLe.refl⟩ (by omega)
    · obtain ⟨out, k1, V3, b3, d3, q3, t3, k2, k3, k4⟩ := h3
      unfold tw_search tw_search_L29 tw_search_L70
      rw [h1, bnd_S]
      simp (disch := omega) only [ptI_S, upd2_row, rowV_ne]
      rw [← hV1, g1, bnd_S, k1, bnd_S]
      rcases k4 with ⟨rfl, k5⟩ | ⟨c, k5, rfl, k6, k7⟩
      · exact ⟨-1, V3, b3, d3, q3, t3, rfl, k2.2.2.1, k2.1, k2.2.1, Or.inl ⟨rfl, SQ_closed k2.1 k5 (fun c hc hs => by
          have := g2 c hc hs
          rw [k3 _ this]; exact this)⟩⟩
      · exact ⟨nI (2 * c + 1), V3, b3, d3, q3, t3, rfl, k2.2.2.1, k2.1, k2.2.1, Or.inr ⟨c, k5, rfl, k6, k7⟩⟩
    · intro rec s hs
      obtain ⟨fr, V3, b3, d3, q3, t3, rfl, k1, k2, k3, k4⟩ := hs
      have ht3 : t3 ≤ 288 := by rw [k1.1.1]; exact cntV_le _
      by_cases hft : fr < t3
      · rcases tw_node (rec := rec) hk hw hfl hF k1 k2 hft with ⟨c, c1, c2, c3, c4⟩ | ⟨V4, b4, d4, q4, t4, c1, c2, c3, c4, c5⟩
        · left
          refine ⟨_, c4, V3, b3, d3, q3, t3, k1, k4, Or.inr ⟨c, c1, rfl, ?_, c3⟩⟩
          rw [← c2]; exact (k1.1.2.1 fr hft).2.1
        · right
          refine ⟨_, c1, ⟨fr + 1, V4, b4, d4, q4, t4, rfl, c2, c3, by omega, k4.trans c5⟩, ?_⟩
          show 400 - (nI (fr + 1)).toNatClampNeg < 400 - (nI fr).toNatClampNeg
          rw [nI_clamp (by omega), nI_clamp (by omega)]
          omega
      · left
        have e : fr = t3 := by omega
        subst e
        refine ⟨.inl V3, ?_, V3, b3, d3, q3, fr, k1, k4, Or.inl ⟨rfl, k2⟩⟩
        unfold tw_search_F70
        simp (disch := omega) only [tw_search_B70, k1.2.1.2.2, L_add, L_addR, L_mul, L_mulR, L_div, N_div, N_rem, L_sub, L_subN, nI_add, nI_mul, L_le, L_leR, L_lt, L_ltR, L_eq, N_leT, N_leF, N_ltT, N_ltF, N_eqT, N_eqF, N_m1, bnd_S, un2_S, un3_S, nmI_S, nmL_S, ptI_S, cs2_L, cs2_R, okI_b, okI_1, okI_0, rdI_in, wrI_in, rdI_L, wrI_L, rdL_in, wrL_in, if_true, if_false]
  · intro i s hi hs
    obtain ⟨x, V2⟩ := s
    obtain ⟨e1, b, d, q, t, s1, s2⟩ := hs
    simp only at e1 s1
    subst e1
    have v1 : V2 1 = w := by rw [s1.2.2.1.1 1 (by omega) (by omega) (by omega)]; exact hw
    have hk2 : pKok (V2 1) := by rw [v1, ← hw]; exact hk
    have hop := tw_isOpen_eq hk2 hi
    have hbs := tw_isBesideShaft_eq (V := V2) hi
    rw [v1] at hop hbs
    have hop' : tw_isOpen V2 (nI i) = some (b2i (pOp w i)) := hop
    have srd : pSr w i = (pOp w i && pBss w i) := by
      unfold pSr pBss pOp
      cases pShf w i <;> cases pFro w i <;> cases pBs w i <;> rfl
    have keep : (pSr w i = true → b (2 * i) ≠ none) → ∀ c, c < i + 1 → pSr w c = true → b (2 * c) ≠ none := by
      intro hk9 c hc hs9
      by_cases hci : c = i
      · subst hci; exact hk9 hs9
      · exact s2 c (by omega) hs9
    cases hsr : pSr w i with
    | false =>
      refine ⟨(nI (i + 1), V2), fun rec => ?_, rfl, b, d, q, t, s1, keep (fun q9 => by rw [hsr] at q9; cases q9)⟩
      unfold tw_search_F29
      simp (disch := omega) only [tw_search_B29, L_add, L_addR, L_mul, L_mulR, L_div, N_div, N_rem, L_sub, L_subN, nI_add, nI_mul, L_le, L_leR, L_lt, L_ltR, L_eq, N_leT, N_leF, N_ltT, N_ltF, N_eqT, N_eqF, N_m1, bnd_S, un2_S, un3_S, nmI_S, nmL_S, ptI_S, cs2_L, cs2_R, okI_b, okI_1, okI_0, rdI_in, wrI_in, rdI_L, wrI_L, rdL_in, wrL_in, if_true, if_false, hop', hbs, b2iF]
      rw [srd] at hsr
      cases h7 : pOp w i <;> cases h8 : pBss w i
      · simp
      · simp
      · simp
      · rw [h7, h8] at hsr; cases hsr
    | true =>
      obtain ⟨V3, b3, d3, q3, t3, r1, r2, r3, r4⟩ := SrR_reach (z := 2 * i) (o := none) (x := 1000) s1 (by omega) rfl (fun _ => ⟨by omega, by rw [show 2 * i / 2 = i by omega]; exact hsr⟩) (fun y q => by cases q)
      refine ⟨(nI (i + 1), V3), fun rec => ?_, rfl, b3, d3, q3, t3, r2, fun c hc hs9 => ?_⟩
      · unfold tw_search_F29
        rw [srd] at hsr
        simp only [Bool.and_eq_true] at hsr
        simp (disch := omega) only [tw_search_B29, L_add, L_addR, L_mul, L_mulR, L_div, N_div, N_rem, L_sub, L_subN, nI_add, nI_mul, L_le, L_leR, L_lt, L_ltR, L_eq, N_leT, N_leF, N_ltT, N_ltF, N_eqT, N_eqF, N_m1, bnd_S, un2_S, un3_S, nmI_S, nmL_S, ptI_S, cs2_L, cs2_R, okI_b, okI_1, okI_0, rdI_in, wrI_in, rdI_L, wrI_L, rdL_in, wrL_in, if_true, if_false, hop', hbs, b2iF, hsr.1, hsr.2, Bool.true_eq_false, r1]
      · by_cases hci : c = i
        · subst hci; exact r3
        · have := s2 c (by omega) hs9
          rw [r4 _ this]; exact this
  · intro s hs
    obtain ⟨x, V2⟩ := s
    obtain ⟨e1, b, d, q, t, s1, s2⟩ := hs
    simp only at e1 s1
    subst e1
    refine ⟨V2, fun rec => ?_, b, d, q, t, s1, s2⟩
    unfold tw_search_F29
    simp (disch := omega) only [tw_search_B29, L_add, L_addR, L_mul, L_mulR, L_div, N_div, N_rem, L_sub, L_subN, nI_add, nI_mul, L_le, L_leR, L_lt, L_ltR, L_eq, N_leT, N_leF, N_ltT, N_ltF, N_eqT, N_eqF, N_m1, bnd_S, un2_S, un3_S, nmI_S, nmL_S, ptI_S, cs2_L, cs2_R, okI_b, okI_1, okI_0, rdI_in, wrI_in, rdI_L, wrI_L, rdL_in, wrL_in, if_true, if_false]
end FG
