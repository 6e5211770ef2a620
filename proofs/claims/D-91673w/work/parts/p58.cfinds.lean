/-! PURE: the component's Cut: one more way found -/
set_option maxRecDepth 100000
section CF
variable {Sh : g_Sh} {V : g_V} {L : g_L} {n a f : Nat} {w : Nat → Int32} {th : Nat → Bool} {on : Nat → Nat → Bool}
/-- one node is looked at -/
theorem cm_node {rec : Int32 × c_S → Option c_S} (hC : CuS Sh a f) (hP : PaC V a w) (hfl : FlC V a th on) {V1 : g_V} {b : Nat → Option (Option Nat)} {d q : Nat → Nat} {t fr : Nat} (h : SrC w th on a V (fun _ => none) (fun _ => 0) 0 V1 b d q t none) (hD : Dn (pOp w) th on b q fr) (hfr : fr < t) :
    ∃ V2 b2 d2 q2 t2 tt2, cm_X14_finds_F63 a rec (nI fr, (Sh, V1, L, n)) = rec (nI (fr + 1), (Sh, V2, L, n)) ∧ SrC w th on a V (fun _ => none) (fun _ => 0) 0 V2 b2 d2 q2 t2 tt2 ∧ (tt2 = none → Dn (pOp w) th on b2 q2 (fr + 1)) ∧ fr < t2 ∧ SLe b b2 := by
  obtain ⟨hS, hT, hE, -, -, -, hok⟩ := h
  have h2 : SrC w th on a V b q t V1 b d q t none := ⟨hS, hT, hE, SLe.refl, fun _ _ => rfl, Nat.le_refl _, hok⟩
  obtain ⟨n1, n2, n3⟩ := hS.2.1 fr hfr
  have ht : t ≤ 288 := by rw [hS.1]; exact cntV_le _
  have fl1 := hfl.eq hE
  have hA1 : Sh (a + 1) = some (d_int 2 144) := hC.2.1
  have hA5 : Sh (a + 149) = some (d_int 0 290) := hC.2.2.2.2.2.2.1
  have hA6 : Sh (a + 150) = some (d_int 0 290) := hC.2.2.2.2.2.2.2
  have dn : ∀ {b2 : Nat → Option (Option Nat)} {q2 : Nat → Nat}, SLe b b2 → (∀ k, k < t → q2 k = q k) → (∀ z, z < 288 → Rs (pOp w) th on (q fr) z → b2 z ≠ none) → (q fr % 2 = 1 → pRim (q fr / 2) = false) → Dn (pOp w) th on b2 q2 (fr + 1) := by
    intro b2 q2 hle hq2 hz hr k hk9
    by_cases hkf : k = fr
    · subst hkf; rw [hq2 k hfr]; exact ⟨hz, hr⟩
    · rw [hq2 k (by omega)]
      obtain ⟨c1, c2⟩ := hD k (by omega)
      refine ⟨fun z hz9 hR => ?_, c2⟩
      have := c1 z hz9 hR
      rw [hle z this]; exact this
  have r150 := hT.2.2.2 rfl fr hfr
  have r7 : V1 a 7 = nI t := hT.2.2.1
  have r289 : V1 (a + 149) 289 = -1 := hT.2.1
  have e289 : (289 : Int32) = nI 289 := rfl
  have hodd : q fr % 2 = 0 ∨ q fr % 2 = 1 := by omega
  rcases hodd with he | ho
  · have ec : q fr = 2 * (q fr / 2) := by omega
    have hcl : q fr / 2 < 144 := by omega
    generalize hcdef : q fr / 2 = c at *
    have hb : b (2 * c) ≠ none := by rw [← ec]; exact n2
    have th1 : V1 (a + 1) c = b2i (th c) := fl1.1 c hcl
    have run : ∀ V2, cm_X14_goesIn (Sh, V1, L, n) a (nI c) = some (Sh, V2, L, n) → cm_X14_finds_F63 a rec (nI fr, (Sh, V1, L, n)) = rec (nI (fr + 1), (Sh, V2, L, n)) := by
      intro V2 hg
      unfold cm_X14_finds_F63
      simp only [cm_X14_finds_B63, e289]
      simp (disch := omega) only [zSh_T, zV_T, zL_T, zn_T, L_add, L_addR, L_mul, L_mulR, L_div, N_div, N_rem, L_sub, L_subN, nI_add, nI_mul, L_le, L_leR, L_lt, L_ltR, L_eq, N_leT, N_leF, N_ltT, N_ltF, N_eqT, N_eqF, N_m1, bnd_S, un2_S, un3_S, nmI_S, nmL_S, ptI_S, cs2_L, cs2_R, okI_b, okI_1, okI_0, rdI_in, wrI_in, rdI_L, wrI_L, rdL_in, wrL_in, if_true, if_false, k_I7 hC, r7, k_5 hC, caI_eq hA5, r289, m1m1, k_6 hC, caI_eq hA6, r150, ec, show 2 * c % 2 = 0 by omega, show 2 * c / 2 = c by omega, k_K hC, hg]
    cases htc : th c with
    | true =>
      obtain ⟨V2, b2, d2, q2, t2, r1, r2, r3, r4⟩ := cm_side_in (L := L) (n := n) hC hfl hcl h2 hb
      refine ⟨V2, b2, d2, q2, t2, none, run V2 ?_, ⟨r2.1, r2.2.1, r2.2.2.1, fun z hz => absurd rfl hz, fun k hk => by omega, by omega, r2.2.2.2.2.2.2⟩, fun _ => dn r3 r2.2.2.2.2.1 (fun z hz hR => ?_) (fun q9 => by omega), by have := r2.2.2.2.2.2.1; omega, r3⟩
      · unfold cm_X14_goesIn cm_X14_goesIn_J21
        simp (disch := omega) only [zSh_T, zV_T, zL_T, zn_T, k_1 hC, caI_eq hA1, th1, htc, b2iF, Bool.true_eq_false, if_false, r1, bnd_S]
      · rw [ec] at hR
        rcases hR with ⟨b1, b2', b3⟩ | ⟨b1, b2', b3⟩ | ⟨b1, b2', k, b3, b4, b5⟩ | ⟨b1, b2', k, b3, b4, b5⟩
        · rw [show 2 * c / 2 = c by omega, htc] at b3; cases b3
        · omega
        · omega
        · rw [show 2 * c / 2 = c by omega] at b4
          have := r4 k (z / 2) b3 b4 b5
          rw [show 2 * (z / 2) + 1 = z by omega] at this
          exact this
    | false =>
      obtain ⟨V2, b2, d2, q2, t2, r1, r2, r3, r4⟩ := SrC_come (L := L) (n := n) hC (z := 2 * c + 1) (o := some (2 * c)) (x := nI (2 * c)) h2 (by omega) rfl (fun q => by cases q) (fun y hy => by
        cases hy
        exact ⟨by omega, hb, Or.inl ⟨by omega, rfl, by rw [show 2 * c / 2 = c by omega]; exact htc⟩⟩)
      obtain ⟨V3, b3, d3, q3, t3, u1, u2, u3, u4⟩ := cm_side_in (L := L) (n := n) hC hfl hcl r2 (by rw [r4 _ hb]; exact hb)
      refine ⟨V3, b3, d3, q3, t3, none, run V3 ?_, ⟨u2.1, u2.2.1, u2.2.2.1, fun z hz => absurd rfl hz, fun k hk => by omega, by omega, u2.2.2.2.2.2.2⟩, fun _ => dn (r4.trans u3) u2.2.2.2.2.1 (fun z hz hR => ?_) (fun q9 => by omega), by have := u2.2.2.2.2.2.1; omega, r4.trans u3⟩
      · unfold cm_X14_goesIn cm_X14_goesIn_J21
        simp (disch := omega) only [zSh_T, zV_T, zL_T, zn_T, L_add, L_addR, L_mul, L_mulR, L_div, N_div, N_rem, L_sub, L_subN, nI_add, nI_mul, L_le, L_leR, L_lt, L_ltR, L_eq, N_leT, N_leF, N_ltT, N_ltF, N_eqT, N_eqF, N_m1, k_1 hC, caI_eq hA1, th1, htc, b2iF, if_true, k_K hC, r1, bnd_S, u1]
      · rw [ec] at hR
        rcases hR with ⟨b1, b2', b3'⟩ | ⟨b1, b2', b3'⟩ | ⟨b1, b2', k, b3', b4, b5⟩ | ⟨b1, b2', k, b3', b4, b5⟩
        · rw [b2', u3 _ r3]; exact r3
        · omega
        · omega
        · rw [show 2 * c / 2 = c by omega] at b4
          have := u4 k (z / 2) b3' b4 b5
          rw [show 2 * (z / 2) + 1 = z by omega] at this
          exact this
  · have ec : q fr = 2 * (q fr / 2) + 1 := by omega
    have hcl : q fr / 2 < 144 := by omega
    generalize hcdef : q fr / 2 = c at *
    have hb : b (2 * c + 1) ≠ none := by rw [← ec]; exact n2
    have th1 : V1 (a + 1) c = b2i (th c) := fl1.1 c hcl
    have run : ∀ V2, cm_X14_goesOut (Sh, V1, L, n) a (nI c) = some (Sh, V2, L, n) → cm_X14_finds_F63 a rec (nI fr, (Sh, V1, L, n)) = rec (nI (fr + 1), (Sh, V2, L, n)) := by
      intro V2 hg
      unfold cm_X14_finds_F63
      simp only [cm_X14_finds_B63, e289]
      simp (disch := omega) only [zSh_T, zV_T, zL_T, zn_T, L_add, L_addR, L_mul, L_mulR, L_div, N_div, N_rem, L_sub, L_subN, nI_add, nI_mul, L_le, L_leR, L_lt, L_ltR, L_eq, N_leT, N_leF, N_ltT, N_ltF, N_eqT, N_eqF, N_m1, bnd_S, un2_S, un3_S, nmI_S, nmL_S, ptI_S, cs2_L, cs2_R, okI_b, okI_1, okI_0, rdI_in, wrI_in, rdI_L, wrI_L, rdL_in, wrL_in, if_true, if_false, k_I7 hC, r7, k_5 hC, caI_eq hA5, r289, m1m1, k_6 hC, caI_eq hA6, r150, ec, show (2 * c + 1) % 2 = 1 by omega, show (2 * c + 1) / 2 = c by omega, k_K hC, hg]
    -- through it back
    have st1 : ∃ V2 b2 d2 q2 t2, cm_X14_goesOut (Sh, V1, L, n) a (nI c) = cm_X14_goesOut_J21 a (nI c) (Sh, V2, L, n) ∧ SrC w th on a V b q t V2 b2 d2 q2 t2 none ∧ SLe b b2 ∧ (th c = true → b2 (2 * c) ≠ none) := by
      cases htc : th c with
      | false =>
        refine ⟨V1, b, d, q, t, ?_, h2, SLe.refl, fun q => by cases q⟩
        unfold cm_X14_goesOut
        simp (disch := omega) only [zSh_T, zV_T, zL_T, zn_T, k_1 hC, caI_eq hA1, th1, htc, b2iF, if_true]
      | true =>
        obtain ⟨V2, b2, d2, q2, t2, r1, r2, r3, r4⟩ := SrC_come (L := L) (n := n) hC (z := 2 * c) (o := some (2 * c + 1)) (x := nI (2 * c + 1)) h2 (by omega) rfl (fun q => by cases q) (fun y hy => by
          cases hy
          exact ⟨by omega, hb, Or.inr (Or.inl ⟨by omega, rfl, by rw [show (2 * c + 1) / 2 = c by omega]; exact htc⟩)⟩)
        refine ⟨V2, b2, d2, q2, t2, ?_, r2, r4, fun _ => r3⟩
        unfold cm_X14_goesOut
        simp (disch := omega) only [zSh_T, zV_T, zL_T, zn_T, L_add, L_addR, L_mul, L_mulR, L_div, N_div, N_rem, L_sub, L_subN, nI_add, nI_mul, L_le, L_leR, L_lt, L_ltR, L_eq, N_leT, N_leF, N_ltT, N_ltF, N_eqT, N_eqF, N_m1, k_1 hC, caI_eq hA1, th1, htc, b2iF, Bool.true_eq_false, if_false, k_K hC, r1, bnd_S]
    obtain ⟨V2, b2, d2, q2, t2, g1, g2, g3, g4⟩ := st1
    have hb2 : b2 (2 * c + 1) ≠ none := by rw [g3 _ hb]; exact hb
    have fin : ∀ {V3 : g_V} {tt : Option Nat}, SrC w th on a V b q t V3 b2 d2 q2 t2 tt → cm_X14_goesOut_J21 a (nI c) (Sh, V2, L, n) = cm_X14_goesOut_J40 a (nI c) (Sh, V3, L, n) → (tt = none → pRim c = false) → ∃ V4 b4 d4 q4 t4, cm_X14_finds_F63 a rec (nI fr, (Sh, V1, L, n)) = rec (nI (fr + 1), (Sh, V4, L, n)) ∧ SrC w th on a V (fun _ => none) (fun _ => 0) 0 V4 b4 d4 q4 t4 tt ∧ (tt = none → Dn (pOp w) th on b4 q4 (fr + 1)) ∧ fr < t4 ∧ SLe b b4 := by
      intro V3 tt s3 e3 hri
      obtain ⟨V4, b4, d4, q4, t4, u1, u2, u3, u4⟩ := cm_side_out (L := L) (n := n) hC hP hcl s3 hb2
      refine ⟨V4, b4, d4, q4, t4, run V4 ?_, ⟨u2.1, u2.2.1, u2.2.2.1, fun z hz => absurd rfl hz, fun k hk => by omega, by omega, u2.2.2.2.2.2.2⟩, fun htt => dn (g3.trans u3) u2.2.2.2.2.1 (fun z hz hR => ?_) (fun _ => hri htt), by have := u2.2.2.2.2.2.1; omega, g3.trans u3⟩
      · rw [g1, e3]
        unfold cm_X14_goesOut_J40
        rw [u1, bnd_S]
      · rw [ec] at hR
        rcases hR with ⟨b1, b2', b3'⟩ | ⟨b1, b2', b3'⟩ | ⟨b1, b2', k, b3', b4', b5⟩ | ⟨b1, b2', k, b3', b4', b5⟩
        · omega
        · have ez : z = 2 * c := by omega
          rw [show (2 * c + 1) / 2 = c by omega] at b3'
          have := g4 b3'
          rw [ez, u3 _ this]; exact this
        · rw [show (2 * c + 1) / 2 = c by omega] at b4'
          have := u4 k (z / 2) b3' b4' b5
          rw [show 2 * (z / 2) = z by omega] at this
          exact this
        · omega
    cases hri : pRim c with
    | false =>
      obtain ⟨V4, b4, d4, q4, t4, u⟩ := fin g2 (by
        unfold cm_X14_goesOut_J21
        rw [cm_isRim_eq hcl, bnd_S, hri]
        rfl) (fun _ => hri)
      exact ⟨V4, b4, d4, q4, t4, none, u⟩
    | true =>
      obtain ⟨V3, c', r1, r2⟩ := SrC_comeT (L := L) (n := n) hC g2 hcl hri hb2
      obtain ⟨V4, b4, d4, q4, t4, u⟩ := fin r2 (by
        unfold cm_X14_goesOut_J21
        rw [cm_isRim_eq hcl, bnd_S, hri]
        simp (disch := omega) only [L_add, L_addR, L_mul, L_mulR, L_div, N_div, N_rem, L_sub, L_subN, nI_add, nI_mul, L_le, L_leR, L_lt, L_ltR, L_eq, N_leT, N_leF, N_ltT, N_ltF, N_eqT, N_eqF, N_m1, k_K hC]
        rw [if_neg (by decide), r1, bnd_S]) (fun q => by cases q)
      exact ⟨V4, b4, d4, q4, t4, some c', u⟩
theorem cm_finds_eq (hC : CuS Sh a f) (hP : PaC V a w) (hfl : FlC V a th on) : ∃ V' b d q t tt, cm_X14_finds (Sh, V, L, n) a = some (b2i tt.isSome, (Sh, V', L, n)) ∧ EqC V V' a ∧ SQ (pOp w) (pSr w) th on b d q t ∧ CwS V' a b q t tt ∧ okT b tt ∧ (tt = none → CX (pOp w) (pSr w) th on (xIn b) (xOut b)) := by
  have hA3 : Sh (a + 3) = some (d_int 2 144) := hC.2.2.2.1
  have hA5 : Sh (a + 149) = some (d_int 0 290) := hC.2.2.2.2.2.2.1
  have h1 : cm_X14_finds_L2 a 1000 0 (Sh, V, L, n) = some (Sh, rowV V (a + 149) (fun j => if j < 290 then -1 else V (a + 149) j), L, n) := by
    have h := lp_run (F := cm_X14_finds_F2 a) (N := 290) (st := fun i => (nI i, (Sh, rowV V (a + 149) (fun j => if j < i then -1 else V (a + 149) j), L, n))) (out := (Sh, rowV V (a + 149) (fun j => if j < 290 then -1 else V (a + 149) j), L, n)) ?_ ?_ 1000 0 (by omega) (by omega)
    · simp only [Nat.not_lt_zero, if_false, nI_0] at h
      rw [show rowV V (a + 149) (fun j => V (a + 149) j) = V from rowV_self V (a + 149)] at h
      exact h
    · intro rec i hi
      unfold cm_X14_finds_F2
      simp (disch := omega) only [cm_X14_finds_B2, zSh_T, zV_T, zL_T, zn_T, L_add, L_addR, L_mul, L_mulR, L_div, N_div, N_rem, L_sub, L_subN, nI_add, nI_mul, L_le, L_leR, L_lt, L_ltR, L_eq, N_leT, N_leF, N_ltT, N_ltF, N_eqT, N_eqF, N_m1, bnd_S, un2_S, un3_S, nmI_S, nmL_S, ptI_S, cs2_L, cs2_R, okI_b, okI_1, okI_0, rdI_in, wrI_in, rdI_L, wrI_L, rdL_in, wrL_in, if_true, if_false, k_5 hC, zsI_T hA5, upd2_row, rowV_over, rowV_eq, upd_pre (f := fun _ => -1) rfl]
    · intro rec
      unfold cm_X14_finds_F2
      simp (disch := omega) only [cm_X14_finds_B2, L_add, L_addR, L_mul, L_mulR, L_div, N_div, N_rem, L_sub, L_subN, nI_add, nI_mul, L_le, L_leR, L_lt, L_ltR, L_eq, N_leT, N_leF, N_ltT, N_ltF, N_eqT, N_eqF, N_m1, bnd_S, un2_S, un3_S, nmI_S, nmL_S, ptI_S, cs2_L, cs2_R, okI_b, okI_1, okI_0, rdI_in, wrI_in, rdI_L, wrI_L, rdL_in, wrL_in, if_true, if_false]
  have hV1 : ∃ V1, V1 = rowV (rowV V (a + 149) (fun j => if j < 290 then -1 else V (a + 149) j)) a (upd (V a) 7 0) := ⟨_, rfl⟩
  obtain ⟨V1, hV1⟩ := hV1
  have E1 : EqC V V1 a := by
    refine ⟨fun b x y z => by rw [hV1, rowV_ne x, rowV_ne y], fun i hi => ?_⟩
    rw [hV1, rowV_eq, upd_ne hi]
  have S1 : SrC w th on a V (fun _ => none) (fun _ => 0) 0 V1 (fun _ => none) (fun _ => 0) (fun _ => 0) 0 none := by
    refine ⟨SQ_0, ⟨fun z hz => ?_, ?_, ?_, fun _ k hk => by omega⟩, E1, SLe.refl, fun k hk => by omega, Nat.le_refl _, fun c q => by cases q⟩
    · rw [hV1, rowV_ne (by omega), rowV_eq, if_pos (by omega)]; rfl
    · rw [hV1, rowV_ne (by omega), rowV_eq, if_pos (by omega)]; rfl
    · rw [hV1, rowV_eq, upd_eq]; exact nI_0.symm
  have h2 := lp_rel (F := cm_X14_finds_F29 a) (N := 144) (P := fun out => ∃ V' b d q t, out = (Sh, V', L, n) ∧ SrC w th on a V (fun _ => none) (fun _ => 0) 0 V' b d q t none ∧ ∀ c, c < 144 → pSr w c = true → b (2 * c) ≠ none) (fun i s => s.1 = nI i ∧ ∃ V' b d q t, s.2 = (Sh, V', L, n) ∧ SrC w th on a V (fun _ => none) (fun _ => 0) 0 V' b d q t none ∧ ∀ c, c < i → pSr w c = true → b (2 * c) ≠ none) ?_ ?_ 1000 0 (0, (Sh, V1, L, n)) (by omega) (by omega) ⟨nI_0.symm, V1, _, _, _, _, rfl, S1, fun c hc => by omega⟩
  · obtain ⟨out, g1, V2, b, d, q, t, rfl, S2, g2⟩ := h2
    have ht : t ≤ 288 := by rw [S2.1.1]; exact cntV_le _
    have h3 := lp_wf (F := cm_X14_finds_F63 a) (I := fun s => ∃ fr V3 b3 d3 q3 t3 tt, s = (nI fr, (Sh, V3, L, n)) ∧ SrC w th on a V (fun _ => none) (fun _ => 0) 0 V3 b3 d3 q3 t3 tt ∧ (tt = none → Dn (pOp w) th on b3 q3 fr) ∧ fr ≤ t3 ∧ SLe b b3)
      (P := fun out => ∃ V3 b3 d3 q3 t3 tt, out = (Sh, V3, L, n) ∧ SrC w th on a V (fun _ => none) (fun _ => 0) 0 V3 b3 d3 q3 t3 tt ∧ SLe b b3 ∧ (tt = none → Dn (pOp w) th on b3 q3 t3))
      (fun s => 400 - s.1.toNatClampNeg) ?_ 1000 (0, (Sh, V2, L, n)) ⟨0, V2, b, d, q, t, none, by rw [nI_0], S2, fun _ k hk => by omega, by omega, SLe.refl⟩ (by omega)
    · obtain ⟨out, k1, V3, b3, d3, q3, t3, tt, rfl, k2, k3, k4⟩ := h3
      refine ⟨V3, b3, d3, q3, t3, tt, ?_, k2.2.2.1, k2.1, k2.2.1, k2.2.2.2.2.2.2, fun htt => SQ_closed k2.1 (k4 htt) (fun c hc hs => by
        have := g2 c hc hs
        rw [k3 _ this]; exact this)⟩
      have e289 : (289 : Int32) = nI 289 := rfl
      have r289 : V3 (a + 149) 289 = cT tt := k2.2.1.2.1
      unfold cm_X14_finds cm_X14_finds_L29 cm_X14_finds_L63
      rw [h1, bnd_S]
      simp (disch := omega) only [k_P7 hC, upd2_row, rowV_ne]
      rw [← hV1, g1, bnd_S, k1, bnd_S]
      unfold cm_X14_finds_J137
      rw [e289]
      simp (disch := omega) only [zSh_T, zV_T, zL_T, zn_T, k_5 hC, caI_eq hA5, r289]
      cases htt : tt with
      | none => rw [if_pos (show cT none = -1 from rfl)]; rfl
      | some c =>
        have := k2.2.2.2.2.2.2 c htt
        rw [if_neg (by rw [show cT (some c) = nI (2 * c + 1) from rfl, N_m1 (by omega)]; exact fun q => q)]
        rfl
    · intro rec s hs
      obtain ⟨fr, V3, b3, d3, q3, t3, tt, rfl, k1, k2, k3, k4⟩ := hs
      have ht3 : t3 ≤ 288 := by rw [k1.1.1]; exact cntV_le _
      cases htt : tt with
      | some c =>
        left
        subst htt
        refine ⟨(Sh, V3, L, n), ?_, V3, b3, d3, q3, t3, some c, rfl, k1, k4, fun q => by cases q⟩
        have hc := k1.2.2.2.2.2.2 c rfl
        have r7 : V3 a 7 = nI (t3 + 1) := k1.2.1.2.2.1
        have r289 : V3 (a + 149) 289 = nI (2 * c + 1) := k1.2.1.2.1
        have e289 : (289 : Int32) = nI 289 := rfl
        unfold cm_X14_finds_F63
        simp only [cm_X14_finds_B63, e289]
        simp (disch := omega) only [zSh_T, zV_T, zL_T, zn_T, L_add, L_addR, L_mul, L_mulR, L_div, N_div, N_rem, L_sub, L_subN, nI_add, nI_mul, L_le, L_leR, L_lt, L_ltR, L_eq, N_leT, N_leF, N_ltT, N_ltF, N_eqT, N_eqF, N_m1, bnd_S, un2_S, un3_S, nmI_S, nmL_S, ptI_S, cs2_L, cs2_R, okI_b, okI_1, okI_0, rdI_in, wrI_in, rdI_L, wrI_L, rdL_in, wrL_in, if_true, if_false, k_I7 hC, r7, k_5 hC, caI_eq hA5, r289]
      | none =>
        subst htt
        by_cases hft : fr < t3
        · right
          obtain ⟨V4, b4, d4, q4, t4, tt4, c1, c2, c3, c4, c5⟩ := cm_node (L := L) (n := n) (rec := rec) hC hP hfl k1 (k2 rfl) hft
          refine ⟨_, c1, ⟨fr + 1, V4, b4, d4, q4, t4, tt4, rfl, c2, c3, by omega, k4.trans c5⟩, ?_⟩
          show 400 - (nI (fr + 1)).toNatClampNeg < 400 - (nI fr).toNatClampNeg
          rw [nI_clamp (by omega), nI_clamp (by omega)]
          omega
        · left
          have e : fr = t3 := by omega
          subst e
          refine ⟨(Sh, V3, L, n), ?_, V3, b3, d3, q3, fr, none, rfl, k1, k4, k2⟩
          have r7 : V3 a 7 = nI fr := k1.2.1.2.2.1
          unfold cm_X14_finds_F63
          simp (disch := omega) only [cm_X14_finds_B63, zSh_T, zV_T, zL_T, zn_T, k_I7 hC, r7, L_add, L_addR, L_mul, L_mulR, L_div, N_div, N_rem, L_sub, L_subN, nI_add, nI_mul, L_le, L_leR, L_lt, L_ltR, L_eq, N_leT, N_leF, N_ltT, N_ltF, N_eqT, N_eqF, N_m1, bnd_S, un2_S, un3_S, nmI_S, nmL_S, ptI_S, cs2_L, cs2_R, okI_b, okI_1, okI_0, rdI_in, wrI_in, rdI_L, wrI_L, rdL_in, wrL_in, if_true, if_false]
  · intro i s hi hs
    obtain ⟨x, Z2⟩ := s
    obtain ⟨e1, V2, b, d, q, t, e2, s1, s2⟩ := hs
    simp only at e1 e2
    subst e1 e2
    have hp3 : V2 (a + 3) i = b2i (pSr w i) := (hP.eq s1.2.2.1).2 i hi
    cases hsr : pSr w i with
    | false =>
      refine ⟨(nI (i + 1), (Sh, V2, L, n)), fun rec => ?_, rfl, V2, b, d, q, t, rfl, s1, fun c hc hs9 => ?_⟩
      · unfold cm_X14_finds_F29
        simp (disch := omega) only [cm_X14_finds_B29, zSh_T, zV_T, zL_T, zn_T, L_add, L_addR, L_mul, L_mulR, L_div, N_div, N_rem, L_sub, L_subN, nI_add, nI_mul, L_le, L_leR, L_lt, L_ltR, L_eq, N_leT, N_leF, N_ltT, N_ltF, N_eqT, N_eqF, N_m1, bnd_S, un2_S, un3_S, nmI_S, nmL_S, ptI_S, cs2_L, cs2_R, okI_b, okI_1, okI_0, rdI_in, wrI_in, rdI_L, wrI_L, rdL_in, wrL_in, if_true, if_false, k_3 hC, caI_eq hA3, hp3, hsr, b2iF]
      · by_cases hci : c = i
        · subst hci; rw [hsr] at hs9; cases hs9
        · exact s2 c (by omega) hs9
    | true =>
      obtain ⟨V3, b3, d3, q3, t3, r1, r2, r3, r4⟩ := SrC_come (L := L) (n := n) hC (z := 2 * i) (o := none) (x := 288) s1 (by omega) rfl (fun _ => ⟨by omega, by rw [show 2 * i / 2 = i by omega]; exact hsr⟩) (fun y q => by cases q)
      refine ⟨(nI (i + 1), (Sh, V3, L, n)), fun rec => ?_, rfl, V3, b3, d3, q3, t3, rfl, r2, fun c hc hs9 => ?_⟩
      · unfold cm_X14_finds_F29
        simp (disch := omega) only [cm_X14_finds_B29, zSh_T, zV_T, zL_T, zn_T, L_add, L_addR, L_mul, L_mulR, L_div, N_div, N_rem, L_sub, L_subN, nI_add, nI_mul, L_le, L_leR, L_lt, L_ltR, L_eq, N_leT, N_leF, N_ltT, N_ltF, N_eqT, N_eqF, N_m1, bnd_S, un2_S, un3_S, nmI_S, nmL_S, ptI_S, cs2_L, cs2_R, okI_b, okI_1, okI_0, rdI_in, wrI_in, rdI_L, wrI_L, rdL_in, wrL_in, if_true, if_false, k_3 hC, caI_eq hA3, hp3, hsr, b2iF, Bool.true_eq_false, k_K hC, r1]
      · by_cases hci : c = i
        · subst hci; exact r3
        · have := s2 c (by omega) hs9
          rw [r4 _ this]; exact this
  · intro s hs
    obtain ⟨x, Z2⟩ := s
    obtain ⟨e1, V2, b, d, q, t, e2, s1, s2⟩ := hs
    simp only at e1 e2
    subst e1 e2
    refine ⟨_, fun rec => ?_, V2, b, d, q, t, rfl, s1, s2⟩
    unfold cm_X14_finds_F29
    simp (disch := omega) only [cm_X14_finds_B29, L_add, L_addR, L_mul, L_mulR, L_div, N_div, N_rem, L_sub, L_subN, nI_add, nI_mul, L_le, L_leR, L_lt, L_ltR, L_eq, N_leT, N_leF, N_ltT, N_ltF, N_eqT, N_eqF, N_m1, bnd_S, un2_S, un3_S, nmI_S, nmL_S, ptI_S, cs2_L, cs2_R, okI_b, okI_1, okI_0, rdI_in, wrI_in, rdI_L, wrI_L, rdL_in, wrL_in, if_true, if_false]
end CF
