/-! PURE: the reference's search -/
set_option maxRecDepth 100000
def pOp (w : Nat → Int32) (c : Nat) : Bool := !pShf w c && !pFro w c
def pSr (w : Nat → Int32) (c : Nat) : Bool := pOp w c && pBs w c
theorem pSr_op {w : Nat → Int32} : ∀ c, c < 144 → pSr w c = true → pOp w c = true := by
  intro c _ h
  unfold pSr at h
  simp only [Bool.and_eq_true] at h
  exact h.1
/-- rows of a flow -/
def FlR (V : g_V) (th : Nat → Bool) (on : Nat → Nat → Bool) : Prop := (∀ c, c < 144 → V 27 c = b2i (th c)) ∧ ∀ c k, c < 144 → k < 4 → V 28 (4 * c + k) = b2i (on c k)
theorem FlR.eq {V V' : g_V} {th : Nat → Bool} {on : Nat → Nat → Bool} (h : FlR V th on) (he : EqS V V') : FlR V' th on := by
  unfold FlR
  rw [he.1 27 (by omega) (by omega) (by omega), he.1 28 (by omega) (by omega) (by omega)]
  exact h
theorem x1_opp {k : Nat} (h : k < 4) : nI k ^^^ 1 = nI (opp k) := by
  have h4 : k = 0 ∨ k = 1 ∨ k = 2 ∨ k = 3 := by omega
  rcases h4 with rfl | rfl | rfl | rfl <;> decide
theorem FI_on {op sr th : Nat → Bool} {on : Nat → Nat → Bool} (hF : FI op sr th on) {c k : Nat} (hc : c < 144) (hk : k < 4) (h : on c k = true) : op c = true := by
  have hp := oF_pos hk h
  have hf := hF c hc
  have : th c = true := by
    cases ht : th c with
    | true => rfl
    | false => rw [ht] at hf; have := hf.1; rw [bN_f] at this; omega
  exact hf.2.2.2.2.1 this
section TS2
variable {w : Nat → Int32} {th : Nat → Bool} {on : Nat → Nat → Bool}
/-- while a search goes on: from V0 with b0, q0, t0 -/
def SrR (w : Nat → Int32) (th : Nat → Bool) (on : Nat → Nat → Bool) (V0 : g_V) (b0 : Nat → Option (Option Nat)) (q0 : Nat → Nat) (t0 : Nat) (V : g_V) (b : Nat → Option (Option Nat)) (d q : Nat → Nat) (t : Nat) : Prop := SQ (pOp w) (pSr w) th on b d q t ∧ TwS V b q t ∧ EqS V0 V ∧ SLe b0 b ∧ (∀ k, k < t0 → q k = q0 k) ∧ t0 ≤ t
theorem SrR_reach {V0 V : g_V} {b0 b : Nat → Option (Option Nat)} {q0 d q : Nat → Nat} {t0 t z : Nat} {o : Option Nat} {x : Int32} (h : SrR w th on V0 b0 q0 t0 V b d q t) (hz : z < 288) (hx : x = cB (some o)) (h0 : o = none → z % 2 = 0 ∧ pSr w (z / 2) = true) (h1 : ∀ y, o = some y → y < 288 ∧ b y ≠ none ∧ Rs (pOp w) th on y z) :
    ∃ V' b' d' q' t', tw_reach V (nI z) x = some V' ∧ SrR w th on V0 b0 q0 t0 V' b' d' q' t' ∧ b' z ≠ none ∧ SLe b b' := by
  obtain ⟨a1, a2, a3, a4, a5, a6⟩ := h
  obtain ⟨V', b', d', q', t', r1, r2, r3, r4, r5, r6, r7, r8⟩ := tw_reach_eq a1 a2 hz hx h0 h1
  exact ⟨V', b', d', q', t', r1, ⟨r2, r3, a3.trans r4, a4.trans r5, fun k hk => by rw [r7 k (by omega), a5 k hk], by omega⟩, r6, r5⟩
variable {V0 : g_V} {b0 : Nat → Option (Option Nat)} {q0 : Nat → Nat} {t0 : Nat}
/-- the sides of a cell that is gone out of -/
theorem tw_side_out {x1 : Int32} {c : Nat} (hk : pKok (V0 1)) (hw : V0 1 = w) (hc : c < 144) {V : g_V} {b : Nat → Option (Option Nat)} {d q : Nat → Nat} {t : Nat} (h : SrR w th on V0 b0 q0 t0 V b d q t) (hb : b (2 * c + 1) ≠ none) :
    ∃ V' b' d' q' t', tw_search_L135 x1 (nI (2 * c + 1)) (nI c) 1000 0 V = some V' ∧ SrR w th on V0 b0 q0 t0 V' b' d' q' t' ∧ SLe b b' ∧ ∀ k e, k < 4 → pBes c k = some e → pOp w e = true → b' (2 * e) ≠ none := by
  have hr := lp_rel (F := tw_search_F135 x1 (nI (2 * c + 1)) (nI c)) (N := 4) (P := fun V' => ∃ b' d' q' t', SrR w th on V0 b0 q0 t0 V' b' d' q' t' ∧ SLe b b' ∧ ∀ k e, k < 4 → pBes c k = some e → pOp w e = true → b' (2 * e) ≠ none) (fun i s => s.1 = nI i ∧ ∃ b' d' q' t', SrR w th on V0 b0 q0 t0 s.2 b' d' q' t' ∧ SLe b b' ∧ ∀ k e, k < i → pBes c k = some e → pOp w e = true → b' (2 * e) ≠ none) ?_ ?_ 1000 0 (0, V) (by omega) (by omega) ⟨nI_0.symm, b, d, q, t, h, SLe.refl, fun k e hk => by omega⟩
  · obtain ⟨V', h1, b', d', q', t', h2⟩ := hr
    exact ⟨V', b', d', q', t', h1, h2⟩
  · intro i s hi hs
    obtain ⟨x, V1⟩ := s
    obtain ⟨e1, b1, d1, q1, t1, s1, s2, s3⟩ := hs
    simp only at e1 s1
    subst e1
    have v1 : V1 1 = w := by rw [s1.2.2.1.1 1 (by omega) (by omega) (by omega)]; exact hw
    have hop : ∀ e, e < 144 → tw_isOpen V1 (nI e) = some (b2i (pOp w e)) := by
      intro e he
      have := tw_isOpen_eq (V := V1) (by rw [v1, ← hw]; exact hk) he
      rw [v1] at this
      exact this
    have keep : (∀ e, pBes c i = some e → pOp w e = true → b1 (2 * e) ≠ none) → ∀ k e, k < i + 1 → pBes c k = some e → pOp w e = true → b1 (2 * e) ≠ none := by
      intro hk9 k e hk hb9 ho
      by_cases hki : k = i
      · subst hki; exact hk9 e hb9 ho
      · exact s3 k e (by omega) hb9 ho
    cases hbs : pBes c i with
    | none =>
      refine ⟨(nI (i + 1), V1), fun rec => ?_, rfl, b1, d1, q1, t1, s1, s2, keep (fun e he => by rw [hbs] at he; cases he)⟩
      unfold tw_search_F135
      simp (disch := omega) only [tw_search_B135, L_add, L_addR, L_mul, L_mulR, L_div, N_div, N_rem, L_sub, L_subN, nI_add, nI_mul, L_le, L_leR, L_lt, L_ltR, L_eq, N_leT, N_leF, N_ltT, N_ltF, N_eqT, N_eqF, N_m1, bnd_S, un2_S, un3_S, nmI_S, nmL_S, ptI_S, cs2_L, cs2_R, okI_b, okI_1, okI_0, rdI_in, wrI_in, rdI_L, wrI_L, rdL_in, wrL_in, if_true, if_false, tw_beside_eq hc hi, hbs, oI0_N, m1m1]
    | some e =>
      have he := pBes_lt hc hbs
      cases ho : pOp w e with
      | false =>
        refine ⟨(nI (i + 1), V1), fun rec => ?_, rfl, b1, d1, q1, t1, s1, s2, keep (fun e' he' ho' => by rw [hbs] at he'; cases he'; rw [ho] at ho'; cases ho')⟩
        unfold tw_search_F135
        simp (disch := omega) only [tw_search_B135, L_add, L_addR, L_mul, L_mulR, L_div, N_div, N_rem, L_sub, L_subN, nI_add, nI_mul, L_le, L_leR, L_lt, L_ltR, L_eq, N_leT, N_leF, N_ltT, N_ltF, N_eqT, N_eqF, N_m1, bnd_S, un2_S, un3_S, nmI_S, nmL_S, ptI_S, cs2_L, cs2_R, okI_b, okI_1, okI_0, rdI_in, wrI_in, rdI_L, wrI_L, rdL_in, wrL_in, if_true, if_false, tw_beside_eq hc hi, hbs, oI0_S, hop e he, ho, b2iF]
      | true =>
        obtain ⟨V2, b2, d2, q2, t2, r1, r2, r3, r4⟩ := SrR_reach (z := 2 * e) (o := some (2 * c + 1)) (x := nI (2 * c + 1)) s1 (by omega) rfl (fun q => by cases q) (fun y hy => by
          cases hy
          exact ⟨by omega, (by rw [s2 _ hb]; exact hb), Or.inr (Or.inr (Or.inl ⟨by omega, by omega, i, hi, by rw [show (2 * c + 1) / 2 = c by omega, show 2 * e / 2 = e by omega]; exact hbs, by rw [show 2 * e / 2 = e by omega]; exact ho⟩))⟩)
        refine ⟨(nI (i + 1), V2), fun rec => ?_, rfl, b2, d2, q2, t2, r2, s2.trans r4, fun k e' hk he' ho' => ?_⟩
        · unfold tw_search_F135
          simp (disch := omega) only [tw_search_B135, L_add, L_addR, L_mul, L_mulR, L_div, N_div, N_rem, L_sub, L_subN, nI_add, nI_mul, L_le, L_leR, L_lt, L_ltR, L_eq, N_leT, N_leF, N_ltT, N_ltF, N_eqT, N_eqF, N_m1, bnd_S, un2_S, un3_S, nmI_S, nmL_S, ptI_S, cs2_L, cs2_R, okI_b, okI_1, okI_0, rdI_in, wrI_in, rdI_L, wrI_L, rdL_in, wrL_in, if_true, if_false, tw_beside_eq hc hi, hbs, oI0_S, hop e he, ho, b2iF, Bool.true_eq_false, r1]
        · by_cases hki : k = i
          · subst hki; rw [hbs] at he'; cases he'; exact r3
          · have := s3 k e' (by omega) he' ho'
            rw [r4 _ this]; exact this
  · intro s hs
    obtain ⟨x, V1⟩ := s
    obtain ⟨e1, b1, d1, q1, t1, s1, s2, s3⟩ := hs
    simp only at e1 s1
    subst e1
    refine ⟨V1, fun rec => ?_, b1, d1, q1, t1, s1, s2, s3⟩
    unfold tw_search_F135
    simp (disch := omega) only [tw_search_B135, L_add, L_addR, L_mul, L_mulR, L_div, N_div, N_rem, L_sub, L_subN, nI_add, nI_mul, L_le, L_leR, L_lt, L_ltR, L_eq, N_leT, N_leF, N_ltT, N_ltF, N_eqT, N_eqF, N_m1, bnd_S, un2_S, un3_S, nmI_S, nmL_S, ptI_S, cs2_L, cs2_R, okI_b, okI_1, okI_0, rdI_in, wrI_in, rdI_L, wrI_L, rdL_in, wrL_in, if_true, if_false]
/-- the sides of a cell that is gone into -/
theorem tw_side_in {x1 : Int32} {c : Nat} (hk : pKok (V0 1)) (hw : V0 1 = w) (hfl : FlR V0 th on) (hF : FI (pOp w) (pSr w) th on) (hc : c < 144) {V : g_V} {b : Nat → Option (Option Nat)} {d q : Nat → Nat} {t : Nat} (h : SrR w th on V0 b0 q0 t0 V b d q t) (hb : b (2 * c) ≠ none) :
    ∃ V' b' d' q' t', tw_search_L204 x1 (nI (2 * c)) (nI c) 1000 0 V = some V' ∧ SrR w th on V0 b0 q0 t0 V' b' d' q' t' ∧ SLe b b' ∧ ∀ k e, k < 4 → pBes c k = some e → on e (opp k) = true → b' (2 * e + 1) ≠ none := by
  have hr := lp_rel (F := tw_search_F204 x1 (nI (2 * c)) (nI c)) (N := 4) (P := fun V' => ∃ b' d' q' t', SrR w th on V0 b0 q0 t0 V' b' d' q' t' ∧ SLe b b' ∧ ∀ k e, k < 4 → pBes c k = some e → on e (opp k) = true → b' (2 * e + 1) ≠ none) (fun i s => s.1 = nI i ∧ ∃ b' d' q' t', SrR w th on V0 b0 q0 t0 s.2 b' d' q' t' ∧ SLe b b' ∧ ∀ k e, k < i → pBes c k = some e → on e (opp k) = true → b' (2 * e + 1) ≠ none) ?_ ?_ 1000 0 (0, V) (by omega) (by omega) ⟨nI_0.symm, b, d, q, t, h, SLe.refl, fun k e hk => by omega⟩
  · obtain ⟨V', h1, b', d', q', t', h2⟩ := hr
    exact ⟨V', b', d', q', t', h1, h2⟩
  · intro i s hi hs
    obtain ⟨x, V1⟩ := s
    obtain ⟨e1, b1, d1, q1, t1, s1, s2, s3⟩ := hs
    simp only at e1 s1
    subst e1
    have v1 : V1 1 = w := by rw [s1.2.2.1.1 1 (by omega) (by omega) (by omega)]; exact hw
    have hop : ∀ e, e < 144 → tw_isOpen V1 (nI e) = some (b2i (pOp w e)) := by
      intro e he
      have := tw_isOpen_eq (V := V1) (by rw [v1, ← hw]; exact hk) he
      rw [v1] at this
      exact this
    have keep : (∀ e, pBes c i = some e → on e (opp i) = true → b1 (2 * e + 1) ≠ none) → ∀ k e, k < i + 1 → pBes c k = some e → on e (opp k) = true → b1 (2 * e + 1) ≠ none := by
      intro hk9 k e hk hb9 ho
      by_cases hki : k = i
      · subst hki; exact hk9 e hb9 ho
      · exact s3 k e (by omega) hb9 ho
    cases hbs : pBes c i with
    | none =>
      refine ⟨(nI (i + 1), V1), fun rec => ?_, rfl, b1, d1, q1, t1, s1, s2, keep (fun e he => by rw [hbs] at he; cases he)⟩
      unfold tw_search_F204
      simp (disch := omega) only [tw_search_B204, L_add, L_addR, L_mul, L_mulR, L_div, N_div, N_rem, L_sub, L_subN, nI_add, nI_mul, L_le, L_leR, L_lt, L_ltR, L_eq, N_leT, N_leF, N_ltT, N_ltF, N_eqT, N_eqF, N_m1, bnd_S, un2_S, un3_S, nmI_S, nmL_S, ptI_S, cs2_L, cs2_R, okI_b, okI_1, okI_0, rdI_in, wrI_in, rdI_L, wrI_L, rdL_in, wrL_in, if_true, if_false, tw_beside_eq hc hi, hbs, oI0_N, m1m1]
    | some e =>
      have he := pBes_lt hc hbs
      have ol := opp_lt i
      have hr28 : V1 28 (4 * e + opp i) = b2i (on e (opp i)) := (hfl.eq s1.2.2.1).2 e (opp i) he ol
      cases ho : pOp w e with
      | false =>
        have hno : on e (opp i) = false := by
          cases hon : on e (opp i) with
          | false => rfl
          | true => rw [FI_on hF he ol hon] at ho; cases ho
        refine ⟨(nI (i + 1), V1), fun rec => ?_, rfl, b1, d1, q1, t1, s1, s2, keep (fun e' he' ho' => by rw [hbs] at he'; cases he'; rw [hno] at ho'; cases ho')⟩
        unfold tw_search_F204
        simp (disch := omega) only [tw_search_B204, L_add, L_addR, L_mul, L_mulR, L_div, N_div, N_rem, L_sub, L_subN, nI_add, nI_mul, L_le, L_leR, L_lt, L_ltR, L_eq, N_leT, N_leF, N_ltT, N_ltF, N_eqT, N_eqF, N_m1, bnd_S, un2_S, un3_S, nmI_S, nmL_S, ptI_S, cs2_L, cs2_R, okI_b, okI_1, okI_0, rdI_in, wrI_in, rdI_L, wrI_L, rdL_in, wrL_in, if_true, if_false, tw_beside_eq hc hi, hbs, oI0_S, hop e he, ho, b2iF]
      | true =>
        cases hon : on e (opp i) with
        | false =>
          refine ⟨(nI (i + 1), V1), fun rec => ?_, rfl, b1, d1, q1, t1, s1, s2, keep (fun e' he' ho' => by rw [hbs] at he'; cases he'; rw [hon] at ho'; cases ho')⟩
          unfold tw_search_F204
          simp (disch := omega) only [tw_search_B204, L_add, L_addR, L_mul, L_mulR, L_div, N_div, N_rem, L_sub, L_subN, nI_add, nI_mul, L_le, L_leR, L_lt, L_ltR, L_eq, N_leT, N_leF, N_ltT, N_ltF, N_eqT, N_eqF, N_m1, bnd_S, un2_S, un3_S, nmI_S, nmL_S, ptI_S, cs2_L, cs2_R, okI_b, okI_1, okI_0, rdI_in, wrI_in, rdI_L, wrI_L, rdL_in, wrL_in, if_true, if_false, tw_beside_eq hc hi, hbs, oI0_S, hop e he, ho, b2iF, Bool.true_eq_false, x1_opp hi, hr28, hon]
        | true =>
          obtain ⟨V2, b2, d2, q2, t2, r1, r2, r3, r4⟩ := SrR_reach (z := 2 * e + 1) (o := some (2 * c)) (x := nI (2 * c)) s1 (by omega) rfl (fun q => by cases q) (fun y hy => by
            cases hy
            exact ⟨by omega, (by rw [s2 _ hb]; exact hb), Or.inr (Or.inr (Or.inr ⟨by omega, by omega, i, hi, by rw [show 2 * c / 2 = c by omega, show (2 * e + 1) / 2 = e by omega]; exact hbs, by rw [show (2 * e + 1) / 2 = e by omega]; exact hon⟩))⟩)
          refine ⟨(nI (i + 1), V2), fun rec => ?_, rfl, b2, d2, q2, t2, r2, s2.trans r4, fun k e' hk he' ho' => ?_⟩
          · unfold tw_search_F204
            simp (disch := omega) only [tw_search_B204, L_add, L_addR, L_mul, L_mulR, L_div, N_div, N_rem, L_sub, L_subN, nI_add, nI_mul, L_le, L_leR, L_lt, L_ltR, L_eq, N_leT, N_leF, N_ltT, N_ltF, N_eqT, N_eqF, N_m1, bnd_S, un2_S, un3_S, nmI_S, nmL_S, ptI_S, cs2_L, cs2_R, okI_b, okI_1, okI_0, rdI_in, wrI_in, rdI_L, wrI_L, rdL_in, wrL_in, if_true, if_false, tw_beside_eq hc hi, hbs, oI0_S, hop e he, ho, b2iF, Bool.true_eq_false, x1_opp hi, hr28, hon, r1]
          · by_cases hki : k = i
            · subst hki; rw [hbs] at he'; cases he'; exact r3
            · have := s3 k e' (by omega) he' ho'
              rw [r4 _ this]; exact this
  · intro s hs
    obtain ⟨x, V1⟩ := s
    obtain ⟨e1, b1, d1, q1, t1, s1, s2, s3⟩ := hs
    simp only at e1 s1
    subst e1
    refine ⟨V1, fun rec => ?_, b1, d1, q1, t1, s1, s2, s3⟩
    unfold tw_search_F204
    simp (disch := omega) only [tw_search_B204, L_add, L_addR, L_mul, L_mulR, L_div, N_div, N_rem, L_sub, L_subN, nI_add, nI_mul, L_le, L_leR, L_lt, L_ltR, L_eq, N_leT, N_leF, N_ltT, N_ltF, N_eqT, N_eqF, N_m1, bnd_S, un2_S, un3_S, nmI_S, nmL_S, ptI_S, cs2_L, cs2_R, okI_b, okI_1, okI_0, rdI_in, wrI_in, rdI_L, wrI_L, rdL_in, wrL_in, if_true, if_false]
end TS2
