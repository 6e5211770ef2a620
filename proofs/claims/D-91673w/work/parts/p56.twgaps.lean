/-! PURE: the reference: ways are sent until none is left; gaps -/
set_option maxRecDepth 100000
theorem tw_wayTo_eq {c k d : Nat} (hc : c < 144) (hk : k < 4) (hd : pBes c k = some d) : tw_wayTo (nI c) (nI d) = some (nI k) := by
  have hdl := pBes_lt hc hd
  have hr := lp_rel (F := tw_wayTo_F2 (nI c) (nI d)) (N := k) (P := fun out => out = nI k) (fun i s => s = nI i) ?_ ?_ 1000 0 0 (by omega) (by omega) nI_0.symm
  · obtain ⟨out, h1, rfl⟩ := hr
    unfold tw_wayTo tw_wayTo_L2
    rw [h1, bnd_S]
  · intro i s hi hs
    subst hs
    refine ⟨nI (i + 1), fun rec => ?_, rfl⟩
    unfold tw_wayTo_F2
    simp (disch := omega) only [tw_wayTo_B2, L_add, L_addR, L_mul, L_mulR, L_div, N_div, N_rem, L_sub, L_subN, nI_add, nI_mul, L_le, L_leR, L_lt, L_ltR, L_eq, N_leT, N_leF, N_ltT, N_ltF, N_eqT, N_eqF, N_m1, bnd_S, un2_S, un3_S, nmI_S, nmL_S, ptI_S, cs2_L, cs2_R, okI_b, okI_1, okI_0, rdI_in, wrI_in, rdI_L, wrI_L, rdL_in, wrL_in, if_true, if_false, tw_beside_eq hc (show i < 4 by omega)]
    rw [if_neg]
    cases hb : pBes c i with
    | none =>
      intro q
      have h9 := N_m1 (a := d) (by omega)
      rw [← q, oI0_N] at h9
      exact absurd rfl (by rw [h9]; exact fun h => h)
    | some e =>
      intro q
      have he := pBes_lt hc hb
      rw [oI0_S] at q
      have := (nI_eq (by omega) (by omega)).mp q
      subst this
      have := pBes_uniq (by omega) hk hb hd
      omega
  · intro s hs
    subst hs
    refine ⟨nI k, fun rec => ?_, rfl⟩
    unfold tw_wayTo_F2
    simp (disch := omega) only [tw_wayTo_B2, L_add, L_addR, L_mul, L_mulR, L_div, N_div, N_rem, L_sub, L_subN, nI_add, nI_mul, L_le, L_leR, L_lt, L_ltR, L_eq, N_leT, N_leF, N_ltT, N_ltF, N_eqT, N_eqF, N_m1, bnd_S, un2_S, un3_S, nmI_S, nmL_S, ptI_S, cs2_L, cs2_R, okI_b, okI_1, okI_0, rdI_in, wrI_in, rdI_L, wrI_L, rdL_in, wrL_in, if_true, if_false, tw_beside_eq hc hk, hd, oI0_S]
/-- rows 27 and 28 alone are changed -/
def Eq78 (V V' : g_V) : Prop := ∀ j, j ≠ 27 → j ≠ 28 → V' j = V j
section GO
variable {V : g_V} {op sr th0 : Nat → Bool} {on0 : Nat → Nat → Bool} {b : Nat → Option (Option Nat)} {d q : Nat → Nat} {t v : Nat}
theorem FlR_th {V : g_V} {th : Nat → Bool} {on : Nat → Nat → Bool} {c : Nat} {x : Bool} (h : FlR V th on) (hc : c < 144) : FlR (upd2 V 27 c (b2i x)) (setB th c x) on := by
  refine ⟨fun c' hc' => ?_, fun c' k hc' hk => ?_⟩
  · rw [upd2_eq]
    unfold setB
    by_cases e : c' = c
    · rw [if_pos e, e, upd_eq]
    · rw [if_neg e, upd_ne e]; exact h.1 c' hc'
  · rw [upd2_ne 28 (by omega)]; exact h.2 c' k hc' hk
theorem FlR_on {V : g_V} {th : Nat → Bool} {on : Nat → Nat → Bool} {c k : Nat} {x : Bool} (h : FlR V th on) (hk : k < 4) : FlR (upd2 V 28 (4 * c + k) (b2i x)) th (setO on c k x) := by
  refine ⟨fun c' hc' => ?_, fun c' k' hc' hk' => ?_⟩
  · rw [upd2_ne 27 (by omega)]; exact h.1 c' hc'
  · rw [upd2_eq]
    unfold setO
    by_cases e : c' = c ∧ k' = k
    · rw [if_pos e, e.1, e.2, upd_eq]
    · rw [if_neg e, upd_ne (by omega)]; exact h.2 c' k' hc' hk'
theorem tw_goes_eq (hS : SQ op sr th0 on0 b d q t) (hT : TwS V b q t) (hfl : FlR V th0 on0) (hF : FI op sr th0 on0) (hv : flV th0 on0 v) (hso : ∀ c, c < 144 → sr c = true → op c = true) {c : Nat} (hc : c < 144) (hb : b (2 * c + 1) ≠ none) (hr : pRim c = true) : ∃ V' th on, tw_goes V (nI (2 * c + 1)) = some V' ∧ Eq78 V V' ∧ FlR V' th on ∧ FI op sr th on ∧ flV th on (v + 1) := by
  have hSV := hS.2.2.2
  have ht : t ≤ 288 := by rw [hS.1]; exact cntV_le _
  have hw := lp_wf (F := tw_goes_F2) (I := fun s => ∃ z V' th on, s = (nI z, V') ∧ Eq78 V V' ∧ FlR V' th on ∧ BK op sr th0 on0 b d v z th on) (P := fun V' => ∃ th on, Eq78 V V' ∧ FlR V' th on ∧ FI op sr th on ∧ flV th on (v + 1)) (fun s => d s.1.toNatClampNeg) ?_ 1000 (nI (2 * c + 1), V) ⟨2 * c + 1, V, th0, on0, rfl, fun _ _ _ => rfl, hfl, back_start hF hv hc hb hr⟩ ?_
  · obtain ⟨V', h1, th, on, h2⟩ := hw
    refine ⟨V', th, on, ?_, h2⟩
    unfold tw_goes tw_goes_L2
    rw [h1, bnd_S]
  · intro rec s hs
    obtain ⟨z, V', th, on, rfl, hE, hfl', hB⟩ := hs
    have hz := hB.2.1
    have r29 : V' 29 z = cB (b z) := by rw [hE 29 (by omega) (by omega)]; exact hT.1 z hz
    cases hbz : b z with
    | none => exact absurd hbz hB.1
    | some o =>
      rw [hbz] at r29
      unfold tw_goes_F2
      cases o with
      | none =>
        left
        obtain ⟨e1, e2⟩ := back_end hSV hB hbz
        refine ⟨V', ?_, th, on, hE, hfl', e1, e2⟩
        have : cB (some none) = 1000 := rfl
        rw [this] at r29
        simp (disch := omega) only [tw_goes_B2, L_add, L_addR, L_mul, L_mulR, L_div, N_div, N_rem, L_sub, L_subN, nI_add, nI_mul, L_le, L_leR, L_lt, L_ltR, L_eq, N_leT, N_leF, N_ltT, N_ltF, N_eqT, N_eqF, N_m1, bnd_S, un2_S, un3_S, nmI_S, nmL_S, ptI_S, cs2_L, cs2_R, okI_b, okI_1, okI_0, rdI_in, wrI_in, rdI_L, wrI_L, rdL_in, wrL_in, if_true, if_false, r29]
      | some y =>
        right
        obtain ⟨y1, y2, y3⟩ := back_step hSV hF hso hB hbz
        have : cB (some (some y)) = nI y := rfl
        rw [this] at r29
        have ym : y / 2 < 144 := by omega
        have zm : z / 2 < 144 := by omega
        have dec : ∀ V2 : g_V, d (nI y, V2).1.toNatClampNeg < d (nI z, V').1.toNatClampNeg := by
          intro V2
          show d (nI y).toNatClampNeg < d (nI z).toNatClampNeg
          rw [nI_clamp (by omega), nI_clamp (by omega)]
          exact y2
        rcases y3 with ⟨a1, a2, a3⟩ | ⟨a1, a2, a3, k, a4, a5, a6⟩ | ⟨a1, a2, a3, k, a4, a5, a6⟩
        · refine ⟨(nI y, upd2 V' 27 (z / 2) (b2i (decide (z % 2 = 1)))), ?_, ⟨y, _, _, _, rfl, fun j h7 h8 => by rw [upd2_ne j h7]; exact hE j h7 h8, FlR_th hfl' zm, a3⟩, dec _⟩
          have hodd : z % 2 = 0 ∨ z % 2 = 1 := by omega
          rcases hodd with hz0 | hz1
          · simp (disch := omega) only [tw_goes_B2, L_add, L_addR, L_mul, L_mulR, L_div, N_div, N_rem, L_sub, L_subN, nI_add, nI_mul, L_le, L_leR, L_lt, L_ltR, L_eq, N_leT, N_leF, N_ltT, N_ltF, N_eqT, N_eqF, N_m1, bnd_S, un2_S, un3_S, nmI_S, nmL_S, ptI_S, cs2_L, cs2_R, okI_b, okI_1, okI_0, rdI_in, wrI_in, rdI_L, wrI_L, rdL_in, wrL_in, if_true, if_false, r29, a1, hz0]
            simp [hz0, b2i]
          · simp (disch := omega) only [tw_goes_B2, L_add, L_addR, L_mul, L_mulR, L_div, N_div, N_rem, L_sub, L_subN, nI_add, nI_mul, L_le, L_leR, L_lt, L_ltR, L_eq, N_leT, N_leF, N_ltT, N_ltF, N_eqT, N_eqF, N_m1, bnd_S, un2_S, un3_S, nmI_S, nmL_S, ptI_S, cs2_L, cs2_R, okI_b, okI_1, okI_0, rdI_in, wrI_in, rdI_L, wrI_L, rdL_in, wrL_in, if_true, if_false, r29, a1, hz1]
            simp [hz1, b2i]
        · refine ⟨(nI y, upd2 V' 28 (4 * (y / 2) + k) (b2i true)), ?_, ⟨y, _, _, _, rfl, fun j h7 h8 => by rw [upd2_ne j h8]; exact hE j h7 h8, FlR_on hfl' a4, a6⟩, dec _⟩
          simp (disch := omega) only [tw_goes_B2, L_add, L_addR, L_mul, L_mulR, L_div, N_div, N_rem, L_sub, L_subN, nI_add, nI_mul, L_le, L_leR, L_lt, L_ltR, L_eq, N_leT, N_leF, N_ltT, N_ltF, N_eqT, N_eqF, N_m1, bnd_S, un2_S, un3_S, nmI_S, nmL_S, ptI_S, cs2_L, cs2_R, okI_b, okI_1, okI_0, rdI_in, wrI_in, rdI_L, wrI_L, rdL_in, wrL_in, if_true, if_false, r29, a2, tw_wayTo_eq ym a4 a5]
          rfl
        · refine ⟨(nI y, upd2 V' 28 (4 * (z / 2) + k) (b2i false)), ?_, ⟨y, _, _, _, rfl, fun j h7 h8 => by rw [upd2_ne j h8]; exact hE j h7 h8, FlR_on hfl' a4, a6⟩, dec _⟩
          simp (disch := omega) only [tw_goes_B2, L_add, L_addR, L_mul, L_mulR, L_div, N_div, N_rem, L_sub, L_subN, nI_add, nI_mul, L_le, L_leR, L_lt, L_ltR, L_eq, N_leT, N_leF, N_ltT, N_ltF, N_eqT, N_eqF, N_m1, bnd_S, un2_S, un3_S, nmI_S, nmL_S, ptI_S, cs2_L, cs2_R, okI_b, okI_1, okI_0, rdI_in, wrI_in, rdI_L, wrI_L, rdL_in, wrL_in, if_true, if_false, r29, a2, tw_wayTo_eq zm a4 a5]
          rfl
  · show d (nI (2 * c + 1)).toNatClampNeg < 1000
    rw [nI_clamp (by omega)]
    have := (hS.2.2.1 (2 * c + 1) (by omega) hb).1
    omega
end GO
section GA
variable {V : g_V} {w : Nat → Int32}
/-- what findGaps changes -/
def EqG (V V' : g_V) : Prop := (∀ j, j ≠ 0 → j ≠ 27 → j ≠ 28 → j ≠ 29 → j ≠ 30 → j ≠ 32 → V' j = V j) ∧ ∀ i, i ≠ 31 → V' 0 i = V 0 i
theorem tw_findGaps_eq (hk : pKok (V 1)) (hw : V 1 = w) : ∃ v g V', tw_findGaps V = some (nI v, V') ∧ v ≤ 144 ∧ isCut (pOp w) (pSr w) v g ∧ (∀ c, c < 144 → V' 32 c = b2i (g c)) ∧ EqG V V' := by
  -- nothing flows at first
  have i1 : ∃ V1, tw_findGaps_L2 1000 0 V = some V1 ∧ Eq78 V V1 ∧ FlR V1 (fun _ => false) (fun _ _ => false) := by
    have hr := lp_rel (F := tw_findGaps_F2) (N := 144) (P := fun V1 => Eq78 V V1 ∧ FlR V1 (fun _ => false) (fun _ _ => false)) (fun i s => s.1 = nI i ∧ Eq78 V s.2 ∧ (∀ c, c < i → s.2 27 c = 0) ∧ ∀ c k, c < i → k < 4 → s.2 28 (4 * c + k) = 0) ?_ ?_ 1000 0 (0, V) (by omega) (by omega) ⟨nI_0.symm, fun _ _ _ => rfl, fun c hc => by omega, fun c k hc => by omega⟩
    · exact hr
    · intro i s hi hs
      obtain ⟨x, V1⟩ := s
      obtain ⟨e1, e2, e3, e4⟩ := hs
      simp only at e1 e2 e3 e4
      subst e1
      have hin : tw_findGaps_L18 (nI i) 1000 0 (upd2 V1 27 i 0) = some (rowV (rowV V1 27 (upd (V1 27) i 0)) 28 (fun j => if 4 * i ≤ j ∧ j < 4 * i + 4 then 0 else V1 28 j)) := by
        have hr2 := lp_run (F := tw_findGaps_F18 (nI i)) (N := 4) (st := fun k => (nI k, rowV (rowV V1 27 (upd (V1 27) i 0)) 28 (fun j => if 4 * i ≤ j ∧ j < 4 * i + k then 0 else V1 28 j))) (out := rowV (rowV V1 27 (upd (V1 27) i 0)) 28 (fun j => if 4 * i ≤ j ∧ j < 4 * i + 4 then 0 else V1 28 j)) ?_ ?_ 1000 0 (by omega) (by omega)
        · have e : rowV (rowV V1 27 (upd (V1 27) i 0)) 28 (fun j => if 4 * i ≤ j ∧ j < 4 * i + 0 then 0 else V1 28 j) = upd2 V1 27 i 0 := by
            have e9 : (fun j => if 4 * i ≤ j ∧ j < 4 * i + 0 then (0 : Int32) else V1 28 j) = V1 28 := by
              funext j
              rw [if_neg (by omega)]
            rw [e9, upd2_row]
            have h9 := rowV_self (rowV V1 27 (upd (V1 27) i 0)) 28
            rw [rowV_ne (show 28 ≠ 27 by omega)] at h9
            exact h9
          rw [e, nI_0] at hr2
          exact hr2
        · intro rec k hk9
          unfold tw_findGaps_F18
          simp (disch := omega) only [tw_findGaps_B18, L_add, L_addR, L_mul, L_mulR, L_div, N_div, N_rem, L_sub, L_subN, nI_add, nI_mul, L_le, L_leR, L_lt, L_ltR, L_eq, N_leT, N_leF, N_ltT, N_ltF, N_eqT, N_eqF, N_m1, bnd_S, un2_S, un3_S, nmI_S, nmL_S, ptI_S, cs2_L, cs2_R, okI_b, okI_1, okI_0, rdI_in, wrI_in, rdI_L, wrI_L, rdL_in, wrL_in, if_true, if_false, upd2_row, rowV_eq, rowV_over]
          have e9 : upd (fun j => if 4 * i ≤ j ∧ j < 4 * i + k then 0 else V1 28 j) (4 * i + k) 0 = fun j => if 4 * i ≤ j ∧ j < 4 * i + (k + 1) then 0 else V1 28 j := by
            funext j
            unfold upd
            by_cases hj : j = 4 * i + k
            · rw [if_pos hj, if_pos (by omega)]
            · rw [if_neg hj]
              have e : (4 * i ≤ j ∧ j < 4 * i + (k + 1)) = (4 * i ≤ j ∧ j < 4 * i + k) := propext (by omega)
              simp only [e]
          rw [e9]
        · intro rec
          unfold tw_findGaps_F18
          simp (disch := omega) only [tw_findGaps_B18, L_add, L_addR, L_mul, L_mulR, L_div, N_div, N_rem, L_sub, L_subN, nI_add, nI_mul, L_le, L_leR, L_lt, L_ltR, L_eq, N_leT, N_leF, N_ltT, N_ltF, N_eqT, N_eqF, N_m1, bnd_S, un2_S, un3_S, nmI_S, nmL_S, ptI_S, cs2_L, cs2_R, okI_b, okI_1, okI_0, rdI_in, wrI_in, rdI_L, wrI_L, rdL_in, wrL_in, if_true, if_false]
      refine ⟨(nI (i + 1), rowV (rowV V1 27 (upd (V1 27) i 0)) 28 (fun j => if 4 * i ≤ j ∧ j < 4 * i + 4 then 0 else V1 28 j)), fun rec => ?_, rfl, fun j h7 h8 => ?_, fun c hc => ?_, fun c k hc hk9 => ?_⟩
      · unfold tw_findGaps_F2
        simp (disch := omega) only [tw_findGaps_B2, L_add, L_addR, L_mul, L_mulR, L_div, N_div, N_rem, L_sub, L_subN, nI_add, nI_mul, L_le, L_leR, L_lt, L_ltR, L_eq, N_leT, N_leF, N_ltT, N_ltF, N_eqT, N_eqF, N_m1, bnd_S, un2_S, un3_S, nmI_S, nmL_S, ptI_S, cs2_L, cs2_R, okI_b, okI_1, okI_0, rdI_in, wrI_in, rdI_L, wrI_L, rdL_in, wrL_in, if_true, if_false, hin]
      · simp only
        rw [rowV_ne h8, rowV_ne h7]; exact e2 j h7 h8
      · simp only
        rw [rowV_ne (by omega), rowV_eq]
        by_cases hci : c = i
        · rw [hci, upd_eq]
        · rw [upd_ne hci]; exact e3 c (by omega)
      · simp only
        rw [rowV_eq]
        by_cases hci : c = i
        · rw [if_pos (by omega)]
        · rw [if_neg (by omega)]; exact e4 c k (by omega) hk9
    · intro s hs
      obtain ⟨x, V1⟩ := s
      obtain ⟨e1, e2, e3, e4⟩ := hs
      simp only at e1 e2 e3 e4
      subst e1
      refine ⟨V1, fun rec => ?_, e2, fun c hc => e3 c hc, fun c k hc hk9 => e4 c k hc hk9⟩
      unfold tw_findGaps_F2
      simp (disch := omega) only [tw_findGaps_B2, L_add, L_addR, L_mul, L_mulR, L_div, N_div, N_rem, L_sub, L_subN, nI_add, nI_mul, L_le, L_leR, L_lt, L_ltR, L_eq, N_leT, N_leF, N_ltT, N_ltF, N_eqT, N_eqF, N_m1, bnd_S, un2_S, un3_S, nmI_S, nmL_S, ptI_S, cs2_L, cs2_R, okI_b, okI_1, okI_0, rdI_in, wrI_in, rdI_L, wrI_L, rdL_in, wrL_in, if_true, if_false]
  obtain ⟨V1, j1, j2, j3⟩ := i1
  have wV1 : V1 1 = w := by rw [j2 1 (by omega) (by omega)]; exact hw
  have hk1 : pKok (V1 1) := by rw [wV1, ← hw]; exact hk
  obtain ⟨r, V2, b, d, q, t, s1, s2, s3, s4, s5⟩ := tw_search_eq hk1 wV1 j3 FI_0.1
  -- what is kept all through
  have eqj : ∀ {A B C : g_V}, EqG A B → EqS B C → EqG A C := fun h h' => ⟨fun j a b c d e f => (h'.1 j a d e).trans (h.1 j a b c d e f), fun i a => (h'.2 i a).trans (h.2 i a)⟩
  have eqk : ∀ {A B C : g_V}, EqG A B → Eq78 B C → EqG A C := fun h h' => ⟨fun j a b c d e f => (h' j b c).trans (h.1 j a b c d e f), fun i a => by rw [h' 0 (by omega) (by omega)]; exact h.2 i a⟩
  have g0 : EqG V V1 := ⟨fun j a b c d e f => j2 j b c, fun i a => by rw [j2 0 (by omega) (by omega)]⟩
  have hl := lp_wf (F := tw_findGaps_F53) (I := fun s => ∃ v r V3 th on b d q t, s = (nI v, r, V3) ∧ EqG V V3 ∧ FlR V3 th on ∧ FI (pOp w) (pSr w) th on ∧ flV th on v ∧ SQ (pOp w) (pSr w) th on b d q t ∧ TwS V3 b q t ∧ ((r = -1 ∧ CX (pOp w) (pSr w) th on (xIn b) (xOut b)) ∨ ∃ c, c < 144 ∧ r = nI (2 * c + 1) ∧ b (2 * c + 1) ≠ none ∧ pRim c = true))
    (P := fun out => ∃ v V3 th on b d q t, out = (nI v, V3) ∧ EqG V V3 ∧ FI (pOp w) (pSr w) th on ∧ flV th on v ∧ SQ (pOp w) (pSr w) th on b d q t ∧ TwS V3 b q t ∧ CX (pOp w) (pSr w) th on (xIn b) (xOut b)) (fun s => 200 - s.1.toNatClampNeg) ?_ 1000 (0, r, V2) ⟨0, r, V2, _, _, b, d, q, t, by rw [nI_0], eqj g0 s2, j3.eq s2, FI_0.1, (FI_0 (op := pOp w) (sr := pSr w)).2, s3, s4, s5⟩ (by omega)
  · obtain ⟨out, k1, v, V3, th, on, b3, d3, q3, t3, rfl, k2, k3, k4, k5, k6, k7⟩ := hl
    have hv := flV_le k4
    -- which are gaps
    have yb : ∀ z, z < 288 → (V3 29 z = -1) = (b3 z = none) := fun z hz => by rw [k6.1 z hz]; exact cB_n (SV_y k5.2.2.2 hz)
    have hg : ∃ V4, tw_findGaps_L76 (nI v) 1000 0 V3 = some V4 ∧ (∀ c, c < 144 → V4 32 c = b2i (xIn b3 c && !xOut b3 c)) ∧ ∀ j, j ≠ 32 → V4 j = V3 j := by
      have hr := lp_rel (F := tw_findGaps_F76 (nI v)) (N := 144) (P := fun V4 => (∀ c, c < 144 → V4 32 c = b2i (xIn b3 c && !xOut b3 c)) ∧ ∀ j, j ≠ 32 → V4 j = V3 j) (fun i s => s.1 = nI i ∧ (∀ c, c < i → s.2 32 c = b2i (xIn b3 c && !xOut b3 c)) ∧ ∀ j, j ≠ 32 → s.2 j = V3 j) ?_ ?_ 1000 0 (0, V3) (by omega) (by omega) ⟨nI_0.symm, fun c hc => by omega, fun _ _ => rfl⟩
      · exact hr
      · intro i s hi hs
        obtain ⟨x, V4⟩ := s
        obtain ⟨e1, e2, e3⟩ := hs
        simp only at e1 e2 e3
        subst e1
        have y1 : (V4 29 (2 * i) = -1) = (b3 (2 * i) = none) := by rw [e3 29 (by omega)]; exact yb _ (by omega)
        have y2 : (V4 29 (2 * i + 1) = -1) = (b3 (2 * i + 1) = none) := by rw [e3 29 (by omega)]; exact yb _ (by omega)
        refine ⟨(nI (i + 1), upd2 V4 32 i (b2i (xIn b3 i && !xOut b3 i))), fun rec => ?_, rfl, fun c hc => ?_, fun j hj => ?_⟩
        · unfold tw_findGaps_F76
          simp (disch := omega) only [tw_findGaps_B76, L_add, L_addR, L_mul, L_mulR, L_div, N_div, N_rem, L_sub, L_subN, nI_add, nI_mul, L_le, L_leR, L_lt, L_ltR, L_eq, N_leT, N_leF, N_ltT, N_ltF, N_eqT, N_eqF, N_m1, bnd_S, un2_S, un3_S, nmI_S, nmL_S, ptI_S, cs2_L, cs2_R, okI_b, okI_1, okI_0, rdI_in, wrI_in, rdI_L, wrI_L, rdL_in, wrL_in, if_true, if_false, y1, y2]
          unfold xIn xOut
          cases h1 : b3 (2 * i) with
          | none => simp [b2i]
          | some o1 =>
            cases h2 : b3 (2 * i + 1) with
            | none => simp [b2i]
            | some o2 => simp [b2i]
        · simp only
          rw [upd2_eq]
          by_cases hci : c = i
          · rw [hci, upd_eq]
          · rw [upd_ne hci]; exact e2 c (by omega)
        · simp only
          rw [upd2_ne j hj]; exact e3 j hj
      · intro s hs
        obtain ⟨x, V4⟩ := s
        obtain ⟨e1, e2, e3⟩ := hs
        simp only at e1 e2 e3
        subst e1
        refine ⟨V4, fun rec => ?_, e2, e3⟩
        unfold tw_findGaps_F76
        simp (disch := omega) only [tw_findGaps_B76, L_add, L_addR, L_mul, L_mulR, L_div, N_div, N_rem, L_sub, L_subN, nI_add, nI_mul, L_le, L_leR, L_lt, L_ltR, L_eq, N_leT, N_leF, N_ltT, N_ltF, N_eqT, N_eqF, N_m1, bnd_S, un2_S, un3_S, nmI_S, nmL_S, ptI_S, cs2_L, cs2_R, okI_b, okI_1, okI_0, rdI_in, wrI_in, rdI_L, wrI_L, rdL_in, wrL_in, if_true, if_false]
    obtain ⟨V4, m1, m2, m3⟩ := hg
    refine ⟨v, fun c => xIn b3 c && !xOut b3 c, V4, ?_, hv, ⟨th, on, b3, d3, k3, k4, k5.2.2.2, k7, fun _ _ => rfl⟩, m2, fun j a b c d e f => ?_, fun i a => ?_⟩
    · unfold tw_findGaps tw_findGaps_L53
      rw [j1, bnd_S, s1, bnd_S, un2_S, k1, bnd_S, un2_S, m1, bnd_S]
    · rw [m3 j f]; exact k2.1 j a b c d e f
    · rw [m3 0 (by omega)]; exact k2.2 i a
  · intro rec s hs
    obtain ⟨v, r, V3, th, on, b, d, q, t, rfl, k1, k2, k3, k4, k5, k6, k7⟩ := hs
    have hv := flV_le k4
    unfold tw_findGaps_F53
    rcases k7 with ⟨rfl, k8⟩ | ⟨c, c1, rfl, c3, c4⟩
    · left
      refine ⟨(nI v, V3), ?_, v, V3, th, on, b, d, q, t, rfl, k1, k3, k4, k5, k6, k8⟩
      simp only [tw_findGaps_B53, m1m1, if_true]
    · right
      obtain ⟨V4, th4, on4, g1, g2, g3, g4, g5⟩ := tw_goes_eq k5 k6 k2 k3 k4 pSr_op c1 c3 c4
      have k1' := eqk k1 g2
      have wV4 : V4 1 = w := by rw [k1'.1 1 (by omega) (by omega) (by omega) (by omega) (by omega) (by omega)]; exact hw
      obtain ⟨r5, V5, b5, d5, q5, t5, u1, u2, u3, u4, u5⟩ := tw_search_eq (by rw [wV4, ← hw]; exact hk) wV4 g3 g4
      have hv1 := flV_le g5
      refine ⟨(nI (v + 1), r5, V5), ?_, ⟨v + 1, r5, V5, th4, on4, b5, d5, q5, t5, rfl, eqj k1' u2, g3.eq u2, g4, g5, u3, u4, u5⟩, ?_⟩
      · simp (disch := omega) only [tw_findGaps_B53, L_add, L_addR, L_mul, L_mulR, L_div, N_div, N_rem, L_sub, L_subN, nI_add, nI_mul, L_le, L_leR, L_lt, L_ltR, L_eq, N_leT, N_leF, N_ltT, N_ltF, N_eqT, N_eqF, N_m1, bnd_S, un2_S, un3_S, nmI_S, nmL_S, ptI_S, cs2_L, cs2_R, okI_b, okI_1, okI_0, rdI_in, wrI_in, rdI_L, wrI_L, rdL_in, wrL_in, if_true, if_false, g1, u1]
      · show 200 - (nI (v + 1)).toNatClampNeg < 200 - (nI v).toNatClampNeg
        rw [nI_clamp (by omega), nI_clamp (by omega)]
        omega
end GA
