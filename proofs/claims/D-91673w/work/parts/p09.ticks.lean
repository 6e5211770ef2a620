/-! PURE: the reference: shut or not; a tick -/
set_option maxRecDepth 100000
noncomputable def pL (b : Nat → Option Nat) (s : Nat → Bool) : Option Nat := @dite _ (∃ r, isL b s r) (Classical.propDecidable _) (fun h => Classical.choose h) (fun _ => none)
theorem pL_eq {b : Nat → Option Nat} {s : Nat → Bool} {r : Option Nat} (h : isL b s r) : pL b s = r := by
  have he : ∃ r, isL b s r := ⟨r, h⟩
  unfold pL
  rw [dif_pos he]
  exact isL_one (Classical.choose_spec he) h
noncomputable def pWayO (w : Nat → Int32) : Option Nat := pL (bW w none (some 1)) (pBss w)
noncomputable def pThk (w : Nat → Int32) : Option Nat := pL (bW w (some 1) (some 0)) (pBss w)
noncomputable def pShut (w : Nat → Int32) : Bool := (pWayO w).isNone
section TS
variable {V : g_V}
theorem tw_lo_way (hk : pKok (V 1)) : ∃ g, tw_leastOut V (-1) 1 = some (oI0 (pWayO (V 1)), rowV V 26 g) := by
  obtain ⟨r, g, h1, h2⟩ := tw_leastOut_eq (V := V) (fz := none) (ot := some 1) hk (fun x h => by cases h) (fun x h => by cases h; exact Nat.le_refl 1)
  refine ⟨g, ?_⟩
  have h3 : pWayO (V 1) = r := pL_eq h2
  rw [h3]
  exact h1
theorem tw_lo_thk (hk : pKok (V 1)) : ∃ g, tw_leastOut V 1 0 = some (oI0 (pThk (V 1)), rowV V 26 g) := by
  obtain ⟨r, g, h1, h2⟩ := tw_leastOut_eq (V := V) (fz := some 1) (ot := some 0) hk (fun x h => by cases h; exact Nat.le_refl 1) (fun x h => by cases h; omega)
  refine ⟨g, ?_⟩
  have h3 : pThk (V 1) = r := pL_eq h2
  rw [h3]
  exact h1
theorem pWayO_le (hk : pKok (V 1)) : ∀ m, pWayO (V 1) = some m → m < 2 ^ 31 := by
  intro m hm
  exact Decidable.byContradiction (fun hlt => by
    obtain ⟨r, g, h1, h2⟩ := tw_leastOut_eq (V := V) (fz := none) (ot := some 1) hk (fun x h => by cases h) (fun x h => by cases h; exact Nat.le_refl 1)
    have h3 : pWayO (V 1) = r := pL_eq h2
    have hs0 : Snd (bW (V 1) none (some 1)) (pBss (V 1)) (fun _ => none) := fun c k _ h => by cases h
    have hm0 : muO (fun _ => none) < 99990 := by
      unfold muO
      simp only [sumN_const]
      omega
    obtain ⟨fo', h4, h5, h6⟩ := lo_all (V := V) (g := V 26) (fz := none) (ot := some 1) hk (fun x h => by cases h) (fun x h => by cases h; exact Nat.le_refl 1) hs0 hm0
    have h7 : pWayO (V 1) = bestR fo' := pL_eq (bestR_isL h5 h6)
    rw [hm] at h7
    rcases (om_itr (fun c => if pRim c = true then fo' c else none) none 144).2.2 m h7.symm with h8 | ⟨c, hc, h8⟩
    · cases h8
    · by_cases hr : pRim c = true
      · simp only [hr, if_true] at h8
        have := Snd_144 h5 c m hc h8
        omega
      · simp only [hr] at h8
        cases h8)
theorem tw_isShut_eq (hk : pKok (V 1)) : ∃ g, tw_isShut V = some (b2i (pShut (V 1)), rowV V 26 g) := by
  obtain ⟨g, h⟩ := tw_lo_way hk
  refine ⟨g, ?_⟩
  unfold tw_isShut
  rw [h, bnd_S, un2_S]
  unfold pShut
  cases hw : pWayO (V 1) with
  | none => simp only [oI0_N, m1m1, if_true]; rfl
  | some m =>
    have := pWayO_le hk m hw
    simp (disch := omega) only [oI0_S, N_m1, if_false]; rfl
/-! a tick -/
end TS
def pCame (w : Nat → Int32) (c : Nat) : Int32 := if pDug w c = true then 0 else sIn w c + pStr w c
def tRimI (w : Nat → Int32) (n : Nat) : Int32 := itr (fun c a => if pDug w c = true then a else a + sRim w c) (w 15) n
def tStrI (w : Nat → Int32) (n : Nat) : Int32 := itr (fun c a => if pDug w c = true then a else a + pStr w c) (w 16) n
def pT1I (w : Nat → Int32) (n : Nat) : Nat → Int32 := upd (upd w 15 (tRimI w n)) 16 (tStrI w n)
def pT1 (w : Nat → Int32) : Nat → Int32 := pT1I w 144
noncomputable def pFlood (w : Nat → Int32) : Nat → Int32 := if w 12 = 0 ∧ pAny w = true ∧ pShut w = false then upd (upd w 12 1) 13 (w 13 + 1) else w
def pT3 (w : Nat → Int32) : Nat → Int32 := pDoes (pPip (pT1 w) (pCame w)).1 (pPip (pT1 w) (pCame w)).2
def pT5 (w : Nat → Int32) : Nat → Int32 := pHou (upd (pT3 w) 1 (pT3 w 1 + 1))
noncomputable def pTicks (w : Nat → Int32) : Nat → Int32 := pFlood (pT5 w)
section TT
variable {V : g_V} {w : Nat → Int32}
theorem pT1I_u (w : Nat → Int32) (n : Nat) {c : Nat} : sIn (pT1I w n) c = sIn w c ∧ sRim (pT1I w n) c = sRim w c ∧ pStr (pT1I w n) c = pStr w c ∧ pDug (pT1I w n) c = pDug w c := by
  unfold pT1I
  simp (disch := omega) only [sIn_u, sRim_u, pStr_u, pDug_u, and_self]
theorem pT1I_j {n j : Nat} (h : j ≠ 15) (h2 : j ≠ 16) : pT1I w n j = w j := by unfold pT1I; rw [upd_ne h2, upd_ne h]
theorem pT1I_kok {n : Nat} (hk : pKok w) : pKok (pT1I w n) := pKok_u (by omega) (pKok_u (by omega) hk)
theorem tw_ticks_1 : tw_ticks_L2 1000 0 V = some (rowV V 24 (fun j => if j < 144 then 0 else V 24 j)) := by
  have h := lp_run (F := tw_ticks_F2) (N := 144) (st := fun i => (nI i, rowV V 24 (fun j => if j < i then 0 else V 24 j))) (out := rowV V 24 (fun j => if j < 144 then 0 else V 24 j)) ?_ ?_ 1000 0 (by omega) (by omega)
  · have e : rowV V 24 (fun j => if j < 0 then 0 else V 24 j) = V := by
      simp only [Nat.not_lt_zero, if_false]
      exact rowV_self V 24
    simp only [e, nI_0] at h
    exact h
  · intro rec i hi
    unfold tw_ticks_F2
    simp (disch := omega) only [tw_ticks_B2, L_add, L_addR, L_mul, L_mulR, L_div, N_div, N_rem, L_sub, L_subN, nI_add, nI_mul, L_le, L_leR, L_lt, L_ltR, L_eq, N_leT, N_leF, N_ltT, N_ltF, N_eqT, N_eqF, N_m1, bnd_S, un2_S, un3_S, nmI_S, nmL_S, ptI_S, cs2_L, cs2_R, okI_b, okI_1, okI_0, rdI_in, wrI_in, rdI_L, wrI_L, rdL_in, wrL_in, if_true, if_false, upd2_row, rowV_over, rowV_eq, upd_pre (f := fun _ => 0) rfl]
  · intro rec
    unfold tw_ticks_F2
    simp (disch := omega) only [tw_ticks_B2, L_add, L_addR, L_mul, L_mulR, L_div, N_div, N_rem, L_sub, L_subN, nI_add, nI_mul, L_le, L_leR, L_lt, L_ltR, L_eq, N_leT, N_leF, N_ltT, N_ltF, N_eqT, N_eqF, N_m1, bnd_S, un2_S, un3_S, nmI_S, nmL_S, ptI_S, cs2_L, cs2_R, okI_b, okI_1, okI_0, rdI_in, wrI_in, rdI_L, wrI_L, rdL_in, wrL_in, if_true, if_false]
theorem tw_ticks_2 {h0 : Nat → Int32} (hk : pKok w) (h00 : ∀ j, j < 144 → h0 j = 0) : tw_ticks_L24 1000 0 (s124 V (w, h0)) = some (s124 V (pT1 w, fun j => if j < 144 then pCame w j else h0 j)) := by
  have h := lp_run (F := tw_ticks_F24) (N := 144) (st := fun i => (nI i, s124 V (pT1I w i, fun j => if j < i then pCame w j else h0 j))) (out := s124 V (pT1 w, fun j => if j < 144 then pCame w j else h0 j)) ?_ ?_ 1000 0 (by omega) (by omega)
  · have e : s124 V (pT1I w 0, fun j => if j < 0 then pCame w j else h0 j) = s124 V (w, h0) := by
      simp only [Nat.not_lt_zero, if_false]
      unfold pT1I tRimI tStrI
      rw [itr_0, itr_0, upd_self, upd_self]
    simp only [e, nI_0] at h
    exact h
  · intro rec i hi
    obtain ⟨u1, u2, u3, u4⟩ := pT1I_u w i (c := i)
    have e1 : ∀ q, (s124 V q) 1 = q.1 := by intro q; unfold s124; rw [rowV_ne (by omega), rowV_eq]
    have e24 : ∀ q, (s124 V q) 24 = q.2 := by intro q; unfold s124; rw [rowV_eq]
    have ov : ∀ q q', s124 (s124 V q) q' = s124 V q' := by
      intro q q'
      unfold s124
      simp (disch := omega) only [upd2_row, rowV_eq, rowV_ne, rowV_over, rowV_swap, upd_eq, upd_ne, upd_over, Nat.zero_add]
    have hd := tw_isDug_eq (V := s124 V (pT1I w i, fun j => if j < i then pCame w j else h0 j)) hi
    have hcm := tw_comesBeside_eq (V := s124 V (pT1I w i, fun j => if j < i then pCame w j else h0 j)) (by rw [e1]; exact pT1I_kok hk) hi
    rw [e1, e24, ov] at hcm
    rw [e1] at hd
    simp only [u1, u2, u4] at hcm hd
    have hst := tw_streams_eq (V := s124 V (upd (pT1I w i) 15 (pT1I w i 15 + sRim w i), upd (fun j => if j < i then pCame w j else h0 j) i ((fun j => if j < i then pCame w j else h0 j) i + sIn w i))) (by rw [e1]; exact pKok_u (by omega) (pT1I_kok hk)) hi
    rw [e1, e24, ov] at hst
    simp (disch := omega) only [pStr_u, u3, upd_eq, upd_ne, upd_over] at hst
    have hz : ∀ x : Int32, (fun j => if j < i then pCame w j else h0 j) i + x = x := by
      intro x
      simp only [Nat.lt_irrefl, if_false, h00 i hi, Int32.zero_add]
    simp only [hz] at hst hcm
    unfold tw_ticks_F24
    simp (disch := omega) only [tw_ticks_B24, L_add, L_addR, L_mul, L_mulR, L_div, N_div, N_rem, L_sub, L_subN, nI_add, nI_mul, L_le, L_leR, L_lt, L_ltR, L_eq, N_leT, N_leF, N_ltT, N_ltF, N_eqT, N_eqF, N_m1, bnd_S, un2_S, un3_S, nmI_S, nmL_S, ptI_S, cs2_L, cs2_R, okI_b, okI_1, okI_0, rdI_in, wrI_in, rdI_L, wrI_L, rdL_in, wrL_in, if_true, if_false, hd, b2iF]
    cases hdg : pDug w i
    · simp only [if_true, hcm, bnd_S]
      rw [hst, bnd_S]
      have ec : upd (fun j => if j < i then pCame w j else h0 j) i (sIn w i + pStr w i) = fun j => if j < i + 1 then pCame w j else h0 j := upd_pre (by unfold pCame; rw [hdg]; simp)
      have er : upd (upd (pT1I w i) 15 (pT1I w i 15 + sRim w i)) 16 (pT1I w i 16 + pStr w i) = pT1I w (i + 1) := by
        have r15 : tRimI w (i + 1) = tRimI w i + sRim w i := by unfold tRimI; rw [itr_s, hdg]; simp
        have r16 : tStrI w (i + 1) = tStrI w i + pStr w i := by unfold tStrI; rw [itr_s, hdg]; simp
        have a15 : pT1I w i 15 = tRimI w i := by unfold pT1I; rw [upd_ne (by omega), upd_eq]
        have a16 : pT1I w i 16 = tStrI w i := by unfold pT1I; rw [upd_eq]
        rw [a15, a16]
        unfold pT1I
        rw [r15, r16]
        simp (disch := omega) only [upd_swap, upd_over, Nat.zero_add]
      rw [ec, er]
    · simp only [Bool.true_eq_false, if_false]
      have ec : (fun j => if j < i then pCame w j else h0 j) = fun j => if j < i + 1 then pCame w j else h0 j := by
        have h9 : upd (fun j => if j < i then pCame w j else h0 j) i ((fun j => if j < i then pCame w j else h0 j) i) = fun j => if j < i + 1 then pCame w j else h0 j := upd_pre (by
          simp only [Nat.lt_irrefl, if_false, h00 i hi]
          unfold pCame; rw [hdg]; simp)
        rw [upd_self] at h9
        exact h9
      have er : pT1I w i = pT1I w (i + 1) := by
        have r15 : tRimI w (i + 1) = tRimI w i := by unfold tRimI; rw [itr_s, hdg]; simp
        have r16 : tStrI w (i + 1) = tStrI w i := by unfold tStrI; rw [itr_s, hdg]; simp
        unfold pT1I
        rw [r15, r16]
      rw [← ec, ← er]
  · intro rec
    unfold tw_ticks_F24
    simp (disch := omega) only [tw_ticks_B24, L_add, L_addR, L_mul, L_mulR, L_div, N_div, N_rem, L_sub, L_subN, nI_add, nI_mul, L_le, L_leR, L_lt, L_ltR, L_eq, N_leT, N_leF, N_ltT, N_ltF, N_eqT, N_eqF, N_m1, bnd_S, un2_S, un3_S, nmI_S, nmL_S, ptI_S, cs2_L, cs2_R, okI_b, okI_1, okI_0, rdI_in, wrI_in, rdI_L, wrI_L, rdL_in, wrL_in, if_true, if_false]
    rfl
/-- the places that a tick's first parts keep -/
theorem pPip_A (hp : pPok w) {h : Nat → Int32} : pA w (pPip w h).1 := itr_inv (f := pPipF w) (a := (w, h)) (fun _ q => pA w q.1) (fun _ _ _ => rfl) (N := pNp w) (fun i q hi hq => pA_step (by have := hp.2.1; omega) hq) (pNp w) (Nat.le_refl _)
theorem pPip_h (hp : pPok w) {h h' : Nat → Int32} (hh : ∀ c, c < 144 → h c = h' c) : (pPip w h).1 = (pPip w h').1 ∧ ∀ c, c < 144 → (pPip w h).2 c = (pPip w h').2 c := by
  have key : ∀ n, n ≤ pNp w → (itr (pPipF w) (w, h) n).1 = (itr (pPipF w) (w, h') n).1 ∧ ∀ c, c < 144 → (itr (pPipF w) (w, h) n).2 c = (itr (pPipF w) (w, h') n).2 c := by
    intro n
    induction n with
    | zero => intro _; exact ⟨rfl, hh⟩
    | succ n ih =>
      intro hn
      obtain ⟨i1, i2⟩ := ih (by omega)
      rw [itr_s, itr_s]
      have hc := (hp.2.2.1 n (by omega)).2
      generalize itr (pPipF w) (w, h) n = A at i1 i2
      generalize itr (pPipF w) (w, h') n = B at i1 i2
      unfold pPipF
      refine ⟨by simp only [i1], fun c hc2 => ?_⟩
      simp only
      unfold upd
      rw [i2 _ hc]
      by_cases hcc : c = pPc w n
      · rw [if_pos hcc, if_pos hcc]
      · rw [if_neg hcc, if_neg hcc]
        exact i2 c hc2
  exact key (pNp w) (Nat.le_refl _)
theorem pDoesI_h {h h' : Nat → Int32} {n : Nat} (hn : n ≤ 144) (hh : ∀ c, c < 144 → h c = h' c) : pDoesI w h n = pDoesI w h' n := by
  funext j
  unfold pDoesI
  by_cases h1 : 192 ≤ j ∧ j < 192 + n
  · rw [if_pos h1, if_pos h1]
    unfold pDoW
    rw [hh (j - 192) (by omega)]
  · rw [if_neg h1, if_neg h1]
    by_cases h2 : 336 ≤ j ∧ j < 336 + n
    · rw [if_pos h2, if_pos h2]
      unfold pDoI
      rw [hh (j - 336) (by omega)]
    · rw [if_neg h2, if_neg h2]
theorem pPok_T1 (hp : pPok w) : pPok (pT1 w) ∧ pNp (pT1 w) = pNp w ∧ ∀ p, pPc (pT1 w) p = pPc w p := by
  have e2 : pNp (pT1 w) = pNp w := by unfold pNp pT1; rw [pT1I_j (by omega) (by omega)]
  have ec : ∀ p, pPc (pT1 w) p = pPc w p := by intro p; unfold pPc pT1; rw [pT1I_j (by omega) (by omega)]
  refine ⟨⟨?_, ?_, fun p hp2 => ?_, ?_⟩, e2, ec⟩
  · rw [e2]; unfold pT1; rw [pT1I_j (by omega) (by omega)]; exact hp.1
  · rw [e2]; exact hp.2.1
  · rw [e2] at hp2
    rw [ec]
    unfold pT1; rw [pT1I_j (by omega) (by omega)]
    exact hp.2.2.1 p hp2
  · unfold pT1; rw [pT1I_j (by omega) (by omega)]; exact hp.2.2.2
/-- what a tick keeps of a row up to its houses -/
def pB (w w' : Nat → Int32) : Prop := ∀ j, j ≠ 1 → j ≠ 14 → j ≠ 15 → j ≠ 16 → (j < 192 ∨ 480 ≤ j) → (j < 624 ∨ 732 ≤ j ∨ (j - 624) % 6 < 4) → w' j = w j
theorem pT3_B (hp : pPok w) : ∀ j, j ≠ 14 → j ≠ 15 → j ≠ 16 → (j < 192 ∨ 480 ≤ j) → (j < 624 ∨ 732 ≤ j ∨ (j - 624) % 6 < 4) → pT3 w j = w j := by
  intro j h1 h2 h3 h4 h5
  unfold pT3 pDoes
  rw [pDoesI_ag (Nat.le_refl _) j h4, pPip_A (pPok_T1 hp).1 j h1 h5]
  unfold pT1
  exact pT1I_j h2 h3
theorem pKok_of {w' : Nat → Int32} (hk : pKok w) (h : ∀ j, 48 ≤ j → j < 192 → w' j = w j) : pKok w' := by
  intro c hc
  rw [h _ (by omega) (by omega)]
  exact hk c hc
theorem pHok_of {w' : Nat → Int32} (hh : pHok w) (h3 : w' 3 = w 3) (h : ∀ i, i < 6 → w' (732 + 3 * i) = w (732 + 3 * i)) : pHok w' ∧ pNh w' = pNh w := by
  have e3 : pNh w' = pNh w := by unfold pNh; rw [h3]
  refine ⟨⟨by rw [e3, h3]; exact hh.1, by rw [e3]; exact hh.2.1, fun i hi => ?_⟩, e3⟩
  rw [e3] at hi
  have := hh.2.1
  have ex : pHx w' i = pHx w i := by unfold pHx; rw [h i (by omega)]
  rw [ex, h i (by omega)]
  exact hh.2.2 i hi
theorem pT4_hok (hp : pPok w) (hh : pHok w) : pHok (upd (pT3 w) 1 (pT3 w 1 + 1)) ∧ pNh (upd (pT3 w) 1 (pT3 w 1 + 1)) = pNh w := by
  refine pHok_of hh ?_ (fun i hi => ?_)
  · rw [upd_ne (by omega)]; exact pT3_B hp 3 (by omega) (by omega) (by omega) (by omega) (by omega)
  · rw [upd_ne (by omega)]; exact pT3_B hp _ (by omega) (by omega) (by omega) (by omega) (by omega)
theorem pT5_lt (hp : pPok w) (hh : pHok w) {j : Nat} (h : 48 ≤ j) (h2 : j < 192) : pT5 w j = w j := by
  unfold pT5 pHou
  rw [pHouI_lt (by omega), upd_ne (by omega)]
  exact pT3_B hp _ (by omega) (by omega) (by omega) (by omega) (by omega)
theorem tw_ticks_eq (hk : pKok (V 1)) (hp : pPok (V 1)) (hh : pHok (V 1)) : ∃ a b c, tw_ticks V = some (rowV (rowV (rowV (rowV V 1 (pTicks (V 1))) 24 a) 25 b) 26 c) := by
  have e0 : rowV V 24 (fun j => if j < 144 then 0 else V 24 j) = s124 V (V 1, fun j => if j < 144 then 0 else V 24 j) := by unfold s124; rw [rowV_self]
  have e1 : ∀ q, (s124 V q) 1 = q.1 := by intro q; unfold s124; rw [rowV_ne (by omega), rowV_eq]
  have e24 : ∀ q, (s124 V q) 24 = q.2 := by intro q; unfold s124; rw [rowV_eq]
  unfold tw_ticks
  rw [tw_ticks_1, bnd_S, e0, tw_ticks_2 hk (fun j hj => if_pos hj), bnd_S]
  generalize hh1 : (fun j => if j < 144 then pCame (V 1) j else if j < 144 then 0 else V 24 j) = h1
  have hh1c : ∀ c, c < 144 → h1 c = pCame (V 1) c := by intro c hc; rw [← hh1]; exact if_pos hc
  have hpip := tw_pipes_eq (V := s124 V (pT1 (V 1), h1)) (by rw [e1]; exact (pPok_T1 hp).1)
  rw [hpip, bnd_S, e1, e24]
  generalize (fun j => if j < pNp (pT1 (V 1)) then pWant (pT1 (V 1)) j else (s124 V (pT1 (V 1), h1)) 25 j) = b
  obtain ⟨q1, q2⟩ := pPip_h (pPok_T1 hp).1 hh1c
  generalize hP : pPip (pT1 (V 1)) h1 = P at q1 q2 ⊢
  have hd := tw_ticks_does (V := s3 (s124 V (pT1 (V 1), h1)) b P) (by
    rw [s3_1, q1]
    exact pKok_of hk (fun j h3 h4 => by
      rw [pPip_A (pPok_T1 hp).1 j (by omega) (by omega)]
      unfold pT1
      exact pT1I_j (by omega) (by omega)))
  rw [hd, bnd_S, s3_1, s3_24]
  have e3 : pDoes P.1 P.2 = pT3 (V 1) := by
    unfold pT3 pDoes
    rw [q1]
    exact pDoesI_h (Nat.le_refl _) q2
  rw [e3]
  have n1 : rowV (s3 (s124 V (pT1 (V 1), h1)) b P) 1 (pT3 (V 1)) = rowV (rowV (rowV V 1 (pT3 (V 1))) 24 P.2) 25 b := by
    unfold s3 s124
    simp (disch := omega) only [upd2_row, rowV_eq, rowV_ne, rowV_over, rowV_swap, upd_eq, upd_ne, upd_over, Nat.zero_add]
  rw [n1]
  simp (disch := omega) only [bnd_S, un2_S, un3_S, nmI_S, nmL_S, ptI_S, cs2_L, cs2_R, okI_b, okI_1, okI_0, rdI_in, wrI_in, rdI_L, wrI_L, rdL_in, wrL_in, if_true, if_false, upd2_row, rowV_eq, rowV_ne, rowV_over, rowV_swap, upd_eq, upd_ne, upd_over, Nat.zero_add]
  have hho := tw_ticks_hou (V := rowV (rowV (rowV V 1 (upd (pT3 (V 1)) 1 (pT3 (V 1) 1 + 1))) 24 P.2) 25 b) (by
    simp (disch := omega) only [upd2_row, rowV_eq, rowV_ne, rowV_over, rowV_swap, upd_eq, upd_ne, upd_over, Nat.zero_add]
    exact (pT4_hok hp hh).1)
  rw [hho, bnd_S]
  simp (disch := omega) only [upd2_row, rowV_eq, rowV_ne, rowV_over, rowV_swap, upd_eq, upd_ne, upd_over, Nat.zero_add]
  have e5 : pHou (upd (pT3 (V 1)) 1 (pT3 (V 1) 1 + 1)) = pT5 (V 1) := rfl
  rw [e5]
  generalize hX : rowV (rowV (rowV V 1 (pT5 (V 1))) 24 P.2) 25 b = X
  have x1 : X 1 = pT5 (V 1) := by rw [← hX]; simp (disch := omega) only [upd2_row, rowV_eq, rowV_ne, rowV_over, rowV_swap, upd_eq, upd_ne, upd_over, Nat.zero_add]
  have hkx : pKok (X 1) := by rw [x1]; exact pKok_of hk (fun j h3 h4 => pT5_lt hp hh h3 h4)
  obtain ⟨g, hs⟩ := tw_isShut_eq hkx
  rw [x1] at hs
  have fin : ∀ w' : Nat → Int32, X = rowV (rowV (rowV (rowV V 1 (pT5 (V 1))) 24 P.2) 25 b) 26 (X 26) := by
    intro _
    have h9 := rowV_self X 26
    rw [← hX] at h9 ⊢
    exact h9.symm
  simp only [tw_anyDug_eq, x1, bnd_S, b2iF, hs, un2_S]
  unfold pTicks pFlood
  by_cases h12 : pT5 (V 1) 12 = 0
  · simp only [h12, if_true, true_and]
    cases han : pAny (pT5 (V 1))
    · simp only [if_true, Bool.false_eq_true, false_and, if_false]
      exact ⟨_, _, _, congrArg some (fin (V 1))⟩
    · simp only [Bool.true_eq_false, if_false, true_and]
      cases hsh : pShut (pT5 (V 1))
      · simp only [if_true]
        refine ⟨P.2, b, g, ?_⟩
        rw [← hX]
        simp (disch := omega) only [upd2_row, rowV_eq, rowV_ne, rowV_over, rowV_swap, upd_eq, upd_ne, upd_over, Nat.zero_add]
      · simp only [Bool.true_eq_false, if_false]
        refine ⟨P.2, b, g, ?_⟩
        rw [← hX]
  · simp only [h12, if_false, false_and]
    exact ⟨_, _, _, congrArg some (fin (V 1))⟩
end TT
