/-! PURE: a tick keeps a row's numbers in their ranges -/
set_option maxRecDepth 100000
section TB
variable {w : Nat → Int32} {c p : Nat}
theorem pTake_b (h6 : 0 ≤ (w 6).toInt) (hw0 : 0 ≤ (pWant w p).toInt) : 0 ≤ (pTake w p).toInt ∧ (pTake w p).toInt ≤ (pWant w p).toInt := by
  unfold pTake
  split
  · exact ⟨hw0, Int.le_refl _⟩
  · rename_i h
    have hall : (w 6).toInt < (pAll w).toInt := by
      rw [Int64.le_iff_toInt_le, Int32.toInt_toInt64] at h
      omega
    have a1 := (pWant w p).toInt_lt
    have a2 := (w 6).toInt_lt
    have m1 : 0 ≤ (pWant w p).toInt * (w 6).toInt := Int.mul_nonneg hw0 h6
    have m2 : (pWant w p).toInt * (w 6).toInt ≤ (pWant w p).toInt * (pAll w).toInt := Int.mul_le_mul_of_nonneg_left (by omega) hw0
    have m3 : (pWant w p).toInt * (w 6).toInt ≤ 2147483648 * (w 6).toInt := Int.mul_le_mul_of_nonneg_right (by omega) h6
    have e1 : ((pWant w p).toInt64 * (w 6).toInt64).toInt = (pWant w p).toInt * (w 6).toInt := by
      rw [Int64.toInt_mul, Int32.toInt_toInt64, Int32.toInt_toInt64]
      exact Int.bmod_eq_of_le (by omega) (by omega)
    have hall0 : 0 < (pAll w).toInt := by omega
    have d1 : ((pWant w p).toInt * (w 6).toInt).tdiv (pAll w).toInt = ((pWant w p).toInt * (w 6).toInt) / (pAll w).toInt := Int.tdiv_eq_ediv_of_nonneg m1
    have d2 : 0 ≤ ((pWant w p).toInt * (w 6).toInt) / (pAll w).toInt := Int.ediv_nonneg m1 (by omega)
    have d3 : ((pWant w p).toInt * (w 6).toInt) / (pAll w).toInt ≤ (pWant w p).toInt := Int.ediv_le_of_le_mul hall0 m2
    have e2 : ((pWant w p).toInt64 * (w 6).toInt64 / pAll w).toInt = ((pWant w p).toInt * (w 6).toInt) / (pAll w).toInt := by
      rw [Int64.toInt_div, e1, d1]
      exact Int.bmod_eq_of_le (by omega) (by omega)
    have e3 : ((pWant w p).toInt64 * (w 6).toInt64 / pAll w).toInt32.toInt = ((pWant w p).toInt * (w 6).toInt) / (pAll w).toInt := by
      rw [Int64.toInt_toInt32, e2]
      exact Int.bmod_eq_of_le (by omega) (by omega)
    rw [e3]
    exact ⟨d2, d3⟩
/-- the heat of a cell after the pipes -/
theorem pPip_heat (hp : pPok w) (h2 : pPip2 w) {h : Nat → Int32} : ∀ n, n ≤ pNp w → ∀ c, (itr (pPipF w) (w, h) n).2 c = h c ∧ (∀ p, p < n → pPc w p ≠ c) ∨ ∃ p, p < n ∧ pPc w p = c ∧ (itr (pPipF w) (w, h) n).2 c = h c - pTake w p := by
  intro n
  induction n with
  | zero => intro _ c; exact Or.inl ⟨rfl, fun p hp => by omega⟩
  | succ n ih =>
    intro hn c
    rw [itr_s]
    show (upd (itr (pPipF w) (w, h) n).2 (pPc w n) ((itr (pPipF w) (w, h) n).2 (pPc w n) - pTake w n) c = h c ∧ _) ∨ ∃ p, _ ∧ _ ∧ upd (itr (pPipF w) (w, h) n).2 (pPc w n) ((itr (pPipF w) (w, h) n).2 (pPc w n) - pTake w n) c = _
    by_cases hc : c = pPc w n
    · subst hc
      right
      refine ⟨n, by omega, rfl, ?_⟩
      rw [upd_eq]
      rcases ih (by omega) (pPc w n) with ⟨h3, -⟩ | ⟨p, h3, h4, -⟩
      · rw [h3]
      · have := h2.2 p n (by omega) (by omega) h4
        omega
    · rw [upd_ne hc]
      rcases ih (by omega) c with ⟨h3, h4⟩ | ⟨p, h3, h4, h5⟩
      · left
        refine ⟨h3, fun p hp9 => ?_⟩
        by_cases hpn : p = n
        · subst hpn; exact fun e => hc e.symm
        · exact h4 p (by omega)
      · right
        exact ⟨p, by omega, h4, h5⟩
/-- warmth and ice of a cell that takes so much stay in their ranges -/
theorem pDo_b {h : Nat → Int32} (hk : pKok w) (hg : pGnd w) (hw : pWrm w) (hc : c < 144) (h1 : -390000 ≤ 100 * ((w (192 + c)).toInt + (h c).toInt)) (h2 : 100 * ((w (192 + c)).toInt + (h c).toInt) ≤ 30000) : (-3900 ≤ (pDoW w h c).toInt ∧ (pDoW w h c).toInt ≤ 300) ∧ 0 ≤ (pDoI w h c).toInt ∧ (pDoI w h c).toInt ≤ (pGr w c 2).toInt := by
  obtain ⟨hx, hi0, hi1⟩ := hw c hc
  obtain ⟨-, -, hla, hma⟩ := pGr_b hk hg hc
  have h0 : (0 : Int32).toInt = 0 := rfl
  unfold pDoW pDoI
  by_cases hh : 0 ≤ h c
  · have hh2 : 0 ≤ (h c).toInt := by have := Int32.le_iff_toInt_le.mp hh; omega
    rw [if_pos hh, if_pos hh]
    have s1 := t_sub (a := pGr w c 3) (b := w (192 + c)) (by omega) (by omega)
    have s2 := t_max0 (a := pGr w c 3 - w (192 + c))
    have s3 := t_min (a := h c) (b := iMax0 (pGr w c 3 - w (192 + c)))
    generalize iMin (h c) (iMax0 (pGr w c 3 - w (192 + c))) = r at s3
    generalize iMax0 (pGr w c 3 - w (192 + c)) = x at s2 s3
    have r0 : 0 ≤ r.toInt ∧ r.toInt ≤ (h c).toInt := by
      rw [s3]
      split
      · rw [s2]; rw [s2] at *; split <;> split at * <;> omega
      · omega
    have s4 := t_sub (a := h c) (b := r) (by omega) (by omega)
    have s5 := t_min (a := h c - r) (b := w (336 + c))
    generalize iMin (h c - r) (w (336 + c)) = t at s5
    have t0 : 0 ≤ t.toInt ∧ t.toInt ≤ (h c).toInt ∧ t.toInt ≤ (w (336 + c)).toInt := by
      rw [s5]
      split <;> omega
    have s6 := t_sub (a := h c) (b := t) (by omega) (by omega)
    have s7 := t_add (a := w (192 + c)) (b := h c - t) (by omega) (by omega)
    have s8 := t_sub (a := w (336 + c)) (b := t) (by omega) (by omega)
    rw [s7, s8]
    omega
  · have hh2 : (h c).toInt < 0 := by
      rw [Int32.le_iff_toInt_le] at hh
      omega
    rw [if_neg hh, if_neg hh]
    have n1 := t_neg (a := h c) (by omega)
    have s1 := t_sub (a := w (192 + c)) (b := pGr w c 3) (by omega) (by omega)
    have s2 := t_max0 (a := w (192 + c) - pGr w c 3)
    have s3 := t_min (a := -h c) (b := iMax0 (w (192 + c) - pGr w c 3))
    generalize iMin (-h c) (iMax0 (w (192 + c) - pGr w c 3)) = f at s3
    generalize iMax0 (w (192 + c) - pGr w c 3) = x at s2 s3
    have f0 : 0 ≤ f.toInt ∧ f.toInt ≤ -(h c).toInt := by
      rw [s3]
      split
      · rw [s2]; rw [s2] at *; split <;> split at * <;> omega
      · omega
    have s4 := t_sub (a := -h c) (b := f) (by omega) (by omega)
    have s4b := t_sub (a := pGr w c 2) (b := w (336 + c)) (by omega) (by omega)
    have s5 := t_min (a := -h c - f) (b := pGr w c 2 - w (336 + c))
    generalize iMin (-h c - f) (pGr w c 2 - w (336 + c)) = z at s5
    have z0 : 0 ≤ z.toInt ∧ z.toInt ≤ -(h c).toInt ∧ z.toInt ≤ (pGr w c 2).toInt - (w (336 + c)).toInt := by
      rw [s5]
      split <;> omega
    have s6 := t_add (a := h c) (b := z) (by omega) (by omega)
    have s7 := t_add (a := w (192 + c)) (b := h c + z) (by omega) (by omega)
    have s8 := t_add (a := w (336 + c)) (b := z) (by omega) (by omega)
    rw [s7, s8]
    omega
/-- rows that are alike where questions of range are asked -/
theorem pGood_of {w' : Nat → Int32} (hg : pGood w) (ha : ∀ j, (j = 2 ∨ j = 3 ∨ j = 5 ∨ j = 6 ∨ (20 ≤ j ∧ j < 192) ∨ (624 ≤ j ∧ j < 732 ∧ (j - 624) % 6 < 4) ∨ (732 ≤ j ∧ j < 750 ∧ (j - 732) % 3 = 0)) → w' j = w j) (hw : pWrm w') : pGood w' := by
  obtain ⟨hk, hp, hh, hgn, h2, -⟩ := hg
  have en : pNp w' = pNp w := pNp_eq (ha 2 (by omega))
  have ec : ∀ p, p < 18 → pPc w' p = pPc w p := by intro p hp9; unfold pPc; rw [ha _ (by omega)]
  have h18 := hp.2.1
  refine ⟨pKok_of hk (fun j h3 h4 => ha j (by omega)), ⟨?_, ?_, fun p hp9 => ?_, ?_⟩, (pHok_of hh (ha 3 (by omega)) (fun i hi => ha _ (by omega))).1, ⟨fun g hg => ?_, fun y hy => ?_, ?_⟩, ⟨fun p hp9 => ?_, fun p q hp9 hq9 => ?_⟩, hw⟩
  · rw [en, ha 2 (by omega)]; exact hp.1
  · rw [en]; exact h18
  · rw [en] at hp9
    rw [ec p (by omega), ha _ (by omega)]
    exact hp.2.2.1 p hp9
  · rw [ha 6 (by omega)]; exact hp.2.2.2
  · rw [ha _ (by omega), ha _ (by omega), ha _ (by omega), ha _ (by omega)]; exact hgn.1 g hg
  · rw [ha _ (by omega)]; exact hgn.2.1 y hy
  · rw [ha _ (by omega)]; exact hgn.2.2
  · rw [en] at hp9
    rw [ha _ (by omega), ha _ (by omega), ha _ (by omega)]
    exact h2.1 p hp9
  · rw [en] at hp9 hq9
    rw [ec p (by omega), ec q (by omega)]
    exact h2.2 p q hp9 hq9
theorem pT3_wrm (hg : pGood w) : pWrm (pT3 w) := by
  obtain ⟨hk, hp, hh, hgn, h2, hw⟩ := hg
  obtain ⟨hp1, en1, ec1⟩ := pPok_T1 hp
  have w1 : ∀ j, j ≠ 15 → j ≠ 16 → pT1 w j = w j := fun j h15 h16 => pT1I_j h15 h16
  have hg0 : pGood w := ⟨hk, hp, hh, hgn, h2, hw⟩
  have gr1 : ∀ c, c < 144 → pGr (pT1 w) c 2 = pGr w c 2 := by
    intro c hc
    unfold pGr pKd
    rw [w1 _ (by omega) (by omega), w1 _ (by omega) (by omega)]
  have hw1 : pWrm (pT1 w) := by
    intro c hc
    rw [w1 _ (by omega) (by omega), w1 _ (by omega) (by omega), gr1 c hc]
    exact hw c hc
  have hg1 : pGood (pT1 w) := pGood_of hg0 (fun j hj => w1 j (by omega) (by omega)) hw1
  obtain ⟨hk1, -, -, hgn1, h21, -⟩ := hg1
  -- the row behind the pipes
  have hA := pPip_A hp1 (h := pCame w)
  have hk2 : pKok (pPip (pT1 w) (pCame w)).1 := pKok_of hk1 (fun j h3 h4 => hA j (by omega) (by omega))
  have hgn2 : pGnd (pPip (pT1 w) (pCame w)).1 := by
    refine ⟨fun g hg => ?_, fun y hy => ?_, ?_⟩
    · rw [hA _ (by omega) (by omega), hA _ (by omega) (by omega), hA _ (by omega) (by omega), hA _ (by omega) (by omega)]; exact hgn1.1 g hg
    · rw [hA _ (by omega) (by omega)]; exact hgn1.2.1 y hy
    · rw [hA _ (by omega) (by omega)]; exact hgn1.2.2
  have gr2 : ∀ c k, c < 144 → k < 4 → pGr (pPip (pT1 w) (pCame w)).1 c k = pGr (pT1 w) c k := by
    intro c k hc hk4
    have h9 := (pKd_of hk1 hc).1
    have e : pKd (pPip (pT1 w) (pCame w)).1 c = pKd (pT1 w) c := by unfold pKd; rw [hA _ (by omega) (by omega)]
    unfold pGr
    rw [e, hA _ (by omega) (by omega)]
  have hw2 : pWrm (pPip (pT1 w) (pCame w)).1 := by
    intro c hc
    rw [hA _ (by omega) (by omega), hA _ (by omega) (by omega), gr2 c 2 hc (by omega)]
    exact hw1 c hc
  intro c hc
  have hag := pDoesI_ag (w := (pPip (pT1 w) (pCame w)).1) (h := (pPip (pT1 w) (pCame w)).2) (Nat.le_refl 144)
  have egr : pGr (pT3 w) c 2 = pGr (pPip (pT1 w) (pCame w)).1 c 2 := hag.gr hk2 hc (by omega)
  rw [egr]
  have ew : pT3 w (192 + c) = if pDug (pPip (pT1 w) (pCame w)).1 c = true then (pPip (pT1 w) (pCame w)).1 (192 + c) else pDoW (pPip (pT1 w) (pCame w)).1 (pPip (pT1 w) (pCame w)).2 c := pDoesI_wat (by omega) (Nat.le_refl _)
  have ei : pT3 w (336 + c) = if pDug (pPip (pT1 w) (pCame w)).1 c = true then (pPip (pT1 w) (pCame w)).1 (336 + c) else pDoI (pPip (pT1 w) (pCame w)).1 (pPip (pT1 w) (pCame w)).2 c := pDoesI_iat (by omega) (Nat.le_refl _)
  rw [ew, ei]
  by_cases hd : pDug (pPip (pT1 w) (pCame w)).1 c = true
  · rw [if_pos hd, if_pos hd]
    exact hw2 c hc
  · rw [if_neg hd, if_neg hd]
    have hx := (hw c hc).1
    have hcb := pCame_b hk hgn hw hc
    have ex : (pPip (pT1 w) (pCame w)).1 (192 + c) = w (192 + c) := by rw [hA _ (by omega) (by omega), w1 _ (by omega) (by omega)]
    have hbd : -390000 ≤ 100 * ((w (192 + c)).toInt + ((pPip (pT1 w) (pCame w)).2 c).toInt) ∧ 100 * ((w (192 + c)).toInt + ((pPip (pT1 w) (pCame w)).2 c).toInt) ≤ 30000 := by
      rcases pPip_heat hp1 h21 (h := pCame w) (pNp (pT1 w)) (Nat.le_refl _) c with ⟨h3, -⟩ | ⟨p, h3, h4, h5⟩
      · have h3' : (pPip (pT1 w) (pCame w)).2 c = pCame w c := h3
        rw [h3']
        omega
      · have h5' : (pPip (pT1 w) (pCame w)).2 c = pCame w c - pTake (pT1 w) p := h5
        have hwb := pWant_b hp1 h21 hw1 h3
        have htb := pTake_b (p := p) hp1.2.2.2 hwb.1
        rw [h4, w1 (192 + c) (by omega) (by omega)] at hwb
        have hs := t_sub (a := pCame w c) (b := pTake (pT1 w) p) (by omega) (by omega)
        rw [h5', hs]
        by_cases h400 : (w (192 + c)).toInt ≤ -400
        · have := hwb.2.1 h400
          omega
        · have := hwb.2.2 (by omega)
          omega
    exact pDo_b hk2 hgn2 hw2 hc (by rw [ex]; exact hbd.1) (by rw [ex]; exact hbd.2)
theorem pTicks_good (hg : pGood w) : pGood (pTicks w) := by
  have h3 := pT3_wrm hg
  have hp := hg.2.1
  have hb := pT3_B hp
  obtain ⟨hh4, en4⟩ := pT4_hok hp hg.2.2.1
  have h6 := hg.2.2.1.2.1
  have e5 : ∀ j, (j < 732 ∨ (j - 732) % 3 ≠ 2 ∨ 750 ≤ j) → j ≠ 1 → pT5 w j = pT3 w j := by
    intro j hj h1
    unfold pT5 pHou pHouI
    rw [en4, if_neg (by omega), upd_ne h1]
  have hG5 : pGood (pT5 w) := by
    refine pGood_of hg (fun j hj => ?_) (fun c hc => ?_)
    · rw [e5 j (by omega) (by omega)]
      exact hb j (by omega) (by omega) (by omega) (by omega) (by omega)
    · have egr : pGr (pT5 w) c 2 = pGr (pT3 w) c 2 := by
        have h9 : pKd (pT3 w) c < 4 := by
          have e : pKd (pT3 w) c = pKd w c := by unfold pKd; rw [hb _ (by omega) (by omega) (by omega) (by omega) (by omega)]
          rw [e]
          exact (pKd_of hg.1 hc).1
        have e : pKd (pT5 w) c = pKd (pT3 w) c := by unfold pKd; rw [e5 _ (by omega) (by omega)]
        unfold pGr
        rw [e, e5 _ (by omega) (by omega)]
      rw [e5 _ (by omega) (by omega), e5 _ (by omega) (by omega), egr]
      exact h3 c hc
  unfold pTicks pFlood
  split
  · refine pGood_of hG5 (fun j hj => ?_) (fun c hc => ?_)
    · rw [upd_ne (by omega), upd_ne (by omega)]
    · have h9 := hG5.2.2.2.2.2 c hc
      rw [pGr_u (by omega), pGr_u (by omega)]
      rw [upd_ne (by omega), upd_ne (by omega), upd_ne (by omega), upd_ne (by omega)]
      exact h9
  · exact hG5
end TB
