/-! PURE: bounds of a row: nothing goes beyond its range -/
set_option maxRecDepth 100000
section IB
variable {a b : Int32}
theorem t_add (h1 : -2147483648 ≤ a.toInt + b.toInt) (h2 : a.toInt + b.toInt ≤ 2147483647) : (a + b).toInt = a.toInt + b.toInt := by
  rw [Int32.toInt_add]
  exact Int.bmod_eq_of_le (by omega) (by omega)
theorem t_sub (h1 : -2147483648 ≤ a.toInt - b.toInt) (h2 : a.toInt - b.toInt ≤ 2147483647) : (a - b).toInt = a.toInt - b.toInt := by
  rw [Int32.toInt_sub]
  exact Int.bmod_eq_of_le (by omega) (by omega)
theorem t_mul (h1 : -2147483648 ≤ a.toInt * b.toInt) (h2 : a.toInt * b.toInt ≤ 2147483647) : (a * b).toInt = a.toInt * b.toInt := by
  rw [Int32.toInt_mul]
  exact Int.bmod_eq_of_le (by omega) (by omega)
theorem t_neg (h1 : -2147483647 ≤ a.toInt) : (-a).toInt = -a.toInt := by
  rw [Int32.toInt_neg]
  have := a.toInt_lt
  exact Int.bmod_eq_of_le (by omega) (by omega)
theorem t_min : (iMin a b).toInt = if b.toInt < a.toInt then b.toInt else a.toInt := by
  unfold iMin
  by_cases h : b < a
  · rw [if_pos h, if_pos (Int32.lt_iff_toInt_lt.mp h)]
  · rw [if_neg h, if_neg (fun q => h (Int32.lt_iff_toInt_lt.mpr q))]
theorem t_max0 : (iMax0 a).toInt = if 0 < a.toInt then a.toInt else 0 := by
  unfold iMax0
  have h0 : (0 : Int32).toInt = 0 := rfl
  by_cases h : 0 < a
  · rw [if_pos h, if_pos (by have := Int32.lt_iff_toInt_lt.mp h; omega)]
  · rw [if_neg h, if_neg (fun q => h (Int32.lt_iff_toInt_lt.mpr (by omega)))]
    rfl
theorem t_div100 (h : -2147483648 < a.toInt) : (a / 100).toInt = a.toInt.tdiv 100 := by
  rw [Int32.toInt_div]
  have h100 : (100 : Int32).toInt = 100 := rfl
  rw [h100]
  have h1 := a.toInt_lt
  have h2 : -2147483648 < a.toInt.tdiv 100 ∧ a.toInt.tdiv 100 < 2147483648 := by
    by_cases hp : 0 ≤ a.toInt
    · rw [Int.tdiv_eq_ediv_of_nonneg hp]; omega
    · have e : a.toInt.tdiv 100 = -((-a.toInt).tdiv 100) := by rw [Int.neg_tdiv]; omega
      rw [e, Int.tdiv_eq_ediv_of_nonneg (by omega)]; omega
  exact Int.bmod_eq_of_le (by omega) (by omega)
theorem td100 (p : Int) : (0 ≤ p → 0 ≤ 100 * p.tdiv 100 ∧ 100 * p.tdiv 100 ≤ p) ∧ (p ≤ 0 → p ≤ 100 * p.tdiv 100 ∧ 100 * p.tdiv 100 ≤ 0) := by
  refine ⟨fun h => ?_, fun h => ?_⟩
  · rw [Int.tdiv_eq_ediv_of_nonneg h]; omega
  · have e : p.tdiv 100 = -((-p).tdiv 100) := by rw [Int.neg_tdiv]; omega
    rw [e, Int.tdiv_eq_ediv_of_nonneg (by omega)]; omega
/-- a share of a difference lies within the share of its bounds -/
theorem q_bound {lo hi K : Int} (h1 : lo ≤ a.toInt) (h2 : a.toInt ≤ hi) (hl : lo ≤ 0) (hh : 0 ≤ hi) (hlo : -10000 ≤ lo) (hhi : hi ≤ 10000) (hb0 : 0 ≤ b.toInt) (hbK : b.toInt ≤ K) (hK : K ≤ 100) : K * lo ≤ 100 * (a * b / 100).toInt ∧ 100 * (a * b / 100).toInt ≤ K * hi ∧ (0 ≤ a.toInt → 0 ≤ (a * b / 100).toInt ∧ 100 * (a * b / 100).toInt ≤ K * a.toInt) := by
  have m1 : K * lo ≤ a.toInt * b.toInt ∧ a.toInt * b.toInt ≤ K * hi ∧ (0 ≤ a.toInt → 0 ≤ a.toInt * b.toInt ∧ a.toInt * b.toInt ≤ K * a.toInt) := by
    have p1 : K * lo ≤ b.toInt * lo := Int.mul_le_mul_of_nonpos_right hbK hl
    have p2 : b.toInt * hi ≤ K * hi := Int.mul_le_mul_of_nonneg_right hbK hh
    have p3 : b.toInt * lo ≤ b.toInt * a.toInt := Int.mul_le_mul_of_nonneg_left h1 hb0
    have p4 : b.toInt * a.toInt ≤ b.toInt * hi := Int.mul_le_mul_of_nonneg_left h2 hb0
    have e : a.toInt * b.toInt = b.toInt * a.toInt := Int.mul_comm _ _
    rw [e]
    refine ⟨by omega, by omega, fun h0 => ⟨Int.mul_nonneg hb0 h0, Int.mul_le_mul_of_nonneg_right hbK h0⟩⟩
  have p5 : -1000000 ≤ K * lo := by
    have : 100 * lo ≤ K * lo := Int.mul_le_mul_of_nonpos_right hK hl
    omega
  have p6 : K * hi ≤ 1000000 := by
    have : K * hi ≤ 100 * hi := Int.mul_le_mul_of_nonneg_right hK hh
    omega
  obtain ⟨m2, m3, m4⟩ := m1
  have e1 := t_mul (a := a) (b := b) (by omega) (by omega)
  have e2 := t_div100 (a := a * b) (by omega)
  rw [e2, e1]
  obtain ⟨d1, d2⟩ := td100 (a.toInt * b.toInt)
  have k1 : K * lo ≤ 0 := by
    have : K * lo ≤ 0 * lo := Int.mul_le_mul_of_nonpos_right (by omega) hl
    omega
  have k2 : 0 ≤ K * hi := Int.mul_nonneg (by omega) hh
  refine ⟨?_, ?_, fun h0 => ?_⟩
  · by_cases hp : 0 ≤ a.toInt * b.toInt
    · have := d1 hp; omega
    · have := d2 (by omega); omega
  · by_cases hp : 0 ≤ a.toInt * b.toInt
    · have := d1 hp; omega
    · have := d2 (by omega); omega
  · have m5 := m4 h0
    have := d1 m5.1
    omega
end IB
/-- a row's numbers are in their ranges -/
def pGnd (w : Nat → Int32) : Prop := (∀ g, g < 4 → (0 ≤ (w (20 + 4 * g)).toInt ∧ (w (20 + 4 * g)).toInt ≤ 15) ∧ (0 ≤ (w (20 + 4 * g + 1)).toInt ∧ (w (20 + 4 * g + 1)).toInt ≤ 15) ∧ (1 ≤ (w (20 + 4 * g + 2)).toInt ∧ (w (20 + 4 * g + 2)).toInt ≤ 999) ∧ (-30 ≤ (w (20 + 4 * g + 3)).toInt ∧ (w (20 + 4 * g + 3)).toInt ≤ 0)) ∧ (∀ y, y < 12 → 0 ≤ (w (36 + y)).toInt ∧ (w (36 + y)).toInt ≤ 30) ∧ 1 ≤ (w 5).toInt ∧ (w 5).toInt ≤ 300
def pPip2 (w : Nat → Int32) : Prop := (∀ p, p < pNp w → (-400 ≤ (w (624 + 6 * p + 1)).toInt ∧ (w (624 + 6 * p + 1)).toInt ≤ 0) ∧ (0 ≤ (w (624 + 6 * p + 2)).toInt ∧ (w (624 + 6 * p + 2)).toInt ≤ 60) ∧ (w (624 + 6 * p + 3) = 0 ∨ w (624 + 6 * p + 3) = 1)) ∧ ∀ p q, p < pNp w → q < pNp w → pPc w p = pPc w q → p = q
def pWrm (w : Nat → Int32) : Prop := ∀ c, c < 144 → (-3900 ≤ (w (192 + c)).toInt ∧ (w (192 + c)).toInt ≤ 300) ∧ 0 ≤ (w (336 + c)).toInt ∧ (w (336 + c)).toInt ≤ (pGr w c 2).toInt
def pGood (w : Nat → Int32) : Prop := pKok w ∧ pPok w ∧ pHok w ∧ pGnd w ∧ pPip2 w ∧ pWrm w
theorem pGood.bnd {w : Nat → Int32} (h : pGood w) : pBnd w := ⟨fun c hc => (h.2.2.2.2.2 c hc).1, fun p hp => ⟨(h.2.2.2.2.1.1 p hp).1, (h.2.2.2.2.1.1 p hp).2.2⟩⟩
section GB
variable {w : Nat → Int32} {c : Nat}
theorem pGr_b (hk : pKok w) (hg : pGnd w) (hc : c < 144) : (0 ≤ (pGr w c 0).toInt ∧ (pGr w c 0).toInt ≤ 15) ∧ (0 ≤ (pGr w c 1).toInt ∧ (pGr w c 1).toInt ≤ 15) ∧ (1 ≤ (pGr w c 2).toInt ∧ (pGr w c 2).toInt ≤ 999) ∧ (-30 ≤ (pGr w c 3).toInt ∧ (pGr w c 3).toInt ≤ 0) := by
  have := hg.1 _ (pKd_of hk hc).1
  unfold pGr
  rw [Nat.add_zero]
  exact this
theorem pLead_b (hk : pKok w) (hg : pGnd w) (hc : c < 144) : 0 ≤ (pLead w c).toInt ∧ (pLead w c).toInt ≤ 15 := by
  obtain ⟨h0, h1, -⟩ := pGr_b hk hg hc
  unfold pLead
  split
  · exact h1
  · exact h0
theorem qIn_b {k : Nat} (hk : pKok w) (hg : pGnd w) (hw : pWrm w) (hc : c < 144) : 15 * (-3900 - (w (192 + c)).toInt) ≤ 100 * (qIn w c k).toInt ∧ 100 * (qIn w c k).toInt ≤ 15 * (300 - (w (192 + c)).toInt) := by
  have hl := pLead_b hk hg hc
  have hx := (hw c hc).1
  unfold qIn
  cases hb : pBes c k with
  | none =>
    have h5 := hg.2.2
    have hs := t_sub (a := w 5) (b := w (192 + c)) (by omega) (by omega)
    have := q_bound (a := w 5 - w (192 + c)) (b := pLead w c) (lo := -3900 - (w (192 + c)).toInt) (hi := 300 - (w (192 + c)).toInt) (K := 15) (by omega) (by omega) (by omega) (by omega) (by omega) (by omega) hl.1 hl.2 (by omega)
    exact ⟨this.1, this.2.1⟩
  | some d =>
    have hd := pBes_lt hc hb
    have hy := (hw d hd).1
    have hl2 := pLead_b hk hg hd
    simp only
    split
    · have h0 : (0 : Int32).toInt = 0 := rfl
      rw [h0]; omega
    · have hs := t_sub (a := w (192 + d)) (b := w (192 + c)) (by omega) (by omega)
      have hm := t_min (a := pLead w c) (b := pLead w d)
      have := q_bound (a := w (192 + d) - w (192 + c)) (b := iMin (pLead w c) (pLead w d)) (lo := -3900 - (w (192 + c)).toInt) (hi := 300 - (w (192 + c)).toInt) (K := 15) (by omega) (by omega) (by omega) (by omega) (by omega) (by omega) (by rw [hm]; split <;> omega) (by rw [hm]; split <;> omega) (by omega)
      exact ⟨this.1, this.2.1⟩
theorem pStr_b (hk : pKok w) (hg : pGnd w) (hw : pWrm w) (hc : c < 144) : 30 * (-3900 - (w (192 + c)).toInt) ≤ 100 * (pStr w c).toInt ∧ 100 * (pStr w c).toInt ≤ 30 * (300 - (w (192 + c)).toInt) := by
  have hx := (hw c hc).1
  have hy := hg.2.1 (c / 12) (by omega)
  have h0 : (0 : Int32).toInt = 0 := rfl
  unfold pStr
  split
  · rw [h0]; omega
  · cases hb : pBes c 1 with
    | none =>
      have h5 := hg.2.2
      have hs := t_sub (a := w 5) (b := w (192 + c)) (by omega) (by omega)
      have := q_bound (a := w 5 - w (192 + c)) (b := w (36 + c / 12)) (lo := -3900 - (w (192 + c)).toInt) (hi := 300 - (w (192 + c)).toInt) (K := 30) (by omega) (by omega) (by omega) (by omega) (by omega) (by omega) hy.1 hy.2 (by omega)
      exact ⟨this.1, this.2.1⟩
    | some d =>
      have hd := pBes_lt hc hb
      have hyd := (hw d hd).1
      simp only
      split
      · rw [h0]; omega
      · have hs := t_sub (a := w (192 + d)) (b := w (192 + c)) (by omega) (by omega)
        have := q_bound (a := w (192 + d) - w (192 + c)) (b := w (36 + c / 12)) (lo := -3900 - (w (192 + c)).toInt) (hi := 300 - (w (192 + c)).toInt) (K := 30) (by omega) (by omega) (by omega) (by omega) (by omega) (by omega) hy.1 hy.2 (by omega)
        exact ⟨this.1, this.2.1⟩
theorem pCame_b (hk : pKok w) (hg : pGnd w) (hw : pWrm w) (hc : c < 144) : 90 * (-3900 - (w (192 + c)).toInt) ≤ 100 * (pCame w c).toInt ∧ 100 * (pCame w c).toInt ≤ 90 * (300 - (w (192 + c)).toInt) := by
  have hx := (hw c hc).1
  have h0 : (0 : Int32).toInt = 0 := rfl
  have q0 := qIn_b (k := 0) hk hg hw hc
  have q1 := qIn_b (k := 1) hk hg hw hc
  have q2 := qIn_b (k := 2) hk hg hw hc
  have q3 := qIn_b (k := 3) hk hg hw hc
  have s := pStr_b hk hg hw hc
  unfold pCame
  split
  · rw [h0]; omega
  · unfold sIn
    have a1 := t_add (a := qIn w c 0) (b := qIn w c 1) (by omega) (by omega)
    have a2 := t_add (a := qIn w c 0 + qIn w c 1) (b := qIn w c 2) (by omega) (by omega)
    have a3 := t_add (a := qIn w c 0 + qIn w c 1 + qIn w c 2) (b := qIn w c 3) (by omega) (by omega)
    have a4 := t_add (a := qIn w c 0 + qIn w c 1 + qIn w c 2 + qIn w c 3) (b := pStr w c) (by omega) (by omega)
    omega
/-- what a pipe would take -/
theorem pWant_b {p : Nat} (hp : pPok w) (h2 : pPip2 w) (hw : pWrm w) (hpn : p < pNp w) : 0 ≤ (pWant w p).toInt ∧ ((w (192 + pPc w p)).toInt ≤ -400 → (pWant w p).toInt = 0) ∧ (-400 ≤ (w (192 + pPc w p)).toInt → 100 * (pWant w p).toInt ≤ 60 * ((w (192 + pPc w p)).toInt + 400)) := by
  have hc := (hp.2.2.1 p hpn).2
  have hx := (hw _ hc).1
  obtain ⟨b1, b2, b3⟩ := h2.1 p hpn
  have h0 : (0 : Int32).toInt = 0 := rfl
  unfold pWant
  split
  · rename_i h
    have hgt : (w (624 + 6 * p + 1)).toInt < (w (192 + pPc w p)).toInt := by
      have := h.2.2
      rw [Int32.le_iff_toInt_le] at this
      omega
    have hs := t_sub (a := w (192 + pPc w p)) (b := w (624 + 6 * p + 1)) (by omega) (by omega)
    have := q_bound (a := w (192 + pPc w p) - w (624 + 6 * p + 1)) (b := w (624 + 6 * p + 2)) (lo := 0) (hi := (w (192 + pPc w p)).toInt - (w (624 + 6 * p + 1)).toInt) (K := 60) (by omega) (by omega) (by omega) (by omega) (by omega) (by omega) b2.1 b2.2 (by omega)
    have h3 := this.2.2 (by omega)
    refine ⟨h3.1, fun h4 => by omega, fun h4 => by omega⟩
  · rw [h0]; exact ⟨by omega, fun _ => rfl, fun h => by omega⟩
end GB
