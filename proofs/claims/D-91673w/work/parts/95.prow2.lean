/-! PURE: the rim, the shaft -/
set_option maxRecDepth 100000
theorem nI_is {a b : Nat} (ha : a < 2 ^ 31) (hb : b < 2 ^ 31) : (nI a = nI b) = (a = b) := propext (nI_eq ha hb)
section PT2
variable {V : g_V} {c : Nat}
theorem tw_isRim_eq (hc : c < 144) : tw_isRim (nI c) = some (b2i (pRim c)) := by
  unfold tw_isRim
  have hr : nI c - nI c / 12 * 12 = nI (c % 12) := nI_rem (b := 12) (by omega) (by omega) (by omega)
  have hd : nI c / 12 = nI (c / 12) := nI_div (b := 12) (by omega) (by omega)
  have e1 : (nI (c % 12) = 0) = (c % 12 = 0) := nI_is (b := 0) (by omega) (by omega)
  have e2 : (nI (c % 12) = 11) = (c % 12 = 11) := nI_is (b := 11) (by omega) (by omega)
  have e3 : (nI (c / 12) = 0) = (c / 12 = 0) := nI_is (b := 0) (by omega) (by omega)
  have e4 : (nI (c / 12) = 11) = (c / 12 = 11) := nI_is (b := 11) (by omega) (by omega)
  rw [hr, hd]
  simp only [e1, e2, e3, e4]
  unfold pRim b2i
  by_cases h1 : c % 12 = 0
  · simp [h1]
  · by_cases h2 : c % 12 = 11
    · simp [h1, h2]
    · by_cases h3 : c / 12 = 0
      · simp [h1, h2, h3]
      · by_cases h4 : c / 12 = 11
        · simp [h1, h2, h3, h4]
        · simp [h1, h2, h3, h4]
theorem tw_isShaft_eq (hc : c < 144) : tw_isShaft V (nI c) = some (b2i (pShf (V 1) c)) := by
  unfold tw_isShaft
  have hr : nI c - nI c / 12 * 12 = nI (c % 12) := nI_rem (b := 12) (by omega) (by omega) (by omega)
  have hd : nI c / 12 = nI (c / 12) := nI_div (b := 12) (by omega) (by omega)
  have r7 : ∀ {k : Int32 → Option Int32}, rdI (V 1) 810 7 k = k (V 1 7) := fun {k} => rdI_in (j := 7) (by omega) (by omega)
  have r8 : ∀ {k : Int32 → Option Int32}, rdI (V 1) 810 8 k = k (V 1 8) := fun {k} => rdI_in (j := 8) (by omega) (by omega)
  have r9 : ∀ {k : Int32 → Option Int32}, rdI (V 1) 810 9 k = k (V 1 9) := fun {k} => rdI_in (j := 9) (by omega) (by omega)
  have r10 : ∀ {k : Int32 → Option Int32}, rdI (V 1) 810 10 k = k (V 1 10) := fun {k} => rdI_in (j := 10) (by omega) (by omega)
  have r11 : ∀ {k : Int32 → Option Int32}, rdI (V 1) 810 11 k = k (V 1 11) := fun {k} => rdI_in (j := 11) (by omega) (by omega)
  rw [hr, hd, r7]
  simp only [r8, r9, r10, r11, tw_inI, bnd, Int32.toInt_toInt64]
  rw [nI_toInt (by omega), nI_toInt (by omega)]
  unfold pShf pHas b2i
  by_cases h1 : V 1 7 = 1
  · by_cases h2 : (V 1 8).toInt ≤ ((c % 12 : Nat) : Int) ∧ ((c % 12 : Nat) : Int) ≤ (V 1 10).toInt
    · by_cases h3 : (V 1 9).toInt ≤ ((c / 12 : Nat) : Int) ∧ ((c / 12 : Nat) : Int) ≤ (V 1 11).toInt
      · simp only [h1, h2, h3]; simp
      · simp only [h1, h2, h3]; simp
    · simp only [h1, h2]; simp
  · simp [h1]
end PT2
