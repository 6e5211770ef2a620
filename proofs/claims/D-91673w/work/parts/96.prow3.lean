/-! PURE: the cell beside -/
set_option maxRecDepth 100000
theorem nI_dec {a : Nat} (h : 0 < a) : nI a + (-1) = nI (a - 1) := by
  obtain ⟨b, rfl⟩ : ∃ b, a = b + 1 := ⟨a - 1, by omega⟩
  rw [← Int32.sub_eq_add_neg, nI_pred]
  rfl
section PT3
variable {c : Nat}
theorem pl_eq {x y : Nat} (hx : x < 13) (hy : y < 13) : tw_isPlace (nI x) (nI y) = some (b2i (decide (x ≤ 11 ∧ y ≤ 11))) := by
  rw [tw_isPlace_eq, nI_toInt (by omega), nI_toInt (by omega)]
  congr 2
  by_cases h1 : x ≤ 11
  · by_cases h2 : y ≤ 11
    · have a1 : ((x : Nat) : Int) ≤ 11 := by omega
      have a2 : ((y : Nat) : Int) ≤ 11 := by omega
      simp [h1, h2, a1, a2]
    · have a2 : ¬ ((y : Nat) : Int) ≤ 11 := by omega
      simp [h2, a2]
  · have a1 : ¬ ((x : Nat) : Int) ≤ 11 := by omega
    simp [h1, a1]
theorem pl_neg1 (y : Int32) : tw_isPlace (-1) y = some 0 := by
  rw [tw_isPlace_eq]
  have h : ¬ (0 ≤ (-1 : Int32).toInt ∧ (-1 : Int32).toInt ≤ 11) := by decide
  simp [h, b2i]
theorem pl_neg2 (x : Int32) : tw_isPlace x (-1) = some 0 := by
  rw [tw_isPlace_eq]
  have h : ¬ (0 ≤ (-1 : Int32).toInt ∧ (-1 : Int32).toInt ≤ 11) := by decide
  simp [h, b2i]
theorem lin12 (x y : Nat) : (12 : Int32) * nI y + nI x = nI (12 * y + x) := by rw [show (12 : Int32) = nI 12 from rfl, nI_mul, nI_add]
theorem tw_bes0 (hc : c < 144) : tw_beside (nI c) 0 = some (oI0 (pBes c 0)) := by
  have hr : nI c - nI c / 12 * 12 = nI (c % 12) := nI_rem (b := 12) (by omega) (by omega) (by omega)
  have hd : nI c / 12 = nI (c / 12) := nI_div (b := 12) (by omega) (by omega)
  have e : tw_beside (nI c) 0 = tw_beside_J47 (nI c - nI c / 12 * 12 + 1) (nI c / 12) 0 := rfl
  have e2 : tw_beside_J47 (nI (c % 12) + 1) (nI (c / 12)) 0 = bnd (tw_isPlace (nI (c % 12 + 1)) (nI (c / 12))) (fun x => if x = 0 then some (-1) else some (12 * nI (c / 12) + nI (c % 12 + 1))) := by
    unfold tw_beside_J47 nmI
    rw [show nI (c % 12) + 1 = nI (c % 12 + 1) from nI_1 _, Int32.add_zero]
  rw [e, hr, hd, e2, pl_eq (by omega) (by omega), lin12]
  by_cases h : c % 12 = 11
  · have h2 : ¬ (c % 12 + 1 ≤ 11 ∧ c / 12 ≤ 11) := by omega
    have h3 : pBes c 0 = none := by unfold pBes; rw [if_pos rfl, if_pos h]
    rw [h3, decide_eq_false h2]
    rfl
  · have h2 : c % 12 + 1 ≤ 11 ∧ c / 12 ≤ 11 := by omega
    have h3 : pBes c 0 = some (c + 1) := by unfold pBes; rw [if_pos rfl, if_neg h]
    rw [h3, decide_eq_true h2, show 12 * (c / 12) + (c % 12 + 1) = c + 1 by omega]
    rfl
theorem tw_bes2 (hc : c < 144) : tw_beside (nI c) 2 = some (oI0 (pBes c 2)) := by
  have hr : nI c - nI c / 12 * 12 = nI (c % 12) := nI_rem (b := 12) (by omega) (by omega) (by omega)
  have hd : nI c / 12 = nI (c / 12) := nI_div (b := 12) (by omega) (by omega)
  have e : tw_beside (nI c) 2 = tw_beside_J47 (nI c - nI c / 12 * 12 + 0) (nI c / 12) 1 := rfl
  have e2 : tw_beside_J47 (nI (c % 12) + 0) (nI (c / 12)) 1 = bnd (tw_isPlace (nI (c % 12)) (nI (c / 12 + 1))) (fun x => if x = 0 then some (-1) else some (12 * nI (c / 12 + 1) + nI (c % 12))) := by
    unfold tw_beside_J47 nmI
    rw [show nI (c / 12) + 1 = nI (c / 12 + 1) from nI_1 _, Int32.add_zero]
  rw [e, hr, hd, e2, pl_eq (by omega) (by omega), lin12]
  by_cases h : c / 12 = 11
  · have h2 : ¬ (c % 12 ≤ 11 ∧ c / 12 + 1 ≤ 11) := by omega
    have h3 : pBes c 2 = none := by unfold pBes; rw [if_neg (by decide), if_neg (by decide), if_pos rfl, if_pos h]
    rw [h3, decide_eq_false h2]
    rfl
  · have h2 : c % 12 ≤ 11 ∧ c / 12 + 1 ≤ 11 := by omega
    have h3 : pBes c 2 = some (c + 12) := by unfold pBes; rw [if_neg (by decide), if_neg (by decide), if_pos rfl, if_neg h]
    rw [h3, decide_eq_true h2, show 12 * (c / 12 + 1) + c % 12 = c + 12 by omega]
    rfl
end PT3
