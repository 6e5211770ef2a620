/-! PURE: one more pipe is tried -/
set_option maxRecDepth 100000
/-- a row with one more pipe, like the first -/
def pAdd (w : Nat → Int32) (c : Int32) : Nat → Int32 := fun j => if j = 2 then nI (pNp w + 1) else if 624 + 6 * pNp w ≤ j ∧ j < 624 + 6 * pNp w + 6 then (if j = 624 + 6 * pNp w then c else if j = 624 + 6 * pNp w + 1 then w 625 else if j = 624 + 6 * pNp w + 2 then w 626 else if j = 624 + 6 * pNp w + 3 then 1 else 0) else w j
section AD
variable {w : Nat → Int32} {c : Int32}
theorem pAdd_2 : pAdd w c 2 = nI (pNp w + 1) := if_pos rfl
theorem pAdd_np (h : pNp w < 18) : pNp (pAdd w c) = pNp w + 1 := by unfold pNp; rw [pAdd_2, nI_clamp (by omega)]; rfl
theorem pAdd_j {j : Nat} (h2 : j ≠ 2) (h : j < 624 + 6 * pNp w ∨ 624 + 6 * pNp w + 6 ≤ j) : pAdd w c j = w j := by
  unfold pAdd
  rw [if_neg h2, if_neg (by omega)]
theorem pAdd_k (i : Nat) (hi : i < 6) : pAdd w c (624 + 6 * pNp w + i) = if i = 0 then c else if i = 1 then w 625 else if i = 2 then w 626 else if i = 3 then 1 else 0 := by
  unfold pAdd
  rw [if_neg (by omega), if_pos (by omega)]
  have : i = 0 ∨ i = 1 ∨ i = 2 ∨ i = 3 ∨ i = 4 ∨ i = 5 := by omega
  rcases this with rfl | rfl | rfl | rfl | rfl | rfl <;> simp
/-- it is good if its cell is a new one -/
theorem pAdd_good (h : pGood w) (h18 : pNp w < 18) (h0 : 0 < pNp w) {d : Nat} (hd : d < 144) (hc : c = nI d) (hn : ∀ p, p < pNp w → ¬ w (624 + 6 * p) = c) : pGood (pAdd w c) := by
  obtain ⟨hk, hp, hh, hgn, h2, hw⟩ := h
  have en := pAdd_np (c := c) h18
  have ej : ∀ j, j ≠ 2 → j < 624 + 6 * pNp w ∨ 732 ≤ j → pAdd w c j = w j := fun j a b => pAdd_j a (by omega)
  have k0 : pAdd w c (624 + 6 * pNp w) = c := pAdd_k 0 (by omega)
  have k1 : pAdd w c (624 + 6 * pNp w + 1) = w 625 := pAdd_k 1 (by omega)
  have k2 : pAdd w c (624 + 6 * pNp w + 2) = w 626 := pAdd_k 2 (by omega)
  have k3 : pAdd w c (624 + 6 * pNp w + 3) = 1 := pAdd_k 3 (by omega)
  have ec : ∀ p, p < pNp w → pPc (pAdd w c) p = pPc w p := fun p hp9 => by unfold pPc; rw [ej _ (by omega) (by omega)]
  have ecn : pPc (pAdd w c) (pNp w) = d := by unfold pPc; rw [k0, hc, nI_clamp (by omega)]
  have ne : ∀ p, p < pNp w → pPc w p ≠ d := fun p hp9 e => hn p hp9 (by rw [(hp.2.2.1 p hp9).1, e, hc])
  refine ⟨pKok_of hk (fun j h3 h4 => ej j (by omega) (by omega)), ⟨?_, ?_, fun p hp9 => ?_, ?_⟩, (pHok_of hh (ej 3 (by omega) (by omega)) (fun i hi => ej _ (by omega) (by omega))).1, ⟨fun g hg => ?_, fun y hy => ?_, ?_⟩, ⟨fun p hp9 => ?_, fun p q hp9 hq9 e => ?_⟩, pWrm_w hw hk (fun j ha hb => ej j (by omega) (by omega))⟩
  · rw [en, pAdd_2]
  · omega
  · rw [en] at hp9
    by_cases e : p = pNp w
    · subst e
      rw [ecn, k0]; exact ⟨hc, hd⟩
    · rw [ec p (by omega), ej _ (by omega) (by omega)]
      exact hp.2.2.1 p (by omega)
  · rw [ej 6 (by omega) (by omega)]; exact hp.2.2.2
  · rw [ej _ (by omega) (by omega), ej _ (by omega) (by omega), ej _ (by omega) (by omega), ej _ (by omega) (by omega)]; exact hgn.1 g hg
  · rw [ej _ (by omega) (by omega)]; exact hgn.2.1 y hy
  · rw [ej _ (by omega) (by omega)]; exact hgn.2.2
  · rw [en] at hp9
    by_cases e : p = pNp w
    · subst e
      rw [k1, k2, k3]
      have := h2.1 0 h0
      exact ⟨this.1, this.2.1, Or.inr rfl⟩
    · rw [ej (624 + 6 * p + 1) (by omega) (by omega), ej (624 + 6 * p + 2) (by omega) (by omega), ej (624 + 6 * p + 3) (by omega) (by omega)]
      exact h2.1 p (by omega)
  · rw [en] at hp9 hq9
    by_cases e1 : p = pNp w
    · by_cases e2 : q = pNp w
      · rw [e1, e2]
      · rw [e1, ecn, ec q (by omega)] at e
        exact absurd e.symm (ne q (by omega))
    · by_cases e2 : q = pNp w
      · rw [e2, ecn, ec p (by omega)] at e
        exact absurd e (ne p (by omega))
      · rw [ec p (by omega), ec q (by omega)] at e
        exact h2.2 p q (by omega) (by omega) e
end AD
