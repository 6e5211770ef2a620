/-! PURE: all cells do, houses -/
set_option maxRecDepth 100000
/-- alike but for warmth and ice -/
def agF (w w' : Nat → Int32) : Prop := ∀ j, j < 192 ∨ 480 ≤ j → w' j = w j
section AG
variable {w w' h : Nat → Int32} {c k n : Nat}
theorem agF.dug (ha : agF w w') : pDug w' c = pDug w c := by unfold pDug; rw [ha _ (by omega)]
theorem agF.kd (ha : agF w w') (hc : c < 144) : pKd w' c = pKd w c := by unfold pKd; rw [ha _ (by omega)]
theorem agF.gr (ha : agF w w') (hk : pKok w) (hc : c < 144) (h4 : k < 4) : pGr w' c k = pGr w c k := by
  have := (pKd_of hk hc).1
  unfold pGr; rw [ha.kd hc, ha _ (by omega)]
theorem agF.kok (ha : agF w w') (hk : pKok w) : pKok w' := by
  intro c hc
  rw [ha _ (by omega)]
  exact hk c hc
theorem pDoesI_ag (hn : n ≤ 144) : agF w (pDoesI w h n) := by
  intro j hj
  unfold pDoesI
  rw [if_neg (by omega), if_neg (by omega)]
theorem pDoesI_0 : pDoesI w h 0 = w := by
  funext j
  unfold pDoesI
  rw [if_neg (by omega), if_neg (by omega)]
theorem pDoesI_w (hc : n ≤ c) (hn : c < 144) : pDoesI w h n (192 + c) = w (192 + c) := by
  unfold pDoesI
  rw [if_neg (by omega), if_neg (by omega)]
theorem pDoesI_i (hc : n ≤ c) (hn : c < 144) : pDoesI w h n (336 + c) = w (336 + c) := by
  unfold pDoesI
  rw [if_neg (by omega), if_neg (by omega)]
theorem pDoI_at (hk : pKok w) (hn : n < 144) : pDoI (pDoesI w h n) h n = pDoI w h n := by
  have ha : agF w (pDoesI w h n) := pDoesI_ag (by omega)
  unfold pDoI
  rw [ha.gr hk hn (by omega), ha.gr hk hn (by omega), pDoesI_w (by omega) hn, pDoesI_i (by omega) hn]
theorem pDoW_at (hk : pKok w) (hn : n < 144) : pDoW (pDoesI w h n) h n = pDoW w h n := by
  have ha : agF w (pDoesI w h n) := pDoesI_ag (by omega)
  unfold pDoW
  rw [ha.gr hk hn (by omega), ha.gr hk hn (by omega), pDoesI_w (by omega) hn, pDoesI_i (by omega) hn]
theorem pDoesI_s (hn : n < 144) (hd : pDug w n = false) : upd (upd (pDoesI w h n) (336 + n) (pDoI w h n)) (192 + n) (pDoW w h n) = pDoesI w h (n + 1) := by
  funext j
  by_cases h1 : j = 192 + n
  · subst h1
    rw [upd_eq]
    unfold pDoesI
    rw [if_pos (by omega), show 192 + n - 192 = n by omega, hd]
    simp
  · rw [upd_ne h1]
    by_cases h2 : j = 336 + n
    · subst h2
      rw [upd_eq]
      unfold pDoesI
      rw [if_neg (by omega), if_pos (by omega), show 336 + n - 336 = n by omega, hd]
      simp
    · rw [upd_ne h2]
      unfold pDoesI
      have e1 : (192 ≤ j ∧ j < 192 + (n + 1)) = (192 ≤ j ∧ j < 192 + n) := propext (by omega)
      have e2 : (336 ≤ j ∧ j < 336 + (n + 1)) = (336 ≤ j ∧ j < 336 + n) := propext (by omega)
      simp only [e1, e2]
theorem pDoesI_d (hn : n < 144) (hd : pDug w n = true) : pDoesI w h n = pDoesI w h (n + 1) := by
  funext j
  unfold pDoesI
  by_cases h1 : j = 192 + n
  · subst h1
    rw [if_neg (by omega), if_neg (by omega), if_pos (by omega), show 192 + n - 192 = n by omega, hd]
    simp
  · by_cases h2 : j = 336 + n
    · subst h2
      rw [if_neg (by omega), if_neg (by omega), if_neg (by omega), if_pos (by omega), show 336 + n - 336 = n by omega, hd]
      simp
    · have e1 : (192 ≤ j ∧ j < 192 + (n + 1)) = (192 ≤ j ∧ j < 192 + n) := propext (by omega)
      have e2 : (336 ≤ j ∧ j < 336 + (n + 1)) = (336 ≤ j ∧ j < 336 + n) := propext (by omega)
      simp only [e1, e2]
end AG
def pDoes (w h : Nat → Int32) : Nat → Int32 := pDoesI w h 144
section TD
variable {V : g_V}
theorem tw_ticks_does (hk : pKok (V 1)) : tw_ticks_L64 1000 0 V = some (rowV V 1 (pDoes (V 1) (V 24))) := by
  have h := lp_run (F := tw_ticks_F64) (N := 144) (st := fun i => (nI i, rowV V 1 (pDoesI (V 1) (V 24) i))) (out := rowV V 1 (pDoes (V 1) (V 24))) ?_ ?_ 1000 0 (by omega) (by omega)
  · simp only [nI_0, pDoesI_0, rowV_self] at h
    exact h
  · intro rec i hi
    have ha : agF (V 1) (pDoesI (V 1) (V 24) i) := pDoesI_ag (by omega)
    have hd : tw_isDug (rowV V 1 (pDoesI (V 1) (V 24) i)) (nI i) = some (b2i (pDug (V 1) i)) := by rw [tw_isDug_eq hi, rowV_eq, ha.dug]
    have hdo := tw_does_eq (V := rowV V 1 (pDoesI (V 1) (V 24) i)) (c := i) (by rw [rowV_eq]; exact ha.kok hk) hi
    rw [rowV_eq, rowV_over, rowV_ne (show 24 ≠ 1 by omega), pDoI_at hk hi, pDoW_at hk hi] at hdo
    unfold tw_ticks_F64
    simp (disch := omega) only [tw_ticks_B64, L_add, L_addR, L_mul, L_mulR, L_div, N_div, N_rem, L_sub, L_subN, nI_add, nI_mul, L_le, L_leR, L_lt, L_ltR, L_eq, N_leT, N_leF, N_ltT, N_ltF, N_eqT, N_eqF, N_m1, bnd_S, un2_S, un3_S, nmI_S, nmL_S, ptI_S, cs2_L, cs2_R, okI_b, okI_1, okI_0, rdI_in, wrI_in, rdI_L, wrI_L, rdL_in, wrL_in, if_true, if_false, hd, b2iF, hdo]
    cases hdd : pDug (V 1) i
    · simp only [if_true, pDoesI_s hi hdd]
    · simp only [Bool.true_eq_false, if_false, ← pDoesI_d hi hdd]
  · intro rec
    unfold tw_ticks_F64
    simp (disch := omega) only [tw_ticks_B64, L_add, L_addR, L_mul, L_mulR, L_div, N_div, N_rem, L_sub, L_subN, nI_add, nI_mul, L_le, L_leR, L_lt, L_ltR, L_eq, N_leT, N_leF, N_ltT, N_ltF, N_eqT, N_eqF, N_m1, bnd_S, un2_S, un3_S, nmI_S, nmL_S, ptI_S, cs2_L, cs2_R, okI_b, okI_1, okI_0, rdI_in, wrI_in, rdI_L, wrI_L, rdL_in, wrL_in, if_true, if_false]
    rfl
end TD
/-! houses -/
def iAbs (x : Int32) : Int32 := if 0 ≤ x then x else 0 - x
def pNh (w : Nat → Int32) : Nat := (w 3).toNatClampNeg
def pHx (w : Nat → Int32) (h : Nat) : Nat := (w (732 + 3 * h)).toNatClampNeg
def pHok (w : Nat → Int32) : Prop := w 3 = nI (pNh w) ∧ pNh w ≤ 6 ∧ ∀ h, h < pNh w → w (732 + 3 * h) = nI (pHx w h) ∧ pHx w h < 11
def pCrk (w : Nat → Int32) (h : Nat) : Int32 := if w (732 + 3 * h + 2) = -1 ∧ ¬ iAbs (pLift w (pHx w h) - pLift w (pHx w h + 1)) ≤ w (732 + 3 * h + 1) then w 1 else w (732 + 3 * h + 2)
def pHouI (w : Nat → Int32) (n : Nat) : Nat → Int32 := fun j => if 732 ≤ j ∧ j < 732 + 3 * n ∧ (j - 732) % 3 = 2 then pCrk w ((j - 732) / 3) else w j
def pHou (w : Nat → Int32) : Nat → Int32 := pHouI w (pNh w)
section HO
variable {w : Nat → Int32} {n : Nat}
theorem pHouI_0 : pHouI w 0 = w := by
  funext j
  unfold pHouI
  rw [if_neg (by omega)]
theorem pHouI_lt {j : Nat} (h : j < 732) : pHouI w n j = w j := by unfold pHouI; rw [if_neg (by omega)]
theorem pHouI_at {h : Nat} (hn : n ≤ h) (k : Nat) (hk : k < 3) : pHouI w n (732 + 3 * h + k) = w (732 + 3 * h + k) := by unfold pHouI; rw [if_neg (by omega)]
theorem pHouI_s {x : Int32} (hx : x = pCrk w n) : upd (pHouI w n) (732 + 3 * n + 2) x = pHouI w (n + 1) := by
  funext j
  by_cases h1 : j = 732 + 3 * n + 2
  · subst h1
    rw [upd_eq]
    unfold pHouI
    rw [if_pos (by omega), hx]
    congr 1
    omega
  · rw [upd_ne h1]
    unfold pHouI
    by_cases h2 : 732 ≤ j ∧ j < 732 + 3 * n ∧ (j - 732) % 3 = 2
    · rw [if_pos h2, if_pos (by omega)]
    · rw [if_neg h2, if_neg (by omega)]
theorem pLift_lt {w' : Nat → Int32} {x : Nat} (ha : ∀ j, j < 624 → w' j = w j) (hx : x < 12) : pLift w' x = pLift w x := by
  unfold pLift
  apply itr_congr
  intro y a hy
  unfold pDug
  rw [ha _ (by omega), ha _ (by omega)]
theorem tw_ticks_hou {V : g_V} (hh : pHok (V 1)) : tw_ticks_L102 1000 0 V = some (rowV V 1 (pHou (V 1))) := by
  obtain ⟨hn, h6, hx⟩ := hh
  have h := lp_run (F := tw_ticks_F102) (N := pNh (V 1)) (st := fun i => (nI i, rowV V 1 (pHouI (V 1) i))) (out := rowV V 1 (pHou (V 1))) ?_ ?_ 1000 0 (by omega) (by omega)
  · simp only [nI_0, pHouI_0, rowV_self] at h
    exact h
  · intro rec i hi
    obtain ⟨hx1, hx2⟩ := hx i hi
    have a0 := pHouI_at (w := V 1) (n := i) (h := i) (by omega) 0 (by omega)
    have a1 := pHouI_at (w := V 1) (n := i) (h := i) (by omega) 1 (by omega)
    have a2 := pHouI_at (w := V 1) (n := i) (h := i) (by omega) 2 (by omega)
    simp only [Nat.add_zero] at a0
    have l1 : ∀ x, x < 12 → tw_liftOf (rowV V 1 (pHouI (V 1) i)) (nI x) = some (pLift (V 1) x) := by
      intro x hx
      rw [tw_liftOf_eq hx, rowV_eq, pLift_lt (fun j hj => pHouI_lt (by omega)) hx]
    unfold tw_ticks_F102
    simp (disch := omega) only [tw_ticks_B102, L_add, L_addR, L_mul, L_mulR, L_div, N_div, N_rem, L_sub, L_subN, nI_add, nI_mul, L_le, L_leR, L_lt, L_ltR, L_eq, N_leT, N_leF, N_ltT, N_ltF, N_eqT, N_eqF, N_m1, bnd_S, un2_S, un3_S, nmI_S, nmL_S, ptI_S, cs2_L, cs2_R, okI_b, okI_1, okI_0, rdI_in, wrI_in, rdI_L, wrI_L, rdL_in, wrL_in, if_true, if_false, rowV_eq, pHouI_lt, hn, a0, a1, a2, hx1, l1]
    have key : ∀ x, x = pCrk (V 1) i → rec (nI (i + 1), upd2 (rowV V 1 (pHouI (V 1) i)) 1 (732 + 3 * i + 2) x) = rec (nI (i + 1), rowV V 1 (pHouI (V 1) (i + 1))) := by
      intro x hx
      rw [upd2_row, rowV_over, rowV_eq, pHouI_s hx]
    have key0 : V 1 (732 + 3 * i + 2) = pCrk (V 1) i → rec (nI (i + 1), rowV V 1 (pHouI (V 1) i)) = rec (nI (i + 1), rowV V 1 (pHouI (V 1) (i + 1))) := by
      intro hx
      rw [← key _ hx, ← a2, upd2_row, rowV_over, rowV_eq, upd_self]
    by_cases h1 : V 1 (732 + 3 * i + 2) = -1
    · simp only [h1, if_true]
      by_cases h2 : iAbs (pLift (V 1) (pHx (V 1) i) - pLift (V 1) (pHx (V 1) i + 1)) ≤ V 1 (732 + 3 * i + 1)
      · have h3 := h2
        unfold iAbs at h3
        simp only [h3, if_true]
        exact key0 (by unfold pCrk; rw [if_neg (fun q => q.2 h2)])
      · have h3 := h2
        unfold iAbs at h3
        simp only [h3, if_false]
        exact key _ (by unfold pCrk; rw [if_pos ⟨h1, h2⟩])
    · simp only [h1, if_false]
      exact key0 (by unfold pCrk; rw [if_neg (fun q => h1 q.1)])
  · intro rec
    unfold tw_ticks_F102
    simp (disch := omega) only [tw_ticks_B102, L_add, L_addR, L_mul, L_mulR, L_div, N_div, N_rem, L_sub, L_subN, nI_add, nI_mul, L_le, L_leR, L_lt, L_ltR, L_eq, N_leT, N_leF, N_ltT, N_ltF, N_eqT, N_eqF, N_m1, bnd_S, un2_S, un3_S, nmI_S, nmL_S, ptI_S, cs2_L, cs2_R, okI_b, okI_1, okI_0, rdI_in, wrI_in, rdI_L, wrI_L, rdL_in, wrL_in, if_true, if_false, rowV_eq, pHouI_lt, hn]
    rfl
end HO
