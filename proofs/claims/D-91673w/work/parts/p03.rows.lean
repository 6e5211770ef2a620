/-! PURE: states by their rows -/
set_option maxRecDepth 100000
theorem upd2_row (V : g_V) (k i : Nat) (x : Int32) : upd2 V k i x = rowV V k (upd (V k) i x) := rfl
theorem rowV_eq (V : g_V) (k : Nat) (f : Nat → Int32) : rowV V k f k = f := if_pos rfl
theorem rowV_ne {V : g_V} {k j : Nat} {f : Nat → Int32} (h : j ≠ k) : rowV V k f j = V j := if_neg h
theorem rowV_over (V : g_V) (k : Nat) (f g : Nat → Int32) : rowV (rowV V k f) k g = rowV V k g := by
  funext j
  unfold rowV
  by_cases h : j = k <;> simp [h]
theorem rowV_swap {V : g_V} {k j : Nat} {f g : Nat → Int32} (h : k < j) : rowV (rowV V j f) k g = rowV (rowV V (0 + k) g) j f := by
  rw [Nat.zero_add]
  funext i
  unfold rowV
  by_cases h1 : i = k
  · have : i ≠ j := by omega
    simp [h1, this]
    intro z; omega
  · by_cases h2 : i = j
    · subst h2; simp [h1]
    · simp [h1, h2]
theorem rowV_self (V : g_V) (k : Nat) : rowV V k (V k) = V := by
  funext i
  unfold rowV
  by_cases h : i = k <;> simp [h]
theorem upd_eq (f : Nat → Int32) (i : Nat) (x : Int32) : upd f i x i = x := if_pos rfl
theorem upd_ne {f : Nat → Int32} {i j : Nat} {x : Int32} (h : j ≠ i) : upd f i x j = f j := if_neg h
theorem upd_over (f : Nat → Int32) (i : Nat) (x y : Int32) : upd (upd f i x) i y = upd f i y := by
  funext j
  unfold upd
  by_cases h : j = i <;> simp [h]
theorem upd_swap {f : Nat → Int32} {i j : Nat} {x y : Int32} (h : i < j) : upd (upd f j x) i y = upd (upd f (0 + i) y) j x := by
  rw [Nat.zero_add]
  funext k
  unfold upd
  by_cases h1 : k = i
  · have : k ≠ j := by omega
    simp [h1, this]
    intro z; omega
  · by_cases h2 : k = j
    · subst h2; simp [h1]
    · simp [h1, h2]
theorem upd_self (f : Nat → Int32) (i : Nat) : upd f i (f i) = f := by
  funext j
  unfold upd
  by_cases h : j = i <;> simp [h]
/-! what comes to a cell -/
def pLead (w : Nat → Int32) (c : Nat) : Int32 := pGr w c (if pFro w c = true then 1 else 0)
def iMin (a b : Int32) : Int32 := if b < a then b else a
def iMax0 (a : Int32) : Int32 := if 0 < a then a else 0
def qOut (w : Nat → Int32) (c : Nat) : Int32 := (w 5 - w (192 + c)) * pLead w c / 100
def qIn (w : Nat → Int32) (c k : Nat) : Int32 := match pBes c k with
  | none => qOut w c
  | some d => if pDug w d = true then 0 else (w (192 + d) - w (192 + c)) * iMin (pLead w c) (pLead w d) / 100
def qRim (w : Nat → Int32) (c k : Nat) : Int32 := match pBes c k with
  | none => qOut w c
  | some _ => 0
def sIn (w : Nat → Int32) (c : Nat) : Int32 := qIn w c 0 + qIn w c 1 + qIn w c 2 + qIn w c 3
def sRim (w : Nat → Int32) (c : Nat) : Int32 := qRim w c 0 + qRim w c 1 + qRim w c 2 + qRim w c 3
def pStr (w : Nat → Int32) (c : Nat) : Int32 := if w (36 + c / 12) = 0 ∨ pFro w c = true then 0 else match pBes c 1 with
  | none => (w 5 - w (192 + c)) * w (36 + c / 12) / 100
  | some d => if pFro w d = true ∨ pDug w d = true then 0 else (w (192 + d) - w (192 + c)) * w (36 + c / 12) / 100
section UP
variable {w : Nat → Int32} {j c k : Nat} {x : Int32}
theorem pDug_u (h : j < 20) : pDug (upd w j x) c = pDug w c := by unfold pDug; rw [upd_ne (by omega)]
theorem pKd_u (h : j < 20) : pKd (upd w j x) c = pKd w c := by unfold pKd; rw [upd_ne (by omega)]
theorem pGr_u (h : j < 20) : pGr (upd w j x) c k = pGr w c k := by unfold pGr; rw [pKd_u h, upd_ne (by omega)]
theorem pFro_u (h : j < 20) : pFro (upd w j x) c = pFro w c := by unfold pFro; rw [pDug_u h, pGr_u h, upd_ne (by omega)]
theorem pLead_u (h : j < 20) : pLead (upd w j x) c = pLead w c := by unfold pLead; rw [pFro_u h, pGr_u h]
theorem qOut_u (h : 14 ≤ j) (h2 : j < 20) : qOut (upd w j x) c = qOut w c := by unfold qOut; rw [pLead_u h2, upd_ne (by omega), upd_ne (by omega)]
theorem qIn_u (h : 14 ≤ j) (h2 : j < 20) : qIn (upd w j x) c k = qIn w c k := by
  unfold qIn
  cases pBes c k with
  | none => exact qOut_u h h2
  | some d => simp only [pDug_u h2, pLead_u h2]; rw [upd_ne (by omega), upd_ne (by omega)]
theorem qRim_u (h : 14 ≤ j) (h2 : j < 20) : qRim (upd w j x) c k = qRim w c k := by
  unfold qRim
  cases pBes c k with
  | none => exact qOut_u h h2
  | some d => rfl
theorem sIn_u (h : 14 ≤ j) (h2 : j < 20) : sIn (upd w j x) c = sIn w c := by unfold sIn; rw [qIn_u h h2, qIn_u h h2, qIn_u h h2, qIn_u h h2]
theorem sRim_u (h : 14 ≤ j) (h2 : j < 20) : sRim (upd w j x) c = sRim w c := by unfold sRim; rw [qRim_u h h2, qRim_u h h2, qRim_u h h2, qRim_u h h2]
theorem pStr_u (h : 14 ≤ j) (h2 : j < 20) : pStr (upd w j x) c = pStr w c := by
  unfold pStr
  rw [pFro_u h2, upd_ne (show 36 + c / 12 ≠ j by omega), upd_ne (show 5 ≠ j by omega), upd_ne (show 192 + c ≠ j by omega)]
  cases pBes c 1 with
  | none => rfl
  | some d => simp only [pFro_u h2, pDug_u h2]; rw [upd_ne (by omega)]
theorem pKok_u (h : j < 48 ∨ 192 ≤ j) (hk : pKok w) : pKok (upd w j x) := by
  intro c hc
  rw [upd_ne (by omega)]
  exact hk c hc
end UP
