/-! PURE: what is told of a row (810 ints), and that the reference computes it -/
set_option maxRecDepth 100000
def b2i (b : Bool) : Int32 := if b then 1 else 0
theorem b2i_0 (b : Bool) : (b2i b = 0) = (b = false) := by cases b <;> simp [b2i]
theorem b2i_1 (b : Bool) : (b2i b = 1) = (b = true) := by cases b <;> simp [b2i]
theorem b2i_B (b : Bool) : isB (b2i b) = true := by cases b <;> rfl
def pDug (w : Nat → Int32) (c : Nat) : Bool := w (480 + c) == 1
def pKd (w : Nat → Int32) (c : Nat) : Nat := (w (48 + c)).toNatClampNeg
def pGr (w : Nat → Int32) (c k : Nat) : Int32 := w (20 + 4 * pKd w c + k)
def pFro (w : Nat → Int32) (c : Nat) : Bool := !pDug w c && (w (336 + c) == pGr w c 2)
def pHas (w : Nat → Int32) : Bool := w 7 == 1
def pShf (w : Nat → Int32) (c : Nat) : Bool := pHas w && decide ((w 8).toInt ≤ ((c % 12 : Nat) : Int) ∧ ((c % 12 : Nat) : Int) ≤ (w 10).toInt) && decide ((w 9).toInt ≤ ((c / 12 : Nat) : Int) ∧ ((c / 12 : Nat) : Int) ≤ (w 11).toInt)
/-- right, left, below, above -/
def pBes (c k : Nat) : Option Nat := if k = 0 then (if c % 12 = 11 then none else some (c + 1)) else if k = 1 then (if c % 12 = 0 then none else some (c - 1)) else if k = 2 then (if c / 12 = 11 then none else some (c + 12)) else (if c / 12 = 0 then none else some (c - 12))
def oI0 (o : Option Nat) : Int32 := match o with
  | none => -1
  | some d => nI d
def pRim (c : Nat) : Bool := decide (c % 12 = 0 ∨ c % 12 = 11 ∨ c / 12 = 0 ∨ c / 12 = 11)
/-- kinds of ground are 0 .. 3 -/
def pKok (w : Nat → Int32) : Prop := ∀ c, c < 144 → ∃ g, g < 4 ∧ w (48 + c) = nI g
theorem pKd_of {w : Nat → Int32} {c : Nat} (hk : pKok w) (hc : c < 144) : pKd w c < 4 ∧ w (48 + c) = nI (pKd w c) := by
  obtain ⟨g, h1, h2⟩ := hk c hc
  have : pKd w c = g := by unfold pKd; rw [h2, nI_clamp (by omega)]
  rw [this]; exact ⟨h1, h2⟩
theorem lI (n : Nat) : (OfNat.ofNat n : Int32) = nI n := rfl
theorem nI_mul (a b : Nat) : nI a * nI b = nI (a * b) := (Int32.ofNat_mul a b).symm
theorem nI_div {a b : Nat} (ha : a < 2 ^ 31) (hb : b < 2 ^ 31) : nI a / nI b = nI (a / b) := by
  apply Int32.toInt_inj.mp
  have h1 := nI_toInt ha
  have h2 := nI_toInt hb
  have h3 : a / b < 2 ^ 31 := Nat.lt_of_le_of_lt (Nat.div_le_self a b) ha
  rw [Int32.toInt_div, nI_toInt h3, h1, h2]
  have : ((a : Int).tdiv (b : Int)) = ((a / b : Nat) : Int) := by
    rw [Int.tdiv_eq_ediv_of_nonneg (by omega)]; simp
  rw [this]
  have h4 : ((a / b : Nat) : Int) < 2147483648 := by omega
  have h5 : (0 : Int) ≤ ((a / b : Nat) : Int) := Int.natCast_nonneg _
  generalize ((a / b : Nat) : Int) = q at h4 h5 ⊢
  first
    | exact Int.bmod_eq_of_le (by omega) (by omega)
    | (rw [Int.bmod_eq_of_le] <;> omega)
theorem nI_rem {a b : Nat} (ha : a < 2 ^ 31) (hb0 : 0 < b) (hb : b < 2 ^ 31) : nI a - nI a / nI b * nI b = nI (a % b) := by
  rw [nI_div ha hb, nI_mul]
  have h : nI a = nI (a / b * b) + nI (a % b) := by rw [nI_add, Nat.div_add_mod']
  rw [h]
  rw [Int32.add_comm, Int32.add_sub_cancel]
section PT
variable {V : g_V} {c : Nat}
theorem tw_isDug_eq (hc : c < 144) : tw_isDug V (nI c) = some (b2i (pDug (V 1) c)) := by
  unfold tw_isDug
  rw [show (480 : Int32) + nI c = nI (480 + c) from nI_add 480 c, rdI_in (by omega) (by omega)]
  unfold pDug b2i
  by_cases h : V 1 (480 + c) = 1
  · simp [h]
  · simp [h]
theorem tw_groundOf_eq {k : Nat} (hk : pKok (V 1)) (hc : c < 144) (h4 : k < 4) : tw_groundOf V (nI c) (nI k) = some (pGr (V 1) c k) := by
  obtain ⟨h1, h2⟩ := pKd_of hk hc
  unfold tw_groundOf
  rw [show (48 : Int32) + nI c = nI (48 + c) from nI_add 48 c, rdI_in (by omega) (by omega), h2, show ((20 : Int32) + 4 * nI (pKd (V 1) c)) + nI k = nI (20 + 4 * pKd (V 1) c + k) by rw [lI 4, nI_mul, lI 20, nI_add, nI_add], rdI_in (by omega) (by omega)]
  rfl
theorem tw_isFrozen_eq (hk : pKok (V 1)) (hc : c < 144) : tw_isFrozen V (nI c) = some (b2i (pFro (V 1) c)) := by
  unfold tw_isFrozen
  rw [tw_isDug_eq hc]
  simp only [bnd, b2i_0]
  rw [show (336 : Int32) + nI c = nI (336 + c) from nI_add 336 c, rdI_in (by omega) (by omega), show (2 : Int32) = nI 2 from rfl, tw_groundOf_eq hk hc (by omega)]
  unfold pFro
  cases pDug (V 1) c
  · by_cases h : V 1 (336 + c) = pGr (V 1) c 2
    · simp [h, b2i]
    · simp [h, b2i]
  · simp [b2i]
theorem tw_leadOf_eq (hk : pKok (V 1)) (hc : c < 144) : tw_leadOf V (nI c) = some (pGr (V 1) c (if pFro (V 1) c then 1 else 0)) := by
  unfold tw_leadOf
  rw [tw_isFrozen_eq hk hc]
  simp only [bnd, b2i_0]
  rw [show (0 : Int32) = nI 0 from rfl, show (1 : Int32) = nI 1 from rfl, tw_groundOf_eq hk hc (by omega), tw_groundOf_eq hk hc (by omega)]
  cases pFro (V 1) c <;> simp
theorem tw_isPlace_eq (x y : Int32) : tw_isPlace x y = some (b2i (decide (0 ≤ x.toInt ∧ x.toInt ≤ 11) && decide (0 ≤ y.toInt ∧ y.toInt ≤ 11))) := by
  unfold tw_isPlace
  rw [tw_inI, tw_inI]
  have h0 : (0 : Int64).toInt = 0 := rfl
  have h11 : (11 : Int64).toInt = 11 := rfl
  simp only [h0, h11, bnd]
  by_cases h1 : 0 ≤ x.toInt ∧ x.toInt ≤ 11
  · by_cases h2 : 0 ≤ y.toInt ∧ y.toInt ≤ 11
    · simp [h1, h2, b2i]
    · simp [h1, h2, b2i]
  · simp [h1, b2i]
end PT
