/-! PURE: flows of one through each cell, and cuts -/
set_option maxRecDepth 100000
def bN (b : Bool) : Nat := if b = true then 1 else 0
theorem bN_t : bN true = 1 := rfl
theorem bN_f : bN false = 0 := rfl
theorem bN_le (b : Bool) : bN b ≤ 1 := by cases b <;> decide
def opp (k : Nat) : Nat := if k = 0 then 1 else if k = 1 then 0 else if k = 2 then 3 else 2
theorem opp_lt (k : Nat) : opp k < 4 := by unfold opp; split <;> (try split) <;> (try split) <;> omega
theorem opp_opp {k : Nat} (h : k < 4) : opp (opp k) = k := by
  have h4 : k = 0 ∨ k = 1 ∨ k = 2 ∨ k = 3 := by omega
  rcases h4 with rfl | rfl | rfl | rfl <;> rfl
theorem pBes_0 (c : Nat) : pBes c 0 = if c % 12 = 11 then none else some (c + 1) := rfl
theorem pBes_1 (c : Nat) : pBes c 1 = if c % 12 = 0 then none else some (c - 1) := rfl
theorem pBes_2 (c : Nat) : pBes c 2 = if c / 12 = 11 then none else some (c + 12) := rfl
theorem pBes_3 (c : Nat) : pBes c 3 = if c / 12 = 0 then none else some (c - 12) := rfl
theorem pBes_opp {c k d : Nat} (hc : c < 144) (hk : k < 4) (h : pBes c k = some d) : pBes d (opp k) = some c := by
  have h4 : k = 0 ∨ k = 1 ∨ k = 2 ∨ k = 3 := by omega
  rcases h4 with rfl | rfl | rfl | rfl
  · rw [pBes_0] at h
    split at h
    · cases h
    · cases h
      show pBes (c + 1) 1 = _
      rw [pBes_1, if_neg (by omega)]; simp
  · rw [pBes_1] at h
    split at h
    · cases h
    · cases h
      show pBes (c - 1) 0 = _
      rw [pBes_0, if_neg (by omega)]; congr 1; omega
  · rw [pBes_2] at h
    split at h
    · cases h
    · cases h
      show pBes (c + 12) 3 = _
      rw [pBes_3, if_neg (by omega)]; congr 1
  · rw [pBes_3] at h
    split at h
    · cases h
    · cases h
      show pBes (c - 12) 2 = _
      rw [pBes_2, if_neg (by omega)]; congr 1; omega
theorem pBes_char {c k d : Nat} (hk : k < 4) (h : pBes c k = some d) : (k = 0 ∧ d = c + 1 ∧ c % 12 ≠ 11) ∨ (k = 1 ∧ d + 1 = c ∧ c % 12 ≠ 0) ∨ (k = 2 ∧ d = c + 12) ∨ (k = 3 ∧ d + 12 = c) := by
  have h4 : k = 0 ∨ k = 1 ∨ k = 2 ∨ k = 3 := by omega
  rcases h4 with rfl | rfl | rfl | rfl
  · rw [pBes_0] at h
    split at h
    · cases h
    · rename_i h9
      have := Option.some.inj h
      omega
  · rw [pBes_1] at h
    split at h
    · cases h
    · rename_i h9
      have := Option.some.inj h
      omega
  · rw [pBes_2] at h
    split at h
    · cases h
    · have := Option.some.inj h
      omega
  · rw [pBes_3] at h
    split at h
    · cases h
    · rename_i h9
      have := Option.some.inj h
      omega
/-- a side is told by the two cells -/
theorem pBes_uniq {c k k' d : Nat} (hk : k < 4) (hk' : k' < 4) (h : pBes c k = some d) (h' : pBes c k' = some d) : k = k' := by
  have h1 := pBes_char hk h
  have h2 := pBes_char hk' h'
  omega
theorem sumN_add (f g : Nat → Nat) (n : Nat) : sumN (fun i => f i + g i) n = sumN f n + sumN g n := by
  induction n with
  | zero => rfl
  | succ n ih => rw [sumN_s, sumN_s, sumN_s, ih]; omega
theorem sumN_shift (h : Nat → Nat) (s : Nat) : ∀ n, sumN (fun d => if d < s then 0 else h (d - s)) (n + s) = sumN h n := by
  intro n
  induction n with
  | zero =>
    have e : sumN (fun d => if d < s then 0 else h (d - s)) (0 + s) = sumN (fun _ => 0) (0 + s) := sumN_congr (fun i hi => if_pos (by omega))
    rw [e, sumN_const]; rfl
  | succ n ih =>
    rw [show n + 1 + s = (n + s) + 1 by omega, sumN_s, ih, sumN_s, if_neg (by omega), show n + s - s = n by omega]
theorem sumN_split (f : Nat → Nat) (a : Nat) : ∀ b, sumN f (a + b) = sumN f a + sumN (fun i => f (a + i)) b := by
  intro b
  induction b with
  | zero => rfl
  | succ b ih => rw [show a + (b + 1) = (a + b) + 1 by omega, sumN_s, ih, sumN_s]; omega
/-- the sum over all sides -/
def sum4 (φ : Nat → Nat → Nat) (c : Nat) : Nat := φ c 0 + φ c 1 + φ c 2 + φ c 3
def nbrV (φ : Nat → Nat → Nat) (c k : Nat) : Nat := match pBes c k with
  | none => 0
  | some d => φ d (opp k)
theorem hand {φ : Nat → Nat → Nat} (h0 : ∀ c k, c < 144 → k < 4 → pBes c k = none → φ c k = 0) : sumN (sum4 φ) 144 = sumN (sum4 (nbrV φ)) 144 := by
  have e1 : sumN (sum4 φ) 144 = sumN (fun c => φ c 0) 144 + sumN (fun c => φ c 1) 144 + sumN (fun c => φ c 2) 144 + sumN (fun c => φ c 3) 144 := by
    unfold sum4
    rw [sumN_add, sumN_add, sumN_add]
  have e2 : sumN (sum4 (nbrV φ)) 144 = sumN (fun c => nbrV φ c 0) 144 + sumN (fun c => nbrV φ c 1) 144 + sumN (fun c => nbrV φ c 2) 144 + sumN (fun c => nbrV φ c 3) 144 := by
    unfold sum4
    rw [sumN_add, sumN_add, sumN_add]
  -- to the right: seen from the left of the next
  have r : sumN (fun c => nbrV φ c 1) 144 = sumN (fun c => φ c 0) 144 := by
    have a : sumN (fun c => nbrV φ c 1) 144 = sumN (fun d => if d < 1 then 0 else φ (d - 1) 0) (143 + 1) := by
      apply sumN_congr
      intro i hi
      unfold nbrV
      rw [pBes_1]
      by_cases h1 : i % 12 = 0
      · rw [if_pos h1]
        by_cases h2 : i < 1
        · rw [if_pos h2]
        · rw [if_neg h2, h0 (i - 1) 0 (by omega) (by omega) (by rw [pBes_0, if_pos (by omega)])]
      · rw [if_neg h1, if_neg (by omega)]; rfl
    have b : sumN (fun c => φ c 0) 144 = sumN (fun c => φ c 0) 143 + φ 143 0 := sumN_s (fun c => φ c 0) 143
    have s := sumN_shift (fun c => φ c 0) 1 143
    rw [b, h0 143 0 (by omega) (by omega) (by rw [pBes_0, if_pos (by omega)]), Nat.add_zero, a, s]
  have l : sumN (fun c => nbrV φ c 0) 144 = sumN (fun c => φ c 1) 144 := by
    have a : sumN (fun c => φ c 1) 144 = sumN (fun d => if d < 1 then 0 else nbrV φ (d - 1) 0) (143 + 1) := by
      apply sumN_congr
      intro i hi
      by_cases h2 : i < 1
      · rw [if_pos h2]
        exact h0 i 1 (by omega) (by omega) (by rw [pBes_1, if_pos (by omega)])
      · rw [if_neg h2]
        unfold nbrV
        rw [pBes_0]
        by_cases h1 : i % 12 = 0
        · rw [if_pos (by omega)]
          exact h0 i 1 (by omega) (by omega) (by rw [pBes_1, if_pos h1])
        · rw [if_neg (by omega)]
          show φ i 1 = φ (i - 1 + 1) 1
          rw [show i - 1 + 1 = i by omega]
    have z : nbrV φ 143 0 = 0 := by unfold nbrV; rw [pBes_0, if_pos (by omega)]
    have b : sumN (fun c => nbrV φ c 0) 144 = sumN (fun c => nbrV φ c 0) 143 + nbrV φ 143 0 := sumN_s (fun c => nbrV φ c 0) 143
    have s := sumN_shift (fun c => nbrV φ c 0) 1 143
    rw [b, z, Nat.add_zero, a, s]
  have d : sumN (fun c => nbrV φ c 3) 144 = sumN (fun c => φ c 2) 144 := by
    have a : sumN (fun c => nbrV φ c 3) 144 = sumN (fun d => if d < 12 then 0 else φ (d - 12) 2) (132 + 12) := by
      apply sumN_congr
      intro i hi
      unfold nbrV
      rw [pBes_3]
      by_cases h1 : i / 12 = 0
      · rw [if_pos h1, if_pos (by omega)]
      · rw [if_neg h1, if_neg (by omega)]; rfl
    have b : sumN (fun c => φ c 2) 144 = sumN (fun c => φ c 2) 132 + sumN (fun i => φ (132 + i) 2) 12 := sumN_split (fun c => φ c 2) 132 12
    have s := sumN_shift (fun c => φ c 2) 12 132
    have z : sumN (fun i => φ (132 + i) 2) 12 = sumN (fun _ => 0) 12 := sumN_congr (fun i hi => h0 _ 2 (by omega) (by omega) (by rw [pBes_2, if_pos (by omega)]))
    rw [b, z, sumN_const, Nat.mul_zero, Nat.add_zero, a, s]
  have t : sumN (fun c => nbrV φ c 2) 144 = sumN (fun c => φ c 3) 144 := by
    have a : sumN (fun c => φ c 3) 144 = sumN (fun d => if d < 12 then 0 else nbrV φ (d - 12) 2) (132 + 12) := by
      apply sumN_congr
      intro i hi
      by_cases h2 : i < 12
      · rw [if_pos h2]
        exact h0 i 3 (by omega) (by omega) (by rw [pBes_3, if_pos (by omega)])
      · rw [if_neg h2]
        unfold nbrV
        rw [pBes_2, if_neg (by omega)]
        show φ i 3 = φ (i - 12 + 12) 3
        rw [show i - 12 + 12 = i by omega]
    have b : sumN (fun c => nbrV φ c 2) 144 = sumN (fun c => nbrV φ c 2) 132 + sumN (fun i => nbrV φ (132 + i) 2) 12 := sumN_split (fun c => nbrV φ c 2) 132 12
    have s := sumN_shift (fun c => nbrV φ c 2) 12 132
    have z : sumN (fun i => nbrV φ (132 + i) 2) 12 = sumN (fun _ => 0) 12 := sumN_congr (fun i hi => by unfold nbrV; rw [pBes_2, if_pos (by omega)])
    rw [b, z, sumN_const, Nat.mul_zero, Nat.add_zero, a, s]
  rw [e1, e2, r, l, d, t]
  omega
/-! flows -/
def oF (on : Nat → Nat → Bool) (c : Nat) : Nat := sum4 (fun c k => bN (on c k)) c
def iF (on : Nat → Nat → Bool) (c : Nat) : Nat := sum4 (nbrV (fun c k => bN (on c k))) c
/-- a flow: op open cells, sr where ways begin -/
def FI (op sr : Nat → Bool) (th : Nat → Bool) (on : Nat → Nat → Bool) : Prop := ∀ c, c < 144 → oF on c ≤ bN (th c) ∧ iF on c ≤ bN (th c) ∧ (oF on c < bN (th c) → pRim c = true) ∧ (iF on c < bN (th c) → sr c = true) ∧ (th c = true → op c = true) ∧ ∀ k, k < 4 → on c k = true → pBes c k ≠ none
/-- what is reached: nothing leads out of it -/
def CX (op sr th : Nat → Bool) (on : Nat → Nat → Bool) (xi xo : Nat → Bool) : Prop :=
  (∀ c, c < 144 → sr c = true → xi c = true)
  ∧ (∀ c, c < 144 → xi c = true → th c = false → xo c = true)
  ∧ (∀ c, c < 144 → xo c = true → th c = true → xi c = true)
  ∧ (∀ c k d, c < 144 → k < 4 → xo c = true → pBes c k = some d → op d = true → xi d = true)
  ∧ (∀ c k d, c < 144 → k < 4 → xi c = true → pBes c k = some d → on d (opp k) = true → xo d = true)
  ∧ ∀ c, c < 144 → xo c = true → pRim c = false
def flV (th : Nat → Bool) (on : Nat → Nat → Bool) (v : Nat) : Prop := sumN (fun c => bN (th c)) 144 = sumN (oF on) 144 + v
def nGap (xi xo : Nat → Bool) : Nat := sumN (fun c => bN (xi c && !xo c)) 144
section CU
variable {op sr th : Nat → Bool} {on : Nat → Nat → Bool} {xi xo : Nat → Bool} {v : Nat}
/-- a flow against a set that holds the beginnings and is left through cells alone -/
theorem flow_cut (hF : FI op sr th on) (hv : flV th on v) (h1 : ∀ c, c < 144 → sr c = true → xi c = true) (h4 : ∀ c k d, c < 144 → k < 4 → xo c = true → pBes c k = some d → op d = true → xi d = true) (h6 : ∀ c, c < 144 → xo c = true → pRim c = false) :
    v + sumN (fun c => bN (!xi c && xo c && th c)) 144 + sumN (sum4 (fun d k => bN (on d k && !xo d && (match pBes d k with
      | none => false
      | some c => xi c)))) 144 + sumN (fun c => bN (xi c && !xo c && !th c)) 144 = nGap xi xo := by
  -- all that flows: from beginnings, on over cells
  have A : sumN (fun c => bN (xi c && th c)) 144 = sumN (fun c => bN (xi c) * iF on c) 144 + v := by
    have hh : sumN (oF on) 144 = sumN (iF on) 144 := hand (φ := fun c k => bN (on c k)) (fun c k hc hk hb => by
      cases hon : on c k with
      | false => rfl
      | true => exact absurd hb ((hF c hc).2.2.2.2.2 k hk hon))
    have hs : sumN (fun c => bN (th c)) 144 + sumN (fun c => bN (xi c) * iF on c) 144 = sumN (fun c => bN (xi c && th c)) 144 + sumN (iF on) 144 := by
      rw [← sumN_add, ← sumN_add]
      apply sumN_congr
      intro c hc
      obtain ⟨-, b2, -, b4, -, -⟩ := hF c hc
      cases hx : xi c with
      | true => simp [bN_t]
      | false =>
        have : ¬ iF on c < bN (th c) := fun q => by rw [h1 c hc (b4 q)] at hx; cases hx
        simp only [bN_f, Nat.zero_mul, Bool.false_and]
        omega
    unfold flV at hv
    omega
  have B : sumN (fun c => bN (xi c) * iF on c) 144 = sumN (fun c => bN (xo c) * oF on c) 144 + sumN (sum4 (fun d k => bN (on d k && !xo d && (match pBes d k with
      | none => false
      | some c => xi c)))) 144 := by
    have e1 : sumN (fun c => bN (xi c) * iF on c) 144 = sumN (sum4 (nbrV (fun d k => bN (on d k && (match pBes d k with
        | none => false
        | some c => xi c))))) 144 := by
      apply sumN_congr
      intro c hc
      have key : ∀ k, k < 4 → bN (xi c) * nbrV (fun c k => bN (on c k)) c k = nbrV (fun d k => bN (on d k && (match pBes d k with
          | none => false
          | some c => xi c))) c k := by
        intro k hk
        unfold nbrV
        cases hb : pBes c k with
        | none => simp
        | some d =>
          simp only
          rw [pBes_opp hc hk hb]
          simp only
          cases xi c <;> cases on d (opp k) <;> simp [bN]
      show bN (xi c) * (_ + _ + _ + _) = _ + _ + _ + _
      rw [Nat.mul_add, Nat.mul_add, Nat.mul_add, key 0 (by omega), key 1 (by omega), key 2 (by omega), key 3 (by omega)]
    have e2 := hand (φ := fun d k => bN (on d k && (match pBes d k with
        | none => false
        | some c => xi c))) (fun c k hc hk hb => by simp [hb, bN])
    rw [e1, ← e2, ← sumN_add]
    apply sumN_congr
    intro d hd
    have key : ∀ k, k < 4 → bN (on d k && (match pBes d k with
          | none => false
          | some c => xi c)) = bN (xo d) * bN (on d k) + bN (on d k && !xo d && (match pBes d k with
          | none => false
          | some c => xi c)) := by
      intro k hk
      cases hon : on d k with
      | false => simp [bN]
      | true =>
        cases hb : pBes d k with
        | none => exact absurd hb ((hF d hd).2.2.2.2.2 k hk hon)
        | some c =>
          simp only
          cases hx : xo d with
          | false => cases xi c <;> simp [bN]
          | true =>
            have hc := pBes_lt hd hb
            -- what flows to an open cell
            have hop : op c = true := by
              have hi : 1 ≤ iF on c := by
                have e := pBes_opp hd hk hb
                have hz : nbrV (fun c k => bN (on c k)) c (opp k) = 1 := by
                  unfold nbrV
                  rw [e]
                  simp only
                  rw [opp_opp hk, hon]
                  rfl
                unfold iF sum4
                have h4 : opp k = 0 ∨ opp k = 1 ∨ opp k = 2 ∨ opp k = 3 := by have := opp_lt k; omega
                rcases h4 with e4 | e4 | e4 | e4 <;> rw [e4] at hz <;> omega
              have h9 := hF c hc
              have : th c = true := by
                cases hth : th c with
                | true => rfl
                | false => rw [hth] at h9; have := h9.2.1; rw [bN_f] at this; omega
              exact h9.2.2.2.2.1 this
            rw [h4 d k c hd hk hx hb hop]
            simp [bN]
    show sum4 _ d = bN (xo d) * oF on d + sum4 _ d
    unfold oF sum4
    dsimp only
    rw [Nat.mul_add, Nat.mul_add, Nat.mul_add, key 0 (by omega), key 1 (by omega), key 2 (by omega), key 3 (by omega)]
    omega
  have C : sumN (fun c => bN (xo c) * oF on c) 144 = sumN (fun c => bN (xo c && th c)) 144 := by
    apply sumN_congr
    intro c hc
    obtain ⟨b1, -, b3, -⟩ := hF c hc
    cases hx : xo c with
    | false => simp [bN]
    | true =>
      have : ¬ oF on c < bN (th c) := fun q => by have := h6 c hc hx; rw [b3 q] at this; cases this
      simp only [bN_t, Nat.one_mul, Bool.true_and]
      omega
  have D : sumN (fun c => bN (xi c && th c)) 144 + sumN (fun c => bN (!xi c && xo c && th c)) 144 + sumN (fun c => bN (xi c && !xo c && !th c)) 144 = sumN (fun c => bN (xo c && th c)) 144 + nGap xi xo := by
    unfold nGap
    rw [← sumN_add, ← sumN_add, ← sumN_add]
    apply sumN_congr
    intro c _
    cases xi c <;> cases xo c <;> cases th c <;> rfl
  omega
/-- a flow's own set: as many as flow -/
theorem cut_val (hF : FI op sr th on) (hv : flV th on v) (hX : CX op sr th on xi xo) : v = nGap xi xo := by
  obtain ⟨k1, k2, k3, k4, k5, k6⟩ := hX
  have h := flow_cut hF hv k1 k4 k6
  have z1 : sumN (fun c => bN (!xi c && xo c && th c)) 144 = 0 := by
    have e : sumN (fun c => bN (!xi c && xo c && th c)) 144 = sumN (fun _ => 0) 144 := sumN_congr (fun c hc => by
      cases hxo : xo c with
      | false => simp [bN]
      | true =>
        cases hth : th c with
        | false => simp [bN]
        | true => rw [k3 c hc hxo hth]; simp [bN])
    rw [e, sumN_const]
  have z2 : sumN (fun c => bN (xi c && !xo c && !th c)) 144 = 0 := by
    have e : sumN (fun c => bN (xi c && !xo c && !th c)) 144 = sumN (fun _ => 0) 144 := sumN_congr (fun c hc => by
      cases hxi : xi c with
      | false => simp [bN]
      | true =>
        cases hth : th c with
        | true => simp [bN]
        | false => rw [k2 c hc hxi hth]; simp [bN])
    rw [e, sumN_const]
  have z3 : sumN (sum4 (fun d k => bN (on d k && !xo d && (match pBes d k with
      | none => false
      | some c => xi c)))) 144 = 0 := by
    have e : sumN (sum4 (fun d k => bN (on d k && !xo d && (match pBes d k with
      | none => false
      | some c => xi c)))) 144 = sumN (fun _ => 0) 144 := sumN_congr (fun d hd => by
        have key : ∀ k, k < 4 → bN (on d k && !xo d && (match pBes d k with
            | none => false
            | some c => xi c)) = 0 := by
          intro k hk
          cases hon : on d k with
          | false => simp [bN]
          | true =>
            cases hb : pBes d k with
            | none => simp [bN]
            | some c =>
              simp only
              cases hxi : xi c with
              | false => simp [bN]
              | true =>
                have e := pBes_opp hd hk hb
                have := k5 c (opp k) d (pBes_lt hd hb) (opp_lt k) hxi e (by rw [opp_opp hk]; exact hon)
                rw [this]; simp [bN]
        unfold sum4
        dsimp only
        rw [key 0 (by omega), key 1 (by omega), key 2 (by omega), key 3 (by omega)])
    rw [e, sumN_const]
  omega
theorem sumN_zero {f : Nat → Nat} : ∀ {n : Nat}, sumN f n = 0 → ∀ i, i < n → f i = 0 := by
  intro n
  induction n with
  | zero => intro _ i hi; omega
  | succ n ih =>
    intro h i hi
    rw [sumN_s] at h
    by_cases hin : i = n
    · subst hin; omega
    · exact ih (by omega) i (by omega)
variable {th' : Nat → Bool} {on' : Nat → Nat → Bool} {xi' xo' : Nat → Bool} {v' : Nat}
/-- two flows, each with its set: one flows no more than the other -/
theorem flow_le (hF : FI op sr th on) (hv : flV th on v) (hF' : FI op sr th' on') (hv' : flV th' on' v') (hX' : CX op sr th' on' xi' xo') : v ≤ v' := by
  have h := flow_cut hF hv hX'.1 hX'.2.2.2.1 hX'.2.2.2.2.2
  have h' := cut_val hF' hv' hX'
  omega
/-- if they flow alike, nothing of the one leads out of the other's set -/
theorem flow_closed (hF : FI op sr th on) (hv : flV th on v) (hF' : FI op sr th' on') (hv' : flV th' on' v) (hX' : CX op sr th' on' xi' xo') : CX op sr th on xi' xo' := by
  have h := flow_cut hF hv hX'.1 hX'.2.2.2.1 hX'.2.2.2.2.2
  have h' := cut_val hF' hv' hX'
  have z1 := sumN_zero (n := 144) (f := fun c => bN (!xi' c && xo' c && th c)) (by omega)
  have z2 := sumN_zero (n := 144) (f := fun c => bN (xi' c && !xo' c && !th c)) (by omega)
  have z3 := sumN_zero (n := 144) (f := sum4 (fun d k => bN (on d k && !xo' d && (match pBes d k with
      | none => false
      | some c => xi' c)))) (by omega)
  obtain ⟨k1, k2, k3, k4, k5, k6⟩ := hX'
  refine ⟨k1, fun c hc hx ht => ?_, fun c hc hx ht => ?_, k4, fun c k d hc hk hx hb ho => ?_, k6⟩
  · have := z2 c hc
    cases hxo : xo' c with
    | true => rfl
    | false => rw [hx, hxo, ht] at this; cases this
  · have := z1 c hc
    cases hxi : xi' c with
    | true => rfl
    | false => rw [hx, hxi, ht] at this; cases this
  · have hd := pBes_lt hc hb
    have h3 := z3 d hd
    have e := pBes_opp hc hk hb
    cases hxo : xo' d with
    | true => rfl
    | false =>
      have h1 : bN (on d (opp k) && !xo' d && (match pBes d (opp k) with
          | none => false
          | some c => xi' c)) = 1 := by rw [ho, hxo, e]; simp only; rw [hx]; rfl
      unfold sum4 at h3
      have h4 : opp k = 0 ∨ opp k = 1 ∨ opp k = 2 ∨ opp k = 3 := by have := opp_lt k; omega
      rcases h4 with e4 | e4 | e4 | e4 <;> rw [e4] at h1 <;> simp only at h3 <;> omega
end CU
