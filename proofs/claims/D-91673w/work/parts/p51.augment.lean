/-! PURE: what a search reaches, and one way more -/
set_option maxRecDepth 100000
/-- one step of what is left: node 2 c: into a cell, 2 c + 1: out of it -/
def Rs (op th : Nat → Bool) (on : Nat → Nat → Bool) (y z : Nat) : Prop :=
  (y % 2 = 0 ∧ z = y + 1 ∧ th (y / 2) = false) ∨ (y % 2 = 1 ∧ z + 1 = y ∧ th (y / 2) = true)
  ∨ (y % 2 = 1 ∧ z % 2 = 0 ∧ ∃ k, k < 4 ∧ pBes (y / 2) k = some (z / 2) ∧ op (z / 2) = true)
  ∨ (y % 2 = 0 ∧ z % 2 = 1 ∧ ∃ k, k < 4 ∧ pBes (y / 2) k = some (z / 2) ∧ on (z / 2) (opp k) = true)
/-- what stands of a search: from where each node was come to, in which order -/
def SV (op sr th : Nat → Bool) (on : Nat → Nat → Bool) (by' : Nat → Option (Option Nat)) (od : Nat → Nat) : Prop := ∀ z, z < 288 → (by' z = some none → z % 2 = 0 ∧ sr (z / 2) = true) ∧ ∀ y, by' z = some (some y) → y < 288 ∧ by' y ≠ none ∧ od y < od z ∧ Rs op th on y z
def xIn (by' : Nat → Option (Option Nat)) (c : Nat) : Bool := (by' (2 * c)).isSome
def xOut (by' : Nat → Option (Option Nat)) (c : Nat) : Bool := (by' (2 * c + 1)).isSome
section SE
variable {op sr th : Nat → Bool} {on : Nat → Nat → Bool} {by' : Nat → Option (Option Nat)} {od : Nat → Nat} {v : Nat}
/-- what is reached lies in each set that nothing leads out of -/
theorem SV_least {xi xo : Nat → Bool} (h : SV op sr th on by' od) (hX : CX op sr th on xi xo) : ∀ n z, z < 288 → od z < n → by' z ≠ none → (z % 2 = 0 → xi (z / 2) = true) ∧ (z % 2 = 1 → xo (z / 2) = true) := by
  obtain ⟨k1, k2, k3, k4, k5, k6⟩ := hX
  intro n
  induction n with
  | zero => intro z _ h0; omega
  | succ n ih =>
    intro z hz hod hv
    cases hb : by' z with
    | none => exact absurd hb hv
    | some o =>
      cases o with
      | none =>
        obtain ⟨a1, a2⟩ := (h z hz).1 hb
        exact ⟨fun _ => k1 _ (by omega) a2, fun q => by omega⟩
      | some y =>
        obtain ⟨a1, a2, a3, a4⟩ := (h z hz).2 y hb
        obtain ⟨i1, i2⟩ := ih y a1 (by omega) a2
        rcases a4 with ⟨b1, b2, b3⟩ | ⟨b1, b2, b3⟩ | ⟨b1, b2, k, b3, b4, b5⟩ | ⟨b1, b2, k, b3, b4, b5⟩
        · refine ⟨fun q => by omega, fun _ => ?_⟩
          rw [show z / 2 = y / 2 by omega]
          exact k2 _ (by omega) (i1 b1) b3
        · refine ⟨fun _ => ?_, fun q => by omega⟩
          rw [show z / 2 = y / 2 by omega]
          exact k3 _ (by omega) (i2 b1) b3
        · exact ⟨fun _ => k4 _ k _ (by omega) b3 (i2 b1) b4 b5, fun q => by omega⟩
        · exact ⟨fun q => by omega, fun _ => k5 _ k _ (by omega) b3 (i1 b1) b4 b5⟩
/-- the fewest gaps: how many, and which -/
def isCut (op sr : Nat → Bool) (v : Nat) (g : Nat → Bool) : Prop := ∃ th on by' od, FI op sr th on ∧ flV th on v ∧ SV op sr th on by' od ∧ CX op sr th on (xIn by') (xOut by') ∧ ∀ c, c < 144 → g c = (xIn by' c && !xOut by' c)
theorem isCut_one {v' : Nat} {g g' : Nat → Bool} (h : isCut op sr v g) (h' : isCut op sr v' g') : v = v' ∧ ∀ c, c < 144 → g c = g' c := by
  obtain ⟨th, on, b, od, a1, a2, a3, a4, a5⟩ := h
  obtain ⟨th', on', b', od', c1, c2, c3, c4, c5⟩ := h'
  have e : v = v' := Nat.le_antisymm (flow_le a1 a2 c1 c2 c4) (flow_le c1 c2 a1 a2 a4)
  subst e
  have d1 := flow_closed a1 a2 c1 c2 c4
  have d2 := flow_closed c1 c2 a1 a2 a4
  refine ⟨rfl, fun c hc => ?_⟩
  have i : xIn b c = xIn b' c := by
    have p1 : xIn b c = true → xIn b' c = true := by
      intro q
      unfold xIn at q
      have := (SV_least a3 d1 (od (2 * c) + 1) (2 * c) (by omega) (by omega) (fun z => by rw [z] at q; cases q)).1 (by omega)
      rw [show 2 * c / 2 = c by omega] at this
      exact this
    have p2 : xIn b' c = true → xIn b c = true := by
      intro q
      unfold xIn at q
      have := (SV_least c3 d2 (od' (2 * c) + 1) (2 * c) (by omega) (by omega) (fun z => by rw [z] at q; cases q)).1 (by omega)
      rw [show 2 * c / 2 = c by omega] at this
      exact this
    cases h1 : xIn b c <;> cases h2 : xIn b' c
    · rfl
    · rw [p2 h2] at h1; cases h1
    · rw [p1 h1] at h2; cases h2
    · rfl
  have o : xOut b c = xOut b' c := by
    have p1 : xOut b c = true → xOut b' c = true := by
      intro q
      unfold xOut at q
      have := (SV_least a3 d1 (od (2 * c + 1) + 1) (2 * c + 1) (by omega) (by omega) (fun z => by rw [z] at q; cases q)).2 (by omega)
      rw [show (2 * c + 1) / 2 = c by omega] at this
      exact this
    have p2 : xOut b' c = true → xOut b c = true := by
      intro q
      unfold xOut at q
      have := (SV_least c3 d2 (od' (2 * c + 1) + 1) (2 * c + 1) (by omega) (by omega) (fun z => by rw [z] at q; cases q)).2 (by omega)
      rw [show (2 * c + 1) / 2 = c by omega] at this
      exact this
    cases h1 : xOut b c <;> cases h2 : xOut b' c
    · rfl
    · rw [p2 h2] at h1; cases h1
    · rw [p1 h1] at h2; cases h2
    · rfl
  rw [a5 c hc, c5 c hc, i, o]
end SE
/-! one way more, from its end back -/
def setB (f : Nat → Bool) (c : Nat) (b : Bool) : Nat → Bool := fun j => if j = c then b else f j
def setO (on : Nat → Nat → Bool) (c k : Nat) (b : Bool) : Nat → Nat → Bool := fun j i => if j = c ∧ i = k then b else on j i
section AU
variable {op sr th th0 : Nat → Bool} {on on0 : Nat → Nat → Bool} {by' : Nat → Option (Option Nat)} {od : Nat → Nat} {v : Nat}
theorem oF_set {c k : Nat} {b : Bool} (hk : k < 4) : oF (setO on c k b) c + bN (on c k) = oF on c + bN b ∧ ∀ c', c' ≠ c → oF (setO on c k b) c' = oF on c' := by
  refine ⟨?_, fun c' h => ?_⟩
  · unfold oF sum4 setO
    have h4 : k = 0 ∨ k = 1 ∨ k = 2 ∨ k = 3 := by omega
    rcases h4 with rfl | rfl | rfl | rfl <;> simp <;> omega
  · unfold oF sum4 setO
    simp [h]
theorem iF_set {c k d : Nat} {b : Bool} (hc : c < 144) (hk : k < 4) (hd : pBes c k = some d) : iF (setO on c k b) d + bN (on c k) = iF on d + bN b ∧ ∀ c', c' < 144 → c' ≠ d → iF (setO on c k b) c' = iF on c' := by
  have hdl := pBes_lt hc hd
  have same : ∀ c' i, c' < 144 → i < 4 → ¬ (c' = d ∧ i = opp k) → nbrV (fun x y => bN (setO on c k b x y)) c' i = nbrV (fun x y => bN (on x y)) c' i := by
    intro c' i hc' hi hn
    unfold nbrV
    cases hb : pBes c' i with
    | none => rfl
    | some e =>
      simp only
      unfold setO
      by_cases hx : e = c ∧ opp i = k
      · exfalso
        obtain ⟨rfl, rfl⟩ := hx
        have h1 := pBes_opp hc' hi hb
        rw [hd] at h1
        cases h1
        exact hn ⟨rfl, (opp_opp hi).symm⟩
      · rw [if_neg hx]
  have at' : nbrV (fun x y => bN (setO on c k b x y)) d (opp k) = bN b ∧ nbrV (fun x y => bN (on x y)) d (opp k) = bN (on c k) := by
    unfold nbrV
    rw [pBes_opp hc hk hd]
    simp only
    rw [opp_opp hk]
    unfold setO
    simp
  refine ⟨?_, fun c' hc' hn => ?_⟩
  · unfold iF sum4
    have h4 : opp k = 0 ∨ opp k = 1 ∨ opp k = 2 ∨ opp k = 3 := by have := opp_lt k; omega
    rcases h4 with e | e | e | e
    · rw [e] at at'
      rw [at'.1, at'.2, same d 1 hdl (by omega) (by omega), same d 2 hdl (by omega) (by omega), same d 3 hdl (by omega) (by omega)]; omega
    · rw [e] at at'
      rw [at'.1, at'.2, same d 0 hdl (by omega) (by omega), same d 2 hdl (by omega) (by omega), same d 3 hdl (by omega) (by omega)]; omega
    · rw [e] at at'
      rw [at'.1, at'.2, same d 0 hdl (by omega) (by omega), same d 1 hdl (by omega) (by omega), same d 3 hdl (by omega) (by omega)]; omega
    · rw [e] at at'
      rw [at'.1, at'.2, same d 0 hdl (by omega) (by omega), same d 1 hdl (by omega) (by omega), same d 2 hdl (by omega) (by omega)]; omega
  · unfold iF sum4
    rw [same c' 0 hc' (by omega) (fun q => hn q.1), same c' 1 hc' (by omega) (fun q => hn q.1), same c' 2 hc' (by omega) (fun q => hn q.1), same c' 3 hc' (by omega) (fun q => hn q.1)]
/-- one is wanting at node s -/
def DF (op sr th : Nat → Bool) (on : Nat → Nat → Bool) (s v : Nat) : Prop :=
  (∀ c, c < 144 → (oF on c ≤ bN (th c) + (if s = 2 * c + 1 then 1 else 0) ∧ (oF on c < bN (th c) + (if s = 2 * c + 1 then 1 else 0) → pRim c = true)) ∧ (iF on c + (if s = 2 * c then 1 else 0) ≤ bN (th c) ∧ (iF on c + (if s = 2 * c then 1 else 0) < bN (th c) → sr c = true)) ∧ (th c = true → op c = true) ∧ ∀ k, k < 4 → on c k = true → pBes c k ≠ none)
  ∧ sumN (fun c => bN (th c)) 144 = sumN (oF on) 144 + v + (if s % 2 = 0 then 1 else 0)
theorem DF_start {c : Nat} (hF : FI op sr th on) (hv : flV th on v) (hr : pRim c = true) : DF op sr th on (2 * c + 1) v := by
  refine ⟨fun c' hc' => ?_, ?_⟩
  · obtain ⟨a1, a2, a3, a4, a5, a6⟩ := hF c' hc'
    refine ⟨?_, ?_, a5, a6⟩
    · by_cases h : c' = c
      · subst h; rw [if_pos rfl]; exact ⟨by omega, fun _ => hr⟩
      · rw [if_neg (by omega)]; exact ⟨a1, a3⟩
    · rw [if_neg (by omega)]; exact ⟨a2, a4⟩
  · unfold flV at hv
    rw [if_neg (by omega)]; omega
theorem DF_end {c : Nat} (h : DF op sr th on (2 * c) v) (hs : sr c = true) : FI op sr th on ∧ flV th on (v + 1) := by
  obtain ⟨h1, h2⟩ := h
  refine ⟨fun c' hc' => ?_, ?_⟩
  · obtain ⟨a1, a2, a5, a6⟩ := h1 c' hc'
    rw [if_neg (by omega)] at a1
    by_cases h : c' = c
    · subst h
      rw [if_pos rfl] at a2
      exact ⟨a1.1, by omega, a1.2, fun _ => hs, a5, a6⟩
    · rw [if_neg (by omega)] at a2
      exact ⟨a1.1, a2.1, a1.2, a2.2, a5, a6⟩
  · rw [if_pos (by omega)] at h2
    unfold flV; omega
theorem sum_setB {f : Nat → Bool} {c : Nat} {b : Bool} (hc : c < 144) : sumN (fun j => bN (setB f c b j)) 144 + bN (f c) = sumN (fun j => bN (f j)) 144 + bN b := by
  have h := sumN_upd (f := fun j => bN (f j)) (x := bN b) hc
  have e : sumN (fun j => bN (setB f c b j)) 144 = sumN (fun j => if j = c then bN b else bN (f j)) 144 := by
    apply sumN_congr
    intro i _
    unfold setB
    by_cases hi : i = c <;> simp [hi]
  rw [e]; exact h
theorem sum_setO {c k : Nat} {b : Bool} (hc : c < 144) (hk : k < 4) : sumN (oF (setO on c k b)) 144 + bN (on c k) = sumN (oF on) 144 + bN b := by
  obtain ⟨a1, a2⟩ := oF_set (on := on) (c := c) (k := k) (b := b) hk
  have h := sumN_upd (f := oF on) (x := oF (setO on c k b) c) hc
  have e : sumN (oF (setO on c k b)) 144 = sumN (fun j => if j = c then oF (setO on c k b) c else oF on j) 144 := by
    apply sumN_congr
    intro i _
    by_cases hi : i = c
    · rw [if_pos hi, hi]
    · rw [if_neg hi]; exact a2 i hi
  rw [e]; omega
/-- through a cell -/
theorem DF_th {c : Nat} (h : DF op sr th on (2 * c + 1) v) (hc : c < 144) (hth : th c = false) (hop : op c = true) : DF op sr (setB th c true) on (2 * c) v := by
  obtain ⟨h1, h2⟩ := h
  have hs := sum_setB (f := th) (b := true) hc
  rw [hth, bN_f, bN_t] at hs
  refine ⟨fun c' hc' => ?_, ?_⟩
  · obtain ⟨a1, a2, a5, a6⟩ := h1 c' hc'
    by_cases h : c' = c
    · subst h
      have e : setB th c' true c' = true := if_pos rfl
      rw [if_pos rfl, hth, bN_f] at a1
      rw [if_neg (by omega), hth, bN_f] at a2
      rw [if_neg (by omega), if_pos rfl, e, bN_t]
      exact ⟨⟨by omega, fun q => a1.2 (by omega)⟩, ⟨by omega, fun q => by omega⟩, fun _ => hop, a6⟩
    · have e : setB th c true c' = th c' := if_neg h
      rw [if_neg (by omega)] at a1
      rw [if_neg (by omega)] at a2
      rw [if_neg (by omega), if_neg (by omega), e]
      exact ⟨a1, a2, a5, a6⟩
  · rw [if_neg (by omega)] at h2
    rw [if_pos (by omega)]; omega
theorem DF_unth {c : Nat} (h : DF op sr th on (2 * c) v) (hc : c < 144) (hth : th c = true) : DF op sr (setB th c false) on (2 * c + 1) v := by
  obtain ⟨h1, h2⟩ := h
  have hs := sum_setB (f := th) (b := false) hc
  rw [hth, bN_f, bN_t] at hs
  refine ⟨fun c' hc' => ?_, ?_⟩
  · obtain ⟨a1, a2, a5, a6⟩ := h1 c' hc'
    by_cases h : c' = c
    · subst h
      have e : setB th c' false c' = false := if_pos rfl
      rw [if_neg (by omega), hth, bN_t] at a1
      rw [if_pos rfl, hth, bN_t] at a2
      rw [if_pos rfl, if_neg (by omega), e, bN_f]
      exact ⟨⟨by omega, fun q => a1.2 (by omega)⟩, ⟨by omega, fun q => by omega⟩, fun q => Bool.noConfusion q, a6⟩
    · have e : setB th c false c' = th c' := if_neg h
      rw [if_neg (by omega)] at a1
      rw [if_neg (by omega)] at a2
      rw [if_neg (by omega), if_neg (by omega), e]
      exact ⟨a1, a2, a5, a6⟩
  · rw [if_pos (by omega)] at h2
    rw [if_neg (by omega)]; omega
theorem DF_on {c k d : Nat} (h : DF op sr th on (2 * d) v) (hc : c < 144) (hk : k < 4) (hd : pBes c k = some d) (hon : on c k = false) : DF op sr th (setO on c k true) (2 * c + 1) v := by
  obtain ⟨h1, h2⟩ := h
  obtain ⟨o1, o2⟩ := oF_set (on := on) (c := c) (k := k) (b := true) hk
  obtain ⟨i1, i2⟩ := iF_set (on := on) (b := true) hc hk hd
  have hs := sum_setO (on := on) (b := true) hc hk
  rw [hon, bN_f, bN_t] at o1 i1 hs
  refine ⟨fun c' hc' => ?_, ?_⟩
  · obtain ⟨a1, a2, a5, a6⟩ := h1 c' hc'
    rw [if_neg (by omega)] at a1
    refine ⟨?_, ?_, a5, fun k' hk' hon' => ?_⟩
    · by_cases h : c' = c
      · subst h
        rw [if_pos rfl]
        exact ⟨by omega, fun q => a1.2 (by omega)⟩
      · rw [if_neg (by omega), o2 c' h]; exact a1
    · rw [if_neg (by omega)]
      by_cases h : c' = d
      · subst h
        rw [if_pos rfl] at a2
        exact ⟨by omega, fun q => a2.2 (by omega)⟩
      · rw [if_neg (by omega)] at a2
        rw [i2 c' hc' h]; exact a2
    · unfold setO at hon'
      by_cases hx : c' = c ∧ k' = k
      · rw [hx.1, hx.2, hd]; exact fun q => by cases q
      · rw [if_neg hx] at hon'; exact a6 k' hk' hon'
  · rw [if_pos (by omega)] at h2
    rw [if_neg (by omega)]; omega
theorem DF_off {c k d : Nat} (h : DF op sr th on (2 * c + 1) v) (hc : c < 144) (hk : k < 4) (hd : pBes c k = some d) (hon : on c k = true) : DF op sr th (setO on c k false) (2 * d) v := by
  obtain ⟨h1, h2⟩ := h
  obtain ⟨o1, o2⟩ := oF_set (on := on) (c := c) (k := k) (b := false) hk
  obtain ⟨i1, i2⟩ := iF_set (on := on) (b := false) hc hk hd
  have hs := sum_setO (on := on) (b := false) hc hk
  rw [hon, bN_f, bN_t] at o1 i1 hs
  refine ⟨fun c' hc' => ?_, ?_⟩
  · obtain ⟨a1, a2, a5, a6⟩ := h1 c' hc'
    rw [if_neg (by omega)] at a2
    refine ⟨?_, ?_, a5, fun k' hk' hon' => ?_⟩
    · rw [if_neg (by omega)]
      by_cases h : c' = c
      · subst h
        rw [if_pos rfl] at a1
        exact ⟨by omega, fun q => a1.2 (by omega)⟩
      · rw [if_neg (by omega)] at a1
        rw [o2 c' h]; exact a1
    · by_cases h : c' = d
      · subst h
        rw [if_pos rfl]
        exact ⟨by omega, fun q => a2.2 (by omega)⟩
      · rw [if_neg (by omega), i2 c' hc' h]; exact a2
    · unfold setO at hon'
      by_cases hx : c' = c ∧ k' = k
      · rw [if_pos hx] at hon'; cases hon'
      · rw [if_neg hx] at hon'; exact a6 k' hk' hon'
  · rw [if_neg (by omega)] at h2
    rw [if_pos (by omega)]; omega
end AU
