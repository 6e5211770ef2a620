/-! PURE: a way is sent: from its end back -/
set_option maxRecDepth 100000
section BK
variable {op sr th th0 : Nat → Bool} {on on0 : Nat → Nat → Bool} {by' : Nat → Option (Option Nat)} {od : Nat → Nat} {v : Nat}
def BK (op sr th0 : Nat → Bool) (on0 : Nat → Nat → Bool) (by' : Nat → Option (Option Nat)) (od : Nat → Nat) (v s : Nat) (th : Nat → Bool) (on : Nat → Nat → Bool) : Prop := by' s ≠ none ∧ s < 288 ∧ DF op sr th on s v ∧ (∀ c, c < 144 → th c ≠ th0 c → od s < od (2 * c) ∨ od s < od (2 * c + 1)) ∧ ∀ c k d, c < 144 → k < 4 → pBes c k = some d → on c k ≠ on0 c k → od s < od (2 * c + 1) ∨ od s < od (2 * d)
theorem SV_open (h : SV op sr th0 on0 by' od) (hso : ∀ c, c < 144 → sr c = true → op c = true) (hF : FI op sr th0 on0) {c : Nat} (hc : c < 144) (hv : by' (2 * c) ≠ none) : op c = true := by
  cases hb : by' (2 * c) with
  | none => exact absurd hb hv
  | some o =>
    cases o with
    | none =>
      have := (h (2 * c) (by omega)).1 hb
      rw [show 2 * c / 2 = c by omega] at this
      exact hso c hc this.2
    | some y =>
      obtain ⟨a1, a2, a3, a4⟩ := (h (2 * c) (by omega)).2 y hb
      rcases a4 with ⟨b1, b2, b3⟩ | ⟨b1, b2, b3⟩ | ⟨b1, b2, k, b3, b4, b5⟩ | ⟨b1, b2, k, b3, b4, b5⟩
      · omega
      · rw [show y / 2 = c by omega] at b3
        exact (hF c hc).2.2.2.2.1 b3
      · rw [show 2 * c / 2 = c by omega] at b5; exact b5
      · omega
/-- no more than one flows out of a cell -/
theorem oF_uniq {c k k' : Nat} (h : oF on c ≤ 1) (hk : k < 4) (hk' : k' < 4) (h1 : on c k = true) (h2 : on c k' = true) : k = k' := by
  unfold oF sum4 at h
  have h4 : k = 0 ∨ k = 1 ∨ k = 2 ∨ k = 3 := by omega
  have h4' : k' = 0 ∨ k' = 1 ∨ k' = 2 ∨ k' = 3 := by omega
  rcases h4 with rfl | rfl | rfl | rfl <;> rcases h4' with rfl | rfl | rfl | rfl <;> (try rfl) <;> (exfalso; dsimp only at h; rw [h1, h2] at h; simp only [bN_t] at h; omega)
theorem oF_pos {c k : Nat} (hk : k < 4) (h1 : on c k = true) : 1 ≤ oF on c := by
  unfold oF sum4
  have h4 : k = 0 ∨ k = 1 ∨ k = 2 ∨ k = 3 := by omega
  rcases h4 with rfl | rfl | rfl | rfl <;> dsimp only <;> rw [h1] <;> simp only [bN_t] <;> omega
/-- what a step of the search comes from is left, and not gone already -/
theorem on0_false (h : SV op sr th0 on0 by' od) (hF : FI op sr th0 on0) {c k d : Nat} (hc : c < 144) (hk : k < 4) (hd : pBes c k = some d) (hb : by' (2 * d) = some (some (2 * c + 1))) : on0 c k = false := by
  cases hon : on0 c k with
  | false => rfl
  | true =>
    exfalso
    have hdl := pBes_lt hc hd
    obtain ⟨a1, a2, a3, a4⟩ := (h (2 * d) (by omega)).2 _ hb
    have hp := oF_pos (on := on0) hk hon
    have hfc := hF c hc
    have hth : th0 c = true := by
      cases ht : th0 c with
      | true => rfl
      | false => rw [ht] at hfc; have := hfc.1; rw [bN_f] at this; omega
    rw [hth, bN_t] at hfc
    cases hbo : by' (2 * c + 1) with
    | none => exact a2 hbo
    | some o =>
      cases o with
      | none =>
        have := (h (2 * c + 1) (by omega)).1 hbo
        omega
      | some y =>
        obtain ⟨c1, c2, c3, c4⟩ := (h (2 * c + 1) (by omega)).2 y hbo
        rcases c4 with ⟨b1, b2, b3⟩ | ⟨b1, b2, b3⟩ | ⟨b1, b2, k', b3, b4, b5⟩ | ⟨b1, b2, k', b3, b4, b5⟩
        · rw [show y / 2 = c by omega, hth] at b3; cases b3
        · omega
        · omega
        · rw [show (2 * c + 1) / 2 = c by omega] at b4 b5
          have e := oF_uniq hfc.1 hk (opp_lt k') hon b5
          have h9 := pBes_opp (show y / 2 < 144 by omega) b3 b4
          rw [← e, hd] at h9
          have := Option.some.inj h9
          have : y = 2 * d := by omega
          subst this
          omega
/-- one step back: what is changed, and that it fits -/
theorem back_step (h : SV op sr th0 on0 by' od) (hF : FI op sr th0 on0) (hso : ∀ c, c < 144 → sr c = true → op c = true) {s y : Nat} (hB : BK op sr th0 on0 by' od v s th on) (hb : by' s = some (some y)) :
    y < 288 ∧ od y < od s ∧ ((y / 2 = s / 2 ∧ y % 2 ≠ s % 2 ∧ BK op sr th0 on0 by' od v y (setB th (s / 2) (decide (s % 2 = 1))) on) ∨ (y / 2 ≠ s / 2 ∧ s % 2 = 0 ∧ y % 2 = 1 ∧ ∃ k, k < 4 ∧ pBes (y / 2) k = some (s / 2) ∧ BK op sr th0 on0 by' od v y th (setO on (y / 2) k true)) ∨ (y / 2 ≠ s / 2 ∧ s % 2 = 1 ∧ y % 2 = 0 ∧ ∃ k, k < 4 ∧ pBes (s / 2) k = some (y / 2) ∧ BK op sr th0 on0 by' od v y th (setO on (s / 2) k false))) := by
  obtain ⟨v1, v2, v3, v4, v5⟩ := hB
  obtain ⟨a1, a2, a3, a4⟩ := (h s v2).2 y hb
  refine ⟨a1, a3, ?_⟩
  have thk : ∀ c, c < 144 → od (2 * c) ≤ od s → od (2 * c + 1) ≤ od s → th c = th0 c := fun c hc h1 h2 => by
    by_cases q : th c = th0 c
    · exact q
    · have := v4 c hc q; omega
  have onk : ∀ c k d, c < 144 → k < 4 → pBes c k = some d → od (2 * c + 1) ≤ od s → od (2 * d) ≤ od s → on c k = on0 c k := fun c k d hc hk hd h1 h2 => by
    by_cases q : on c k = on0 c k
    · exact q
    · have := v5 c k d hc hk hd q; omega
  have keepO : ∀ c k d, c < 144 → k < 4 → pBes c k = some d → on c k ≠ on0 c k → od y < od (2 * c + 1) ∨ od y < od (2 * d) := fun c k d hc hk hd q => by have := v5 c k d hc hk hd q; omega
  have keepT : ∀ c, c < 144 → th c ≠ th0 c → od y < od (2 * c) ∨ od y < od (2 * c + 1) := fun c hc q => by have := v4 c hc q; omega
  rcases a4 with ⟨b1, b2, b3⟩ | ⟨b1, b2, b3⟩ | ⟨b1, b2, k, b3, b4, b5⟩ | ⟨b1, b2, k, b3, b4, b5⟩
  · -- into a cell and through it
    left
    have e1 : s = 2 * (y / 2) + 1 := by omega
    have e2 : y = 2 * (y / 2) := by omega
    have e3 : s / 2 = y / 2 := by omega
    have hcl : y / 2 < 144 := by omega
    generalize y / 2 = c at *
    subst e1 e2
    have ht := thk c hcl (by omega) (by omega)
    have hop := SV_open h hso hF hcl a2
    refine ⟨by omega, by omega, a2, by omega, ?_, fun c' hc' q => ?_, keepO⟩
    · rw [e3, show decide ((2 * c + 1) % 2 = 1) = true from decide_eq_true (by omega)]
      exact DF_th v3 hcl (by rw [ht]; exact b3) hop
    · rw [e3] at q
      by_cases hcc : c' = c
      · subst hcc; right; omega
      · unfold setB at q; rw [if_neg hcc] at q; exact keepT c' hc' q
  · left
    have e1 : s = 2 * (y / 2) := by omega
    have e2 : y = 2 * (y / 2) + 1 := by omega
    have e3 : s / 2 = y / 2 := by omega
    have hcl : y / 2 < 144 := by omega
    generalize y / 2 = c at *
    subst e1 e2
    have ht := thk c hcl (by omega) (by omega)
    refine ⟨by omega, by omega, a2, by omega, ?_, fun c' hc' q => ?_, keepO⟩
    · rw [e3, show decide ((2 * c) % 2 = 1) = false from decide_eq_false (by omega)]
      exact DF_unth v3 hcl (by rw [ht]; exact b3)
    · rw [e3] at q
      by_cases hcc : c' = c
      · subst hcc; left; omega
      · unfold setB at q; rw [if_neg hcc] at q; exact keepT c' hc' q
  · right; left
    have e1 : s = 2 * (s / 2) := by omega
    have e2 : y = 2 * (y / 2) + 1 := by omega
    have hcl : y / 2 < 144 := by omega
    have hne : y / 2 ≠ s / 2 := by
      have := pBes_char b3 b4
      omega
    generalize y / 2 = c at *
    generalize s / 2 = d at *
    subst e1 e2
    have h0 := on0_false h hF hcl b3 b4 hb
    have hk := onk c k d hcl b3 b4 (by omega) (by omega)
    refine ⟨hne, b2, b1, k, b3, b4, a2, by omega, DF_on v3 hcl b3 b4 (by rw [hk]; exact h0), keepT, fun c' k' d' hc' hk' hd' q => ?_⟩
    by_cases hx : c' = c ∧ k' = k
    · obtain ⟨rfl, rfl⟩ := hx
      rw [b4] at hd'
      cases hd'
      right; omega
    · unfold setO at q; rw [if_neg hx] at q; exact keepO c' k' d' hc' hk' hd' q
  · right; right
    have e1 : s = 2 * (s / 2) + 1 := by omega
    have e2 : y = 2 * (y / 2) := by omega
    have hcl : y / 2 < 144 := by omega
    have hne : y / 2 ≠ s / 2 := by
      have := pBes_char b3 b4
      omega
    have hop := pBes_opp hcl b3 b4
    have hdl := pBes_lt hcl b4
    generalize y / 2 = c at *
    generalize s / 2 = d at *
    subst e1 e2
    have hk := onk d (opp k) c hdl (opp_lt k) hop (by omega) (by omega)
    refine ⟨hne, b2, b1, opp k, opp_lt k, hop, a2, by omega, DF_off v3 hdl (opp_lt k) hop (by rw [hk]; exact b5), keepT, fun c' k' d' hc' hk' hd' q => ?_⟩
    by_cases hx : c' = d ∧ k' = opp k
    · obtain ⟨rfl, rfl⟩ := hx
      left; omega
    · unfold setO at q; rw [if_neg hx] at q; exact keepO c' k' d' hc' hk' hd' q
/-- at the beginning of the way: one more flows -/
theorem back_end (h : SV op sr th0 on0 by' od) {s : Nat} (hB : BK op sr th0 on0 by' od v s th on) (hb : by' s = some none) : FI op sr th on ∧ flV th on (v + 1) := by
  obtain ⟨v1, v2, v3, v4, v5⟩ := hB
  obtain ⟨a1, a2⟩ := (h s v2).1 hb
  have e : s = 2 * (s / 2) := by omega
  rw [e] at v3
  exact DF_end v3 a2
theorem back_start (hF : FI op sr th0 on0) (hv : flV th0 on0 v) {c : Nat} (hc : c < 144) (hb : by' (2 * c + 1) ≠ none) (hr : pRim c = true) : BK op sr th0 on0 by' od v (2 * c + 1) th0 on0 := ⟨hb, by omega, DF_start hF hv hr, fun _ _ q => absurd rfl q, fun _ _ _ _ _ _ q => absurd rfl q⟩
/-- how much may flow -/
theorem flV_le (h : flV th on v) : v ≤ 144 := by
  unfold flV at h
  have : sumN (fun c => bN (th c)) 144 ≤ sumN (fun _ => 1) 144 := sumN_le (fun i _ => bN_le _)
  rw [sumN_const] at this
  omega
theorem FI_0 : FI op sr (fun _ => false) (fun _ _ => false) ∧ flV (fun _ => false) (fun _ _ => false) 0 := by
  have o : ∀ c, oF (fun _ _ => false) c = 0 := fun c => rfl
  have i : ∀ c, iF (fun _ _ => false) c = 0 := by
    intro c
    have key : ∀ k, nbrV (fun _ _ => bN false) c k = 0 := by
      intro k
      unfold nbrV
      cases pBes c k <;> rfl
    unfold iF sum4
    rw [key 0, key 1, key 2, key 3]
  refine ⟨fun c _ => ⟨by rw [o]; exact Nat.zero_le _, by rw [i]; exact Nat.zero_le _, fun q => by rw [o, bN_f] at q; omega, fun q => by rw [i, bN_f] at q; omega, fun q => Bool.noConfusion q, fun k _ q => Bool.noConfusion q⟩, ?_⟩
  unfold flV
  have e : sumN (oF (fun _ _ => false)) 144 = sumN (fun _ => bN false) 144 := sumN_congr (fun c _ => o c)
  rw [e, Nat.add_zero]
end BK
