/-! PURE: loops -/
set_option maxRecDepth 100000
section PL
variable {σ ρ : Type} {F : (σ → Option ρ) → σ → Option ρ}
/-- a loop whose states are known -/
theorem lp_run {N : Nat} {st : Nat → σ} {out : ρ} (hstep : ∀ rec i, i < N → F rec (st i) = rec (st (i + 1))) (hexit : ∀ rec, F rec (st N) = some out) : ∀ n i, i ≤ N → N - i < n → lp F n (st i) = some out := by
  intro n
  induction n with
  | zero => intro i _ h; omega
  | succ n ih =>
    intro i hi hn
    rw [lp_s]
    by_cases h : i = N
    · subst h; exact hexit _
    · rw [hstep _ i (by omega)]
      exact ih (i + 1) (by omega) (by omega)
/-- a loop by an invariant and a measure -/
theorem lp_wf {I : σ → Prop} {P : ρ → Prop} (μ : σ → Nat) (h : ∀ rec s, I s → (∃ out, F rec s = some out ∧ P out) ∨ ∃ s', F rec s = rec s' ∧ I s' ∧ μ s' < μ s) : ∀ n s, I s → μ s < n → ∃ out, lp F n s = some out ∧ P out := by
  intro n
  induction n with
  | zero => intro s _ hs; omega
  | succ n ih =>
    intro s hs hn
    rw [lp_s]
    rcases h (lp F n) s hs with h1 | ⟨s', h1, h2, h3⟩
    · exact h1
    · rw [h1]
      exact ih s' h2 (by omega)
end PL
theorem rdI_in {ρ : Type} {f : Nat → Int32} {n j : Nat} {k : Int32 → Option ρ} (h : j < n) (hn : n < 2 ^ 31) : rdI f n (nI j) k = k (f j) := by
  have h1 := nI_in h hn
  unfold rdI
  rw [if_neg h1, nI_clamp (by omega)]
theorem wrI_in {ρ : Type} {V : g_V} {a n j : Nat} {x : Int32} {k : g_V → Option ρ} (h : j < n) (hn : n < 2 ^ 31) : wrI V a n (nI j) x k = k (upd2 V a j x) := by
  have h1 := nI_in h hn
  unfold wrI
  rw [if_neg h1, nI_clamp (by omega)]
theorem tw_in_eq (v lo hi : Int64) : tw_in v lo hi = some (if lo ≤ v ∧ v ≤ hi then 1 else 0) := by
  unfold tw_in
  by_cases h1 : lo ≤ v
  · have h2 : ¬ lg_cmp v lo < 0 := Int32.not_lt.mpr ((lg_cmp_ge v lo).mpr h1)
    rw [if_neg h2]
    by_cases h3 : v ≤ hi
    · have h4 : ¬ 0 < lg_cmp v hi := Int32.not_lt.mpr ((lg_cmp_le v hi).mpr h3)
      rw [if_neg h4, if_pos ⟨h1, h3⟩]
    · have h4 : 0 < lg_cmp v hi := Int32.not_le.mp fun h => h3 ((lg_cmp_le v hi).mp h)
      rw [if_pos h4, if_neg (fun h => h3 h.2)]
  · have h2 : lg_cmp v lo < 0 := Int32.not_le.mp fun h => h1 ((lg_cmp_ge v lo).mp h)
    rw [if_pos h2, if_neg (fun h => h1 h.1)]
/-- a range, told by ints -/
theorem tw_inI (x : Int32) (lo hi : Int64) : tw_in x.toInt64 lo hi = some (if lo.toInt ≤ x.toInt ∧ x.toInt ≤ hi.toInt then 1 else 0) := by
  rw [tw_in_eq]
  simp only [Int64.le_iff_toInt_le, Int32.toInt_toInt64]
