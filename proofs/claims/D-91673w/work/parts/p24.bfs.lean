/-! PURE: ways found cell by cell (what is queued) -/
set_option maxRecDepth 100000
/-- cells lie beside one another -/
theorem pBes_back {c i d : Nat} (hc : c < 144) (hi : i < 4) (h : pBes c i = some d) : ∃ i', i' < 4 ∧ pBes d i' = some c := by
  have h4 : i = 0 ∨ i = 1 ∨ i = 2 ∨ i = 3 := by omega
  rcases h4 with rfl | rfl | rfl | rfl
  · have e : pBes c 0 = if c % 12 = 11 then none else some (c + 1) := rfl
    rw [e] at h
    split at h
    · cases h
    · cases h
      have e1 : pBes (c + 1) 1 = if (c + 1) % 12 = 0 then none else some (c + 1 - 1) := rfl
      exact ⟨1, by omega, by rw [e1, if_neg (by omega)]; simp⟩
  · have e : pBes c 1 = if c % 12 = 0 then none else some (c - 1) := rfl
    rw [e] at h
    split at h
    · cases h
    · cases h
      have e1 : pBes (c - 1) 0 = if (c - 1) % 12 = 11 then none else some (c - 1 + 1) := rfl
      exact ⟨0, by omega, by rw [e1, if_neg (by omega)]; congr 1; omega⟩
  · have e : pBes c 2 = if c / 12 = 11 then none else some (c + 12) := rfl
    rw [e] at h
    split at h
    · cases h
    · cases h
      have e1 : pBes (c + 12) 3 = if (c + 12) / 12 = 0 then none else some (c + 12 - 12) := rfl
      exact ⟨3, by omega, by rw [e1, if_neg (by omega)]; congr 1⟩
  · have e : pBes c 3 = if c / 12 = 0 then none else some (c - 12) := rfl
    rw [e] at h
    split at h
    · cases h
    · cases h
      have e1 : pBes (c - 12) 2 = if (c - 12) / 12 = 11 then none else some (c - 12 + 12) := rfl
      exact ⟨2, by omega, by rw [e1, if_neg (by omega)]; congr 1; omega⟩
/-- b tells which cells are open (each costs 1), s where ways begin; fo what stands of a cell, qf what is queued -/
def BQ (b : Nat → Option Nat) (s : Nat → Bool) (fr to : Nat) (fo : Nat → Option Nat) (qf : Nat → Nat) : Prop :=
  to = cnt fo
  ∧ (∀ k, k < to → qf k < 144 ∧ ∃ v, fo (qf k) = some v)
  ∧ (∀ c v, c < 144 → fo c = some v → ∃ k, k < to ∧ qf k = c)
  ∧ (∀ c v, c < 144 → fo c = some v → ∃ n, Wk b s n c v)
  ∧ (∀ k k' v v', k ≤ k' → k' < to → fo (qf k) = some v → fo (qf k') = some v' → v ≤ v')
  ∧ (∀ c, c < 144 → s c = true → b c = some 1 → ∃ v, fo c = some v ∧ v ≤ 1)
  ∧ (∀ k, k < fr → pRim (qf k) = false ∧ ∀ v, fo (qf k) = some v → ∀ i d, i < 4 → pBes (qf k) i = some d → b d = some 1 → ∃ v', fo d = some v' ∧ v' ≤ v + 1)
section BF
variable {b : Nat → Option Nat} {s : Nat → Bool} {fr to : Nat} {fo : Nat → Option Nat} {qf : Nat → Nat}
def updN (f : Nat → Nat) (k x : Nat) : Nat → Nat := fun j => if j = k then x else f j
/-- one more cell is queued -/
theorem BQ_mark {c v i d : Nat} (h : BQ b s fr to fo qf) (hfr : fr < to) (hc : qf fr = c) (hv : fo c = some v) (hle : ∀ k v', k < to → fo (qf k) = some v' → v' ≤ v + 1) (hi : i < 4) (hd : pBes c i = some d) (hn : fo d = none) (hb : b d = some 1) :
    BQ b s fr (to + 1) (updO fo d (some (v + 1))) (updN qf to d) ∧ (updN qf to d) fr = c ∧ updO fo d (some (v + 1)) c = some v ∧ ∀ k v', k < to + 1 → updO fo d (some (v + 1)) (updN qf to d k) = some v' → v' ≤ v + 1 := by
  obtain ⟨h1, h2, h3, h4, h5, h6, h7⟩ := h
  have hc144 : c < 144 := by rw [← hc]; exact (h2 fr hfr).1
  have hd144 := pBes_lt hc144 hd
  have hq : ∀ k, k < to → updN qf to d k = qf k := fun k hk => if_neg (by omega)
  have hqt : updN qf to d to = d := if_pos rfl
  have hne : ∀ k, k < to → qf k ≠ d := by
    intro k hk e
    obtain ⟨-, v', hv'⟩ := h2 k hk
    rw [e, hn] at hv'
    cases hv'
  have hf : ∀ j, j ≠ d → updO fo d (some (v + 1)) j = fo j := fun j hj => if_neg hj
  have hfd : updO fo d (some (v + 1)) d = some (v + 1) := if_pos rfl
  have hcd : c ≠ d := by rw [← hc]; exact hne fr hfr
  have val : ∀ k v', k < to + 1 → updO fo d (some (v + 1)) (updN qf to d k) = some v' → (k < to ∧ fo (qf k) = some v') ∨ (k = to ∧ v' = v + 1) := by
    intro k v' hk hv'
    by_cases hkt : k = to
    · right
      subst hkt
      rw [hqt, hfd] at hv'
      cases hv'
      exact ⟨rfl, rfl⟩
    · left
      have hk2 : k < to := by omega
      rw [hq k hk2, hf _ (hne k hk2)] at hv'
      exact ⟨hk2, hv'⟩
  have hall : ∀ k v', k < to + 1 → updO fo d (some (v + 1)) (updN qf to d k) = some v' → v' ≤ v + 1 := by
    intro k v' hk hv'
    rcases val k v' hk hv' with ⟨h8, h9⟩ | ⟨-, h9⟩
    · exact hle k v' h8 h9
    · omega
  refine ⟨⟨?_, fun k hk => ?_, fun c' v' hc' hv' => ?_, fun c' v' hc' hv' => ?_, fun k k' v1 v2 hkk hk' hv1 hv2 => ?_, fun c' hc' hs hb' => ?_, fun k hk => ?_⟩, ?_, ?_, hall⟩
  · rw [cnt_new hd144 hn, h1]
  · by_cases hkt : k = to
    · subst hkt
      rw [hqt, hfd]
      exact ⟨hd144, _, rfl⟩
    · have hk2 : k < to := by omega
      rw [hq k hk2, hf _ (hne k hk2)]
      exact h2 k hk2
  · by_cases hcd' : c' = d
    · exact ⟨to, by omega, by rw [hqt, hcd']⟩
    · rw [hf _ hcd'] at hv'
      obtain ⟨k, hk, hk2⟩ := h3 c' v' hc' hv'
      exact ⟨k, by omega, by rw [hq k hk, hk2]⟩
  · by_cases hcd' : c' = d
    · subst hcd'
      rw [hfd] at hv'
      cases hv'
      obtain ⟨n, hn'⟩ := h4 c v hc144 hv
      have hback : ∃ i', i' < 4 ∧ pBes c' i' = some c := pBes_back hc144 hi hd
      obtain ⟨i', hi', hb'⟩ := hback
      exact ⟨n + 1, 1, hb, Or.inr ⟨i', c, v, hi', hb', hn', rfl⟩⟩
    · rw [hf _ hcd'] at hv'
      exact h4 c' v' hc' hv'
  · have hk : k < to + 1 := by omega
    rcases val k' v2 hk' hv2 with ⟨h8, h9⟩ | ⟨-, h9⟩
    · rcases val k v1 hk hv1 with ⟨h10, h11⟩ | ⟨h10, h11⟩
      · exact h5 k k' v1 v2 hkk h8 h11 h9
      · omega
    · rw [h9]
      exact hall k v1 hk hv1
  · obtain ⟨v', h8, h9⟩ := h6 c' hc' hs hb'
    by_cases hcd' : c' = d
    · rw [hcd', hn] at h8; cases h8
    · exact ⟨v', by rw [hf _ hcd']; exact h8, h9⟩
  · have hk2 : k < to := by omega
    rw [hq k hk2, hf _ (hne k hk2)]
    refine ⟨(h7 k hk).1, fun v1 hv1 i1 d1 hi1 hd1 hb1 => ?_⟩
    obtain ⟨v', h8, h9⟩ := (h7 k hk).2 v1 hv1 i1 d1 hi1 hd1 hb1
    by_cases hcd' : d1 = d
    · rw [hcd', hn] at h8; cases h8
    · exact ⟨v', by rw [hf _ hcd']; exact h8, h9⟩
  · rw [hq fr hfr, hc]
  · rw [hf _ hcd]; exact hv
/-- what is queued tells the least: at the first cell of the rim -/
theorem BQ_rim {v : Nat} (h : BQ b s fr to fo qf) (h1b : ∀ c x, b c = some x → x = 1) (hfr : fr < to) (hv : fo (qf fr) = some v) (hr : pRim (qf fr) = true) : isL b s (some v) := by
  obtain ⟨h1, h2, h3, h4, h5, h6, h7⟩ := h
  obtain ⟨hc, -⟩ := h2 fr hfr
  obtain ⟨n, hn⟩ := h4 _ v hc hv
  refine ⟨⟨qf fr, n, hc, hr, hn⟩, ?_⟩
  have key : ∀ n c k, c < 144 → Wk b s n c k → v ≤ k ∨ ∃ v', fo c = some v' ∧ v' ≤ k := by
    intro n
    induction n with
    | zero => intro c k _ hw; exact hw.elim
    | succ n ih =>
      intro c k hc hw
      obtain ⟨x, hb, hw2⟩ := hw
      have hx := h1b c x hb
      subst hx
      rcases hw2 with ⟨hsc, rfl⟩ | ⟨i, d, k', hi, hbs, hw', rfl⟩
      · obtain ⟨v', h8, h9⟩ := h6 c hc hsc hb
        exact Or.inr ⟨v', h8, h9⟩
      · have hd := pBes_lt hc hbs
        rcases ih d k' hd hw' with h8 | ⟨v', h8, h9⟩
        · exact Or.inl (by omega)
        · obtain ⟨kq, hkq, hqd⟩ := h3 d v' hd h8
          by_cases hkf : kq < fr
          · obtain ⟨i', hi', hb'⟩ := pBes_back hc hi hbs
            obtain ⟨v2, h10, h11⟩ := (h7 kq hkf).2 v' (by rw [hqd]; exact h8) i' c hi' (by rw [hqd]; exact hb') hb
            exact Or.inr ⟨v2, h10, by omega⟩
          · have := h5 fr kq v v' (by omega) hkq hv (by rw [hqd]; exact h8)
            exact Or.inl (by omega)
  intro c hc hrc n k hw
  rcases key n c k hc hw with h8 | ⟨v', h8, h9⟩
  · exact h8
  · obtain ⟨kq, hkq, hqd⟩ := h3 c v' hc h8
    by_cases hkf : kq < fr
    · have := (h7 kq hkf).1
      rw [hqd, hrc] at this
      cases this
    · have := h5 fr kq v v' (by omega) hkq hv (by rw [hqd]; exact h8)
      omega
theorem BQ_none (h : BQ b s to to fo qf) (h1b : ∀ c x, b c = some x → x = 1) : isL b s none := by
  obtain ⟨h1, h2, h3, h4, h5, h6, h7⟩ := h
  have key : ∀ n c k, c < 144 → Wk b s n c k → ∃ v', fo c = some v' := by
    intro n
    induction n with
    | zero => intro c k _ hw; exact hw.elim
    | succ n ih =>
      intro c k hc hw
      obtain ⟨x, hb, hw2⟩ := hw
      have hx := h1b c x hb
      subst hx
      rcases hw2 with ⟨hsc, rfl⟩ | ⟨i, d, k', hi, hbs, hw', rfl⟩
      · obtain ⟨v', h8, h9⟩ := h6 c hc hsc hb
        exact ⟨v', h8⟩
      · have hd := pBes_lt hc hbs
        obtain ⟨v', h8⟩ := ih d k' hd hw'
        obtain ⟨kq, hkq, hqd⟩ := h3 d v' hd h8
        obtain ⟨i', hi', hb'⟩ := pBes_back hc hi hbs
        obtain ⟨v2, h10, h11⟩ := (h7 kq hkq).2 v' (by rw [hqd]; exact h8) i' c hi' (by rw [hqd]; exact hb') hb
        exact ⟨v2, h10⟩
  intro c hc hrc n k hw
  obtain ⟨v', h8⟩ := key n c k hc hw
  obtain ⟨kq, hkq, hqd⟩ := h3 c v' hc h8
  have := (h7 kq hkq).1
  rw [hqd, hrc] at this
  cases this
end BF
