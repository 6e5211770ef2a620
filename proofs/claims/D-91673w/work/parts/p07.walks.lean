/-! PURE: ways from the shaft and what they cost -/
set_option maxRecDepth 100000
def Wk (b : Nat → Option Nat) (s : Nat → Bool) : Nat → Nat → Nat → Prop
  | 0, _, _ => False
  | n + 1, c, k => ∃ x, b c = some x ∧ ((s c = true ∧ k = x) ∨ ∃ i d k', i < 4 ∧ pBes c i = some d ∧ Wk b s n d k' ∧ k = k' + x)
/-- the least that a way to the rim costs -/
def isL (b : Nat → Option Nat) (s : Nat → Bool) (r : Option Nat) : Prop := match r with
  | none => ∀ c, c < 144 → pRim c = true → ∀ n k, ¬ Wk b s n c k
  | some m => (∃ c n, c < 144 ∧ pRim c = true ∧ Wk b s n c m) ∧ ∀ c, c < 144 → pRim c = true → ∀ n k, Wk b s n c k → m ≤ k
theorem isL_one {b : Nat → Option Nat} {s : Nat → Bool} {r r' : Option Nat} (h : isL b s r) (h' : isL b s r') : r = r' := by
  cases r with
  | none =>
    cases r' with
    | none => rfl
    | some m =>
      obtain ⟨⟨c, n, h1, h2, h3⟩, -⟩ := h'
      exact absurd h3 (h c h1 h2 n m)
  | some m =>
    cases r' with
    | none =>
      obtain ⟨⟨c, n, h1, h2, h3⟩, -⟩ := h
      exact absurd h3 (h' c h1 h2 n m)
    | some m' =>
      obtain ⟨⟨c, n, h1, h2, h3⟩, h4⟩ := h
      obtain ⟨⟨c', n', h1', h2', h3'⟩, h4'⟩ := h'
      have := h4 c' h1' h2' n' m' h3'
      have := h4' c h1 h2 n m h3
      congr 1
      omega
/-! the least of some -/
def omin (l y : Option Nat) : Option Nat := match y with
  | none => l
  | some k => match l with
    | none => some k
    | some m => if m ≤ k then some m else some k
theorem omin_le {l : Option Nat} {y : Option Nat} : (∀ m, l = some m → ∃ r, omin l y = some r ∧ r ≤ m) ∧ (∀ m, y = some m → ∃ r, omin l y = some r ∧ r ≤ m) ∧ ∀ r, omin l y = some r → l = some r ∨ y = some r := by
  cases y with
  | none => exact ⟨fun m h => ⟨m, h, Nat.le_refl m⟩, fun m h => (by cases h), fun r h => Or.inl h⟩
  | some k =>
    cases l with
    | none => exact ⟨fun m h => (by cases h), fun m h => ⟨k, rfl, by cases h; exact Nat.le_refl k⟩, fun r h => Or.inr h⟩
    | some m =>
      by_cases h : m ≤ k
      · have e : omin (some m) (some k) = some m := if_pos h
        rw [e]
        exact ⟨fun q hq => ⟨m, rfl, by cases hq; exact Nat.le_refl m⟩, fun q hq => ⟨m, rfl, by cases hq; exact h⟩, fun r hr => Or.inl hr⟩
      · have e : omin (some m) (some k) = some k := if_neg h
        rw [e]
        exact ⟨fun q hq => ⟨k, rfl, by cases hq; omega⟩, fun q hq => ⟨k, rfl, by cases hq; exact Nat.le_refl k⟩, fun r hr => Or.inr hr⟩
theorem om_itr (g : Nat → Option Nat) (l0 : Option Nat) (n : Nat) : (∀ m, l0 = some m → ∃ r, itr (fun i l => omin l (g i)) l0 n = some r ∧ r ≤ m) ∧ (∀ i m, i < n → g i = some m → ∃ r, itr (fun i l => omin l (g i)) l0 n = some r ∧ r ≤ m) ∧ ∀ r, itr (fun i l => omin l (g i)) l0 n = some r → l0 = some r ∨ ∃ i, i < n ∧ g i = some r := by
  induction n with
  | zero => exact ⟨fun m h => ⟨m, h, Nat.le_refl m⟩, fun i m h => by omega, fun r h => Or.inl h⟩
  | succ n ih =>
    obtain ⟨i1, i2, i3⟩ := ih
    rw [itr_s]
    obtain ⟨o1, o2, o3⟩ := omin_le (l := itr (fun i l => omin l (g i)) l0 n) (y := g n)
    refine ⟨fun m h => ?_, fun i m hi h => ?_, fun r h => ?_⟩
    · obtain ⟨r, h1, h2⟩ := i1 m h
      obtain ⟨r', h3, h4⟩ := o1 r h1
      exact ⟨r', h3, by omega⟩
    · by_cases hin : i = n
      · subst hin
        exact o2 m h
      · obtain ⟨r, h1, h2⟩ := i2 i m (by omega) h
        obtain ⟨r', h3, h4⟩ := o1 r h1
        exact ⟨r', h3, by omega⟩
    · rcases o3 r h with h1 | h1
      · rcases i3 r h1 with h2 | ⟨i, hi, h2⟩
        · exact Or.inl h2
        · exact Or.inr ⟨i, by omega, h2⟩
      · exact Or.inr ⟨n, by omega, h1⟩
/-! sums -/
def sumN (f : Nat → Nat) (n : Nat) : Nat := itr (fun i a => a + f i) 0 n
theorem sumN_s (f : Nat → Nat) (n : Nat) : sumN f (n + 1) = sumN f n + f n := rfl
theorem sumN_congr {f g : Nat → Nat} {n : Nat} (h : ∀ i, i < n → f i = g i) : sumN f n = sumN g n := by
  apply itr_congr
  intro i x hi
  rw [h i hi]
theorem sumN_le {f g : Nat → Nat} {n : Nat} (h : ∀ i, i < n → f i ≤ g i) : sumN f n ≤ sumN g n := by
  induction n with
  | zero => exact Nat.le_refl 0
  | succ n ih =>
    rw [sumN_s, sumN_s]
    have := ih (fun i hi => h i (by omega))
    have := h n (by omega)
    omega
theorem sumN_const (k n : Nat) : sumN (fun _ => k) n = n * k := by
  induction n with
  | zero => simp [sumN, itr]
  | succ n ih => rw [sumN_s, ih, Nat.succ_mul]
theorem sumN_upd {f : Nat → Nat} {c x : Nat} : ∀ {n : Nat}, c < n → sumN (fun j => if j = c then x else f j) n + f c = sumN f n + x := by
  intro n
  induction n with
  | zero => intro h; omega
  | succ n ih =>
    intro h
    rw [sumN_s, sumN_s]
    by_cases hc : c = n
    · subst hc
      have e : sumN (fun j => if j = c then x else f j) c = sumN f c := sumN_congr (fun i hi => if_neg (by omega))
      rw [e, if_pos rfl]
      omega
    · have := ih (by omega)
      rw [if_neg (show n ≠ c by omega)]
      omega
/-! coming nearer, cell by cell -/
def updO (fo : Nat → Option Nat) (c : Nat) (v : Option Nat) : Nat → Option Nat := fun j => if j = c then v else fo j
def nbr (fo : Nat → Option Nat) (x c i : Nat) : Option Nat := match pBes c i with
  | none => none
  | some d => match fo d with
    | none => none
    | some k => some (k + x)
def lwx (s : Nat → Bool) (fo : Nat → Option Nat) (x c : Nat) : Option Nat := itr (fun i l => omin l (nbr fo x c i)) (if s c = true then some x else none) 4
def cnt (fo : Nat → Option Nat) : Nat := sumN (fun c => if (fo c).isSome = true then 1 else 0) 144
def muO (fo : Nat → Option Nat) : Nat := sumN (fun c => match fo c with
  | none => 200
  | some k => k) 144
theorem cnt_le (fo : Nat → Option Nat) : cnt fo ≤ 144 := by
  have h : cnt fo ≤ sumN (fun _ => 1) 144 := sumN_le (fun i _ => by split <;> omega)
  rw [sumN_const] at h
  exact h
theorem cnt_new {fo : Nat → Option Nat} {c k : Nat} (hc : c < 144) (h : fo c = none) : cnt (updO fo c (some k)) = cnt fo + 1 := by
  have h1 := sumN_upd (f := fun c => if (fo c).isSome = true then 1 else 0) (x := 1) hc
  have e : cnt (updO fo c (some k)) = sumN (fun j => if j = c then 1 else if (fo j).isSome = true then 1 else 0) 144 := by
    apply sumN_congr
    intro i hi
    unfold updO
    by_cases hi2 : i = c <;> simp [hi2]
  rw [e]
  simp only [h] at h1
  exact h1
theorem cnt_old {fo : Nat → Option Nat} {c k m : Nat} (hc : c < 144) (h : fo c = some m) : cnt (updO fo c (some k)) = cnt fo := by
  have h1 := sumN_upd (f := fun c => if (fo c).isSome = true then 1 else 0) (x := 1) hc
  have e : cnt (updO fo c (some k)) = sumN (fun j => if j = c then 1 else if (fo j).isSome = true then 1 else 0) 144 := by
    apply sumN_congr
    intro i hi
    unfold updO
    by_cases hi2 : i = c <;> simp [hi2]
  rw [e]
  simp only [h, Option.isSome_some, if_true] at h1
  unfold cnt
  omega
theorem muO_upd {fo : Nat → Option Nat} {c k : Nat} (hc : c < 144) (h : ∀ m, fo c = some m → k < m) (hk : k < 200) : muO (updO fo c (some k)) < muO fo := by
  have h1 := sumN_upd (f := fun c => match fo c with
    | none => 200
    | some k => k) (x := k) hc
  have e : muO (updO fo c (some k)) = sumN (fun j => if j = c then k else match fo j with
    | none => 200
    | some k => k) 144 := by
    apply sumN_congr
    intro i hi
    unfold updO
    by_cases hi2 : i = c <;> simp [hi2]
  rw [e]
  unfold muO
  cases hf : fo c with
  | none => simp only [hf] at h1; omega
  | some m => have := h m hf; simp only [hf] at h1; omega
section RX
variable {b : Nat → Option Nat} {s : Nat → Bool} {fo : Nat → Option Nat}
/-- what stands is the cost of a way -/
def Snd (b : Nat → Option Nat) (s : Nat → Bool) (fo : Nat → Option Nat) : Prop := ∀ c k, c < 144 → fo c = some k → (∃ n, Wk b s n c k) ∧ k ≤ cnt fo
/-- nothing is nearer at c -/
def Cls (b : Nat → Option Nat) (s : Nat → Bool) (fo : Nat → Option Nat) (c : Nat) : Prop := ∀ x, b c = some x → ∀ l, lwx s fo x c = some l → ∃ m, fo c = some m ∧ m ≤ l
theorem lwx_way {x c l : Nat} (hb : b c = some x) (hc : c < 144) (hs : Snd b s fo) (h : lwx s fo x c = some l) : (∃ n, Wk b s n c l) ∧ l ≤ cnt fo + x := by
  obtain ⟨-, -, h3⟩ := om_itr (nbr fo x c) (if s c = true then some x else none) 4
  rcases h3 l h with h1 | ⟨i, hi, h1⟩
  · by_cases hsc : s c = true
    · rw [if_pos hsc] at h1
      cases h1
      exact ⟨⟨1, x, hb, Or.inl ⟨hsc, rfl⟩⟩, by omega⟩
    · rw [if_neg hsc] at h1
      cases h1
  · unfold nbr at h1
    cases hbs : pBes c i with
    | none => rw [hbs] at h1; cases h1
    | some d =>
      rw [hbs] at h1
      simp only at h1
      cases hfd : fo d with
      | none => rw [hfd] at h1; cases h1
      | some k =>
        rw [hfd] at h1
        simp only at h1
        cases h1
        obtain ⟨⟨n, hn⟩, hk⟩ := hs d k (pBes_lt hc hbs) hfd
        exact ⟨⟨n + 1, x, hb, Or.inr ⟨i, d, k, hi, hbs, hn, rfl⟩⟩, by omega⟩
theorem lwx_src {x c : Nat} (h : s c = true) : ∃ l, lwx s fo x c = some l ∧ l ≤ x := (om_itr (nbr fo x c) (if s c = true then some x else none) 4).1 x (by rw [if_pos h])
theorem lwx_nbr {x c i d k : Nat} (hi : i < 4) (hb : pBes c i = some d) (hd : fo d = some k) : ∃ l, lwx s fo x c = some l ∧ l ≤ k + x := (om_itr (nbr fo x c) (if s c = true then some x else none) 4).2.1 i (k + x) hi (by unfold nbr; rw [hb]; simp only [hd])
/-- if nothing is nearer anywhere, what stands is the least -/
theorem cls_least (h : ∀ c, c < 144 → Cls b s fo c) : ∀ n c k, c < 144 → Wk b s n c k → ∃ m, fo c = some m ∧ m ≤ k := by
  intro n
  induction n with
  | zero => intro c k _ hw; exact hw.elim
  | succ n ih =>
    intro c k hc hw
    obtain ⟨x, hb, h1 | ⟨i, d, k', hi, hbs, hw', rfl⟩⟩ := hw
    · obtain ⟨hsc, rfl⟩ := h1
      obtain ⟨l, h2, h3⟩ := lwx_src (fo := fo) (x := k) hsc
      obtain ⟨m, h4, h5⟩ := h c hc k hb l h2
      exact ⟨m, h4, by omega⟩
    · obtain ⟨m', h2, h3⟩ := ih d k' (pBes_lt hc hbs) hw'
      obtain ⟨l, h4, h5⟩ := lwx_nbr (s := s) (x := x) hi hbs h2
      obtain ⟨m, h6, h7⟩ := h c hc x hb l h4
      exact ⟨m, h6, by omega⟩
/-- one cell is looked at -/
def rlx (b : Nat → Option Nat) (s : Nat → Bool) (c : Nat) (q : Bool × (Nat → Option Nat)) : Bool × (Nat → Option Nat) := match b c with
  | none => q
  | some x => match lwx s q.2 x c with
    | none => q
    | some l => match q.2 c with
      | none => (true, updO q.2 c (some l))
      | some m => if l < m then (true, updO q.2 c (some l)) else q
theorem Snd_upd {c x l : Nat} (hb : b c = some x) (hx : x ≤ 1) (hc : c < 144) (hs : Snd b s fo) (hl : lwx s fo x c = some l) (hm : ∀ m, fo c = some m → l < m) : Snd b s (updO fo c (some l)) := by
  obtain ⟨hw, hle⟩ := lwx_way hb hc hs hl
  have hcnt : cnt fo ≤ cnt (updO fo c (some l)) ∧ l ≤ cnt (updO fo c (some l)) := by
    cases hf : fo c with
    | none => rw [cnt_new hc hf]; omega
    | some m =>
      have h1 := (hs c m hc hf).2
      have h2 := hm m hf
      rw [cnt_old hc hf]
      omega
  intro j k hj hk
  unfold updO at hk
  by_cases hjc : j = c
  · rw [if_pos hjc] at hk
    cases hk
    subst hjc
    exact ⟨hw, hcnt.2⟩
  · rw [if_neg hjc] at hk
    obtain ⟨h1, h2⟩ := hs j k hj hk
    exact ⟨h1, by omega⟩
/-- what a round over the cells keeps -/
def rlI (b : Nat → Option Nat) (s : Nat → Bool) (fo0 : Nat → Option Nat) (c : Nat) (q : Bool × (Nat → Option Nat)) : Prop := Snd b s q.2 ∧ (q.1 = false → q.2 = fo0 ∧ ∀ c', c' < c → Cls b s fo0 c') ∧ (q.1 = true → muO q.2 < muO fo0)
theorem rlx_I (hb1 : ∀ c x, b c = some x → x ≤ 1) {fo0 : Nat → Option Nat} {c : Nat} {q : Bool × (Nat → Option Nat)} (hc : c < 144) (hI : rlI b s fo0 c q) : rlI b s fo0 (c + 1) (rlx b s c q) := by
  obtain ⟨m0, fo⟩ := q
  obtain ⟨hs, h1, h2⟩ := hI
  simp only at hs h1 h2
  have keep : Cls b s fo c → rlI b s fo0 (c + 1) (m0, fo) := by
    intro hcl
    refine ⟨hs, fun h => ?_, h2⟩
    obtain ⟨e, h3⟩ := h1 h
    subst e
    refine ⟨rfl, fun c' hc' => ?_⟩
    by_cases hcc : c' = c
    · subst hcc; exact hcl
    · exact h3 c' (by omega)
  have set : ∀ x l, b c = some x → lwx s fo x c = some l → (∀ m, fo c = some m → l < m) → rlI b s fo0 (c + 1) (true, updO fo c (some l)) := by
    intro x l hb hl hm
    refine ⟨Snd_upd hb (hb1 c x hb) hc hs hl hm, fun h => Bool.noConfusion h, fun _ => ?_⟩
    have h200 : l < 200 := by
      have := (lwx_way hb hc hs hl).2
      have := cnt_le fo
      have := hb1 c x hb
      omega
    have h3 := muO_upd hc hm h200
    cases m0 with
    | false => rw [← (h1 rfl).1]; exact h3
    | true => have := h2 rfl; simp only at this ⊢; omega
  unfold rlx
  cases hb : b c with
  | none => exact keep (fun x hx => by rw [hb] at hx; cases hx)
  | some x =>
    simp only
    cases hl : lwx s fo x c with
    | none => exact keep (fun x' hx l' hl' => by rw [hb] at hx; cases hx; rw [hl] at hl'; cases hl')
    | some l =>
      simp only
      cases hf : fo c with
      | none => exact set x l hb hl (fun m hm => by rw [hf] at hm; cases hm)
      | some m =>
        simp only
        by_cases hlm : l < m
        · rw [if_pos hlm]
          exact set x l hb hl (fun m' hm' => by rw [hf] at hm'; cases hm'; exact hlm)
        · rw [if_neg hlm]
          exact keep (fun x' hx l' hl' => by rw [hb] at hx; cases hx; rw [hl] at hl'; cases hl'; exact ⟨m, hf, by omega⟩)
/-- the least at the rim -/
def bestR (fo : Nat → Option Nat) : Option Nat := itr (fun c l => omin l (if pRim c = true then fo c else none)) none 144
theorem bestR_isL (hs : Snd b s fo) (h : ∀ c, c < 144 → Cls b s fo c) : isL b s (bestR fo) := by
  obtain ⟨-, h2, h3⟩ := om_itr (fun c => if pRim c = true then fo c else none) none 144
  have low : ∀ c, c < 144 → pRim c = true → ∀ n k, Wk b s n c k → ∃ r, bestR fo = some r ∧ r ≤ k := by
    intro c hc hr n k hw
    obtain ⟨m, h4, h5⟩ := cls_least h n c k hc hw
    obtain ⟨r, h6, h7⟩ := h2 c m hc (by simp only [hr, if_true]; exact h4)
    exact ⟨r, h6, by omega⟩
  cases hbr : bestR fo with
  | none =>
    intro c hc hr n k hw
    obtain ⟨r, h4, -⟩ := low c hc hr n k hw
    rw [hbr] at h4
    cases h4
  | some m =>
    refine ⟨?_, fun c hc hr n k hw => ?_⟩
    · rcases h3 m hbr with h4 | ⟨c, hc, h4⟩
      · cases h4
      · by_cases hr : pRim c = true
        · simp only [hr, if_true] at h4
          obtain ⟨⟨n, hn⟩, -⟩ := hs c m hc h4
          exact ⟨c, n, hc, hr, hn⟩
        · simp only [hr] at h4
          cases h4
    · obtain ⟨r, h4, h5⟩ := low c hc hr n k hw
      rw [hbr] at h4
      cases h4
      exact h5
end RX
