/-! PURE: a search, node by node -/
set_option maxRecDepth 100000
section SQs
variable {op sr th : Nat → Bool} {on : Nat → Nat → Bool} {by' : Nat → Option (Option Nat)} {od qf : Nat → Nat} {to : Nat}
def cntV (by' : Nat → Option (Option Nat)) : Nat := sumN (fun z => bN (by' z).isSome) 288
theorem cntV_le (by' : Nat → Option (Option Nat)) : cntV by' ≤ 288 := by
  have : cntV by' ≤ sumN (fun _ => 1) 288 := sumN_le (fun i _ => bN_le _)
  rw [sumN_const] at this
  exact this
def updY (by' : Nat → Option (Option Nat)) (z : Nat) (o : Option Nat) : Nat → Option (Option Nat) := fun j => if j = z then some o else by' j
theorem cntV_new {z : Nat} {o : Option Nat} (hz : z < 288) (h : by' z = none) : cntV (updY by' z o) = cntV by' + 1 := by
  have h1 := sumN_upd (f := fun z => bN (by' z).isSome) (x := 1) hz
  have e : cntV (updY by' z o) = sumN (fun j => if j = z then 1 else bN (by' j).isSome) 288 := by
    apply sumN_congr
    intro i _
    unfold updY
    by_cases hi : i = z <;> simp [hi, bN]
  rw [e]
  simp only [h] at h1
  exact h1
theorem cntV_lt {z : Nat} (hz : z < 288) (h : by' z = none) : cntV by' < 288 := by
  have := cntV_new (o := none) hz h
  have := cntV_le (updY by' z none)
  omega
/-- the search's own order -/
def SQ (op sr th : Nat → Bool) (on : Nat → Nat → Bool) (by' : Nat → Option (Option Nat)) (od qf : Nat → Nat) (to : Nat) : Prop := to = cntV by' ∧ (∀ k, k < to → qf k < 288 ∧ by' (qf k) ≠ none ∧ od (qf k) = k) ∧ (∀ z, z < 288 → by' z ≠ none → od z < to ∧ qf (od z) = z) ∧ SV op sr th on by' od
theorem SQ_0 : SQ op sr th on (fun _ => none) od qf 0 := by
  refine ⟨?_, fun k hk => by omega, fun z _ h => absurd rfl h, fun z _ => ⟨fun h => (by cases h), fun y h => (by cases h)⟩⟩
  unfold cntV
  simp only [Option.isSome_none, bN_f]
  rw [sumN_const]
theorem SQ_new {z : Nat} {o : Option Nat} (h : SQ op sr th on by' od qf to) (hz : z < 288) (hn : by' z = none) (h0 : o = none → z % 2 = 0 ∧ sr (z / 2) = true) (h1 : ∀ y, o = some y → y < 288 ∧ by' y ≠ none ∧ Rs op th on y z) : SQ op sr th on (updY by' z o) (updN od z to) (updN qf to z) (to + 1) := by
  obtain ⟨a1, a2, a3, a4⟩ := h
  have hv : ∀ j, j ≠ z → updY by' z o j = by' j := fun j hj => if_neg hj
  have hvz : updY by' z o z = some o := if_pos rfl
  have ho : ∀ j, j ≠ z → updN od z to j = od j := fun j hj => if_neg hj
  have hoz : updN od z to z = to := if_pos rfl
  refine ⟨by rw [cntV_new hz hn, a1], fun k hk => ?_, fun j hj hv' => ?_, fun j hj => ?_⟩
  · by_cases hkt : k = to
    · have e : updN qf to z k = z := if_pos hkt
      rw [e, hvz, hoz]
      exact ⟨hz, fun q => (by cases q), hkt.symm⟩
    · have e : updN qf to z k = qf k := if_neg hkt
      obtain ⟨b1, b2, b3⟩ := a2 k (by omega)
      have hne : qf k ≠ z := fun q => b2 (by rw [q]; exact hn)
      rw [e, hv _ hne, ho _ hne]
      exact ⟨b1, b2, b3⟩
  · by_cases hjz : j = z
    · subst hjz
      rw [hoz]
      exact ⟨by omega, if_pos rfl⟩
    · rw [hv j hjz] at hv'
      obtain ⟨b1, b2⟩ := a3 j hj hv'
      rw [ho j hjz]
      exact ⟨by omega, by unfold updN; rw [if_neg (by omega)]; exact b2⟩
  · by_cases hjz : j = z
    · subst hjz
      rw [hvz]
      refine ⟨fun q => h0 (by cases q; rfl), fun y q => ?_⟩
      have e : o = some y := by cases q; rfl
      obtain ⟨c1, c2, c3⟩ := h1 y e
      have hne : y ≠ j := fun q => c2 (by rw [q]; exact hn)
      obtain ⟨d1, -⟩ := a3 y c1 c2
      rw [hv y hne, ho y hne, hoz]
      exact ⟨c1, c2, d1, c3⟩
    · rw [hv j hjz]
      obtain ⟨c1, c2⟩ := a4 j hj
      refine ⟨c1, fun y q => ?_⟩
      obtain ⟨d1, d2, d3, d4⟩ := c2 y q
      have hne : y ≠ z := fun q => d2 (by rw [q]; exact hn)
      rw [hv y hne, ho y hne, ho j hjz]
      exact ⟨d1, d2, d3, d4⟩
/-- what was reached stays reached -/
def SLe (by' by2 : Nat → Option (Option Nat)) : Prop := ∀ z, by' z ≠ none → by2 z = by' z
theorem SLe.refl : SLe by' by' := fun _ _ => rfl
theorem SLe.trans {b1 b2 b3 : Nat → Option (Option Nat)} (h : SLe b1 b2) (h' : SLe b2 b3) : SLe b1 b3 := fun z hz => by
  have e := h z hz
  rw [h' z (by rw [e]; exact hz), e]
theorem SLe_upd {z : Nat} {o : Option Nat} (hn : by' z = none) : SLe by' (updY by' z o) := fun j hj => if_neg (fun q => hj (by rw [q]; exact hn))
/-- the nodes ahead of fr have been looked at -/
def Dn (op th : Nat → Bool) (on : Nat → Nat → Bool) (by' : Nat → Option (Option Nat)) (qf : Nat → Nat) (fr : Nat) : Prop := ∀ k, k < fr → (∀ z, z < 288 → Rs op th on (qf k) z → by' z ≠ none) ∧ (qf k % 2 = 1 → pRim (qf k / 2) = false)
/-- all has been looked at: nothing leads out -/
theorem SQ_closed (h : SQ op sr th on by' od qf to) (hD : Dn op th on by' qf to) (hs : ∀ c, c < 144 → sr c = true → by' (2 * c) ≠ none) : CX op sr th on (xIn by') (xOut by') := by
  obtain ⟨a1, a2, a3, a4⟩ := h
  have vis : ∀ z, z < 288 → by' z ≠ none → (∀ z', z' < 288 → Rs op th on z z' → by' z' ≠ none) ∧ (z % 2 = 1 → pRim (z / 2) = false) := by
    intro z hz hv
    obtain ⟨b1, b2⟩ := a3 z hz hv
    have := hD (od z) b1
    rw [b2] at this
    exact this
  have ne : ∀ {o : Option (Option Nat)}, o ≠ none → o.isSome = true := by intro o h; cases o with
    | none => exact absurd rfl h
    | some _ => rfl
  have en : ∀ {o : Option (Option Nat)}, o.isSome = true → o ≠ none := by intro o h q; rw [q] at h; cases h
  refine ⟨fun c hc h1 => ne (hs c hc h1), fun c hc h1 h2 => ?_, fun c hc h1 h2 => ?_, fun c k d hc hk h1 h2 h3 => ?_, fun c k d hc hk h1 h2 h3 => ?_, fun c hc h1 => ?_⟩
  · exact ne ((vis (2 * c) (by omega) (en h1)).1 (2 * c + 1) (by omega) (Or.inl ⟨by omega, rfl, by rw [show 2 * c / 2 = c by omega]; exact h2⟩))
  · exact ne ((vis (2 * c + 1) (by omega) (en h1)).1 (2 * c) (by omega) (Or.inr (Or.inl ⟨by omega, rfl, by rw [show (2 * c + 1) / 2 = c by omega]; exact h2⟩)))
  · have hd := pBes_lt hc h2
    exact ne ((vis (2 * c + 1) (by omega) (en h1)).1 (2 * d) (by omega) (Or.inr (Or.inr (Or.inl ⟨by omega, by omega, k, hk, by rw [show (2 * c + 1) / 2 = c by omega, show 2 * d / 2 = d by omega]; exact h2, by rw [show 2 * d / 2 = d by omega]; exact h3⟩))))
  · have hd := pBes_lt hc h2
    exact ne ((vis (2 * c) (by omega) (en h1)).1 (2 * d + 1) (by omega) (Or.inr (Or.inr (Or.inr ⟨by omega, by omega, k, hk, by rw [show 2 * c / 2 = c by omega, show (2 * d + 1) / 2 = d by omega]; exact h2, by rw [show (2 * d + 1) / 2 = d by omega]; exact h3⟩))))
  · have := (vis (2 * c + 1) (by omega) (en h1)).2 (by omega)
    rw [show (2 * c + 1) / 2 = c by omega] at this
    exact this
end SQs
/-! the reference's rows of a search -/
def cB (o : Option (Option Nat)) : Int32 := match o with
  | none => -1
  | some none => 1000
  | some (some y) => nI y
theorem cB_n {o : Option (Option Nat)} (h : ∀ y, o = some (some y) → y < 288) : (cB o = -1) = (o = none) := by
  cases o with
  | none => exact propext ⟨fun _ => rfl, fun _ => rfl⟩
  | some o =>
    cases o with
    | none =>
      apply propext
      exact ⟨fun q => absurd q (by decide), fun q => (by cases q)⟩
    | some y =>
      have := h y rfl
      apply propext
      exact ⟨fun q => by rw [show cB (some (some y)) = nI y from rfl, N_m1 (by omega)] at q; exact q.elim, fun q => by cases q⟩
def TwS (V : g_V) (by' : Nat → Option (Option Nat)) (qf : Nat → Nat) (to : Nat) : Prop := (∀ z, z < 288 → V 29 z = cB (by' z)) ∧ (∀ k, k < to → V 30 k = nI (qf k)) ∧ V 0 31 = nI to
def EqS (V V' : g_V) : Prop := (∀ j, j ≠ 0 → j ≠ 29 → j ≠ 30 → V' j = V j) ∧ ∀ i, i ≠ 31 → V' 0 i = V 0 i
theorem EqS.refl (V : g_V) : EqS V V := ⟨fun _ _ _ _ => rfl, fun _ _ => rfl⟩
theorem EqS.trans {A B C : g_V} (h : EqS A B) (h' : EqS B C) : EqS A C := ⟨fun j a b c => (h'.1 j a b c).trans (h.1 j a b c), fun i a => (h'.2 i a).trans (h.2 i a)⟩
section TR
variable {V : g_V} {op sr th : Nat → Bool} {on : Nat → Nat → Bool} {by' : Nat → Option (Option Nat)} {od qf : Nat → Nat} {to : Nat}
theorem SV_y (h : SV op sr th on by' od) {z : Nat} (hz : z < 288) : ∀ y, by' z = some (some y) → y < 288 := fun y q => ((h z hz).2 y q).1
/-- a node is reached, if it was not -/
theorem tw_reach_eq {z : Nat} {o : Option Nat} {x : Int32} (hS : SQ op sr th on by' od qf to) (hT : TwS V by' qf to) (hz : z < 288) (hx : x = cB (some o)) (h0 : o = none → z % 2 = 0 ∧ sr (z / 2) = true) (h1 : ∀ y, o = some y → y < 288 ∧ by' y ≠ none ∧ Rs op th on y z) :
    ∃ V' by2 od2 qf2 to2, tw_reach V (nI z) x = some V' ∧ SQ op sr th on by2 od2 qf2 to2 ∧ TwS V' by2 qf2 to2 ∧ EqS V V' ∧ SLe by' by2 ∧ by2 z ≠ none ∧ (∀ k, k < to → qf2 k = qf k) ∧ to ≤ to2 := by
  obtain ⟨t1, t2, t3⟩ := hT
  have hn := cB_n (SV_y hS.2.2.2 hz)
  unfold tw_reach
  simp (disch := omega) only [rdI_in, t1 z hz, hn]
  cases hb : by' z with
  | some o' =>
    rw [if_neg (fun q => by cases q)]
    exact ⟨V, by', od, qf, to, rfl, hS, ⟨t1, t2, t3⟩, EqS.refl V, SLe.refl, (fun q => by rw [hb] at q; cases q), fun _ _ => rfl, Nat.le_refl _⟩
  | none =>
    have hto : to < 288 := by rw [hS.1]; exact cntV_lt hz hb
    rw [if_pos rfl]
    simp (disch := omega) only [wrI_in, ptI_S, upd2_row, rowV_ne, rowV_eq, t3]
    refine ⟨_, updY by' z o, updN od z to, updN qf to z, to + 1, rfl, SQ_new hS hz hb h0 h1, ⟨fun j hj => ?_, fun k hk => ?_, ?_⟩, ⟨fun j a b c => ?_, fun i hi => ?_⟩, SLe_upd hb, (fun q => by unfold updY at q; rw [if_pos rfl] at q; cases q), fun k hk => if_neg (by omega), by omega⟩
    · simp (disch := omega) only [rowV_ne, rowV_eq]
      unfold updY
      by_cases hjz : j = z
      · rw [if_pos hjz, hjz, upd_eq, hx]
      · rw [if_neg hjz, upd_ne hjz]; exact t1 j hj
    · simp (disch := omega) only [rowV_ne, rowV_eq]
      unfold updN
      by_cases hkt : k = to
      · rw [if_pos hkt, hkt, upd_eq]
      · rw [if_neg hkt, upd_ne hkt]; exact t2 k (by omega)
    · simp (disch := omega) only [rowV_ne, rowV_eq, upd_eq, L_addR]
    · rw [rowV_ne a, rowV_ne c, rowV_ne b]
    · simp (disch := omega) only [rowV_ne, rowV_eq]
      exact upd_ne hi
end TR
