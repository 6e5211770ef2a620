/-! PURE: a text is read: what is told against the fresh row, group by group -/
set_option maxRecDepth 100000
/-- the object: far, cold, the shaft -/
def G1 (Sh : g_Sh) (V : g_V) (κ u : Nat → Nat) (w : Nat → Int32) : Prop := (∃ rf, Sh (u 0) = some (d_obj 2 13 rf) ∧ rf 0 = some (some (u 1)) ∧ rf 1 = some (some (u 2)) ∧ rf 2 = some (some (u 3)) ∧ rf 3 = some (some (u 8)) ∧ rf 4 = some (some (u 10)) ∧ rf 5 = some (some (u 12)) ∧ ∀ i, 6 ≤ i → i ≤ 12 → rf i = none) ∧ κ (u 0) = 1 ∧ V (u 0) 6 = w 5 ∧ V (u 0) 11 = w 6 ∧ ((w 7 = 0 ∧ V (u 0) 7 = -1) ∨ (w 7 = 1 ∧ (∃ l t r b, w 8 = nI l ∧ w 9 = nI t ∧ w 10 = nI r ∧ w 11 = nI b ∧ 1 ≤ l ∧ l ≤ r ∧ r ≤ 10 ∧ 1 ≤ t ∧ t ≤ b ∧ b ≤ 10) ∧ V (u 0) 7 = w 8 ∧ V (u 0) 8 = w 9 ∧ V (u 0) 9 = w 10 ∧ V (u 0) 10 = w 11)) ∧ (∃ f, w 5 = nI f ∧ 1 ≤ f ∧ f ≤ 300) ∧ ∃ c, w 6 = nI c ∧ c ≤ 99999
/-- the grounds -/
def G2 (Sh : g_Sh) (V : g_V) (κ u : Nat → Nat) (w gs : Nat → Int32) : Prop := κ (u 1) = 2 ∧ ∃ ge, Sh (u 1) = some (d_ref 8 4 ge) ∧ ∀ g, g < 4 → (gs g = 0 ∧ ge g = none ∧ w (20 + 4 * g) = 10 ∧ w (20 + 4 * g + 1) = 15 ∧ w (20 + 4 * g + 2) = 100 ∧ w (20 + 4 * g + 3) = 0) ∨ (gs g = 1 ∧ ge g = some (u (4 + g)) ∧ κ (u (4 + g)) = 2 ∧ (∃ rf, Sh (u (4 + g)) = some (d_obj 4 4 rf) ∧ ∀ i, i < 4 → rf i = none) ∧ (∀ i, i < 4 → V (u (4 + g)) i = w (20 + 4 * g + i)) ∧ (∃ a, w (20 + 4 * g) = nI a ∧ a ≤ 15) ∧ (∃ a, w (20 + 4 * g + 1) = nI a ∧ a ≤ 15) ∧ (∃ a, w (20 + 4 * g + 2) = nI a ∧ 1 ≤ a ∧ a ≤ 999) ∧ ∃ a, w (20 + 4 * g + 3) = -(nI a) ∧ a ≤ 30)
/-- what is laid -/
def G3 (Sh : g_Sh) (V : g_V) (κ u : Nat → Nat) (w : Nat → Int32) : Prop := κ (u 2) = 3 ∧ Sh (u 2) = some (d_int 0 144) ∧ ∀ c, c < 144 → V (u 2) c = w (48 + c) ∧ ∃ g, g < 4 ∧ w (48 + c) = nI g
/-- the stream -/
def G4 (Sh : g_Sh) (V : g_V) (κ u : Nat → Nat) (w ss : Nat → Int32) : Prop := κ (u 3) = 4 ∧ Sh (u 3) = some (d_int 0 12) ∧ ∀ y, y < 12 → (ss y = 0 ∧ V (u 3) y = -1 ∧ w (36 + y) = 0) ∨ (ss y = 1 ∧ V (u 3) y = w (36 + y) ∧ ∃ k, w (36 + y) = nI k ∧ k ≤ 30)
/-- pipes -/
def G5 (Sh : g_Sh) (V : g_V) (κ u : Nat → Nat) (w : Nat → Int32) (np : Nat) : Prop := np ≤ 12 ∧ w 2 = nI np ∧ LSt Sh (u 8) (u 9) np (fun p => u (20 + p)) ∧ V (u 8) 2 = nI np ∧ κ (u 8) = 5 ∧ κ (u 9) = 5 ∧ (∀ p, p < np → κ (u (20 + p)) = 5 ∧ (∃ rf, Sh (u (20 + p)) = some (d_obj 5 6 rf) ∧ ∀ j, j < 6 → rf j = none) ∧ (∀ j, j < 6 → V (u (20 + p)) j = w (624 + 6 * p + j)) ∧ (∃ c, w (624 + 6 * p) = nI c ∧ c < 144) ∧ (∃ k, w (624 + 6 * p + 1) = -(nI k) ∧ k ≤ 400) ∧ (∃ k, w (624 + 6 * p + 2) = nI k ∧ k ≤ 60) ∧ w (624 + 6 * p + 3) = 1) ∧ (∀ p q, p < np → q < np → w (624 + 6 * p) = w (624 + 6 * q) → p = q) ∧ ∀ j, 624 + 6 * np ≤ j → j < 732 → w j = 0
/-- houses -/
def G6 (Sh : g_Sh) (V : g_V) (κ u : Nat → Nat) (w : Nat → Int32) (nh : Nat) : Prop := nh ≤ 6 ∧ w 3 = nI nh ∧ LSt Sh (u 10) (u 11) nh (fun p => u (40 + p)) ∧ V (u 10) 2 = nI nh ∧ κ (u 10) = 6 ∧ κ (u 11) = 6 ∧ (∀ p, p < nh → κ (u (40 + p)) = 6 ∧ (∃ rf, Sh (u (40 + p)) = some (d_obj 6 3 rf) ∧ ∀ j, j < 3 → rf j = none) ∧ V (u (40 + p)) 0 = w (732 + 3 * p) ∧ V (u (40 + p)) 1 = w (732 + 3 * p + 1) ∧ V (u (40 + p)) 2 = -1 ∧ ∃ c, w (732 + 3 * p) = nI c ∧ c < 11)
/-- rules -/
def G7 (Sh : g_Sh) (V : g_V) (κ u : Nat → Nat) (w : Nat → Int32) (nr : Nat) : Prop := nr ≤ 4 ∧ w 4 = nI nr ∧ LSt Sh (u 12) (u 13) nr (fun p => u (60 + p)) ∧ V (u 12) 2 = nI nr ∧ κ (u 12) = 7 ∧ κ (u 13) = 7 ∧ (∀ r, r < nr → RU1 Sh V (fun a => κ a = 7) (u (60 + r)) (u (70 + r)) (fun c => u (80 + 3 * r + c)) (fun i => w (750 + 10 * r + i))) ∧ ∀ j, 750 + 10 * nr ≤ j → j < 790 → w j = 0
/-- all else is nought -/
def G8 (w : Nat → Int32) : Prop := ∀ j, (j = 1 ∨ (12 ≤ j ∧ j < 20) ∨ (192 ≤ j ∧ j < 624) ∨ (790 ≤ j ∧ j < 810)) → w j = 0
section GK2
variable {Sh Sh' : g_Sh} {V V' : g_V} {κ κ' u u' : Nat → Nat} {w w' gs gs' ss ss' : Nat → Int32} {np nh nr : Nat}
theorem G1_k (h : G1 Sh V κ u w) (hs : Sh' (u 0) = Sh (u 0)) (hv : ∀ i, i = 6 ∨ i = 7 ∨ i = 8 ∨ i = 9 ∨ i = 10 ∨ i = 11 → V' (u 0) i = V (u 0) i) (hk : κ' (u 0) = κ (u 0)) (hu : ∀ j, (j < 4 ∨ j = 8 ∨ j = 10 ∨ j = 12) → u' j = u j) (hw : ∀ j, 5 ≤ j → j < 12 → w' j = w j) : G1 Sh' V' κ' u' w' := by
  unfold G1
  rw [hu 0 (by omega), hu 1 (by omega), hu 2 (by omega), hu 3 (by omega), hu 8 (by omega), hu 10 (by omega), hu 12 (by omega), hs, hk, hv 6 (by omega), hv 7 (by omega), hv 8 (by omega), hv 9 (by omega), hv 10 (by omega), hv 11 (by omega), hw 5 (by omega) (by omega), hw 6 (by omega) (by omega), hw 7 (by omega) (by omega), hw 8 (by omega) (by omega), hw 9 (by omega) (by omega), hw 10 (by omega) (by omega), hw 11 (by omega) (by omega)]
  exact h
theorem G2_k (h : G2 Sh V κ u w gs) (hz : ∀ a, κ a = 2 → Sh' a = Sh a ∧ V' a = V a ∧ κ' a = κ a) (hu : ∀ j, (j = 1 ∨ (4 ≤ j ∧ j < 8)) → u' j = u j) (hw : ∀ j, 20 ≤ j → j < 36 → w' j = w j) (hg : ∀ g, g < 4 → gs' g = gs g) : G2 Sh' V' κ' u' w' gs' := by
  obtain ⟨h1, ge, h2, h3⟩ := h
  have z1 := hz _ h1
  refine ⟨by rw [hu 1 (by omega), z1.2.2]; exact h1, ge, by rw [hu 1 (by omega), z1.1]; exact h2, fun g hg' => ?_⟩
  rw [hg g hg', hw _ (by omega) (by omega), hw _ (by omega) (by omega), hw _ (by omega) (by omega), hw _ (by omega) (by omega), hu (4 + g) (by omega)]
  rcases h3 g hg' with h4 | ⟨a1, a2, a3, a4, a5, a6⟩
  · exact Or.inl h4
  · have z := hz _ a3
    refine Or.inr ⟨a1, a2, by rw [z.2.2]; exact a3, by rw [z.1]; exact a4, fun i hi => ?_, a6⟩
    rw [z.2.1, hw _ (by omega) (by omega)]
    exact a5 i hi
theorem G3_k (h : G3 Sh V κ u w) (hz : ∀ a, κ a = 3 → Sh' a = Sh a ∧ V' a = V a ∧ κ' a = κ a) (hu : u' 2 = u 2) (hw : ∀ j, 48 ≤ j → j < 192 → w' j = w j) : G3 Sh' V' κ' u' w' := by
  obtain ⟨h1, h2, h3⟩ := h
  have z := hz _ h1
  refine ⟨by rw [hu, z.2.2]; exact h1, by rw [hu, z.1]; exact h2, fun c hc => ?_⟩
  rw [hu, z.2.1, hw _ (by omega) (by omega)]
  exact h3 c hc
theorem G4_k (h : G4 Sh V κ u w ss) (hz : ∀ a, κ a = 4 → Sh' a = Sh a ∧ V' a = V a ∧ κ' a = κ a) (hu : u' 3 = u 3) (hw : ∀ j, 36 ≤ j → j < 48 → w' j = w j) (hss : ∀ y, y < 12 → ss' y = ss y) : G4 Sh' V' κ' u' w' ss' := by
  obtain ⟨h1, h2, h3⟩ := h
  have z := hz _ h1
  refine ⟨by rw [hu, z.2.2]; exact h1, by rw [hu, z.1]; exact h2, fun y hy => ?_⟩
  rw [hu, z.2.1, hw _ (by omega) (by omega), hss y hy]
  exact h3 y hy
theorem LSt_g {l e q : Nat} {g g' : Nat → Nat} (h : LSt Sh l e q g) (hg : ∀ p, p < q → g' p = g p) : LSt Sh l e q g' := by
  obtain ⟨b1, cap, el, b3, b4, b5, b6⟩ := h
  exact ⟨b1, cap, el, b3, b4, b5, fun p hp => by rw [hg p hp]; exact b6 p hp⟩
theorem G5_k (h : G5 Sh V κ u w np) (hz : ∀ a, κ a = 5 → Sh' a = Sh a ∧ V' a = V a ∧ κ' a = κ a) (hu : ∀ j, (j = 8 ∨ j = 9 ∨ (20 ≤ j ∧ j < 32)) → u' j = u j) (hw : ∀ j, (j = 2 ∨ (624 ≤ j ∧ j < 732)) → w' j = w j) : G5 Sh' V' κ' u' w' np := by
  obtain ⟨h1, h2, h3, h4, h5, h6, h7, h8, h9⟩ := h
  have z8 := hz _ h5
  have z9 := hz _ h6
  refine ⟨h1, by rw [hw 2 (by omega)]; exact h2, ?_, by rw [hu 8 (by omega), z8.2.1]; exact h4, by rw [hu 8 (by omega), z8.2.2]; exact h5, by rw [hu 9 (by omega), z9.2.2]; exact h6, fun p hp => ?_, fun p q hp hq => ?_, fun j a b => ?_⟩
  · rw [hu 8 (by omega), hu 9 (by omega)]
    exact LSt_g (LSt_k h3 z8.1 z9.1) (fun p hp => hu _ (by omega))
  · obtain ⟨a1, a2, a3, a4⟩ := h7 p hp
    have z := hz _ a1
    rw [hu (20 + p) (by omega), hw (624 + 6 * p) (by omega), hw (624 + 6 * p + 1) (by omega), hw (624 + 6 * p + 2) (by omega), hw (624 + 6 * p + 3) (by omega)]
    refine ⟨by rw [z.2.2]; exact a1, by rw [z.1]; exact a2, fun j hj => ?_, a4⟩
    rw [z.2.1, hw _ (by omega)]
    exact a3 j hj
  · rw [hw _ (by omega), hw _ (by omega)]; exact h8 p q hp hq
  · rw [hw _ (by omega)]; exact h9 j a b
theorem G6_k (h : G6 Sh V κ u w nh) (hz : ∀ a, κ a = 6 → Sh' a = Sh a ∧ V' a = V a ∧ κ' a = κ a) (hu : ∀ j, (j = 10 ∨ j = 11 ∨ (40 ≤ j ∧ j < 46)) → u' j = u j) (hw : ∀ j, (j = 3 ∨ (732 ≤ j ∧ j < 750)) → w' j = w j) : G6 Sh' V' κ' u' w' nh := by
  obtain ⟨h1, h2, h3, h4, h5, h6, h7⟩ := h
  have z8 := hz _ h5
  have z9 := hz _ h6
  refine ⟨h1, by rw [hw 3 (by omega)]; exact h2, ?_, by rw [hu 10 (by omega), z8.2.1]; exact h4, by rw [hu 10 (by omega), z8.2.2]; exact h5, by rw [hu 11 (by omega), z9.2.2]; exact h6, fun p hp => ?_⟩
  · rw [hu 10 (by omega), hu 11 (by omega)]
    exact LSt_g (LSt_k h3 z8.1 z9.1) (fun p hp => hu _ (by omega))
  · obtain ⟨a1, a2, a3, a4, a5, a6⟩ := h7 p hp
    have z := hz _ a1
    rw [hu (40 + p) (by omega), hw (732 + 3 * p) (by omega), hw (732 + 3 * p + 1) (by omega), z.1, z.2.1, z.2.2]
    exact ⟨a1, a2, a3, a4, a5, a6⟩
theorem RU1_k {Fz Fz' : Nat → Prop} {a b : Nat} {g g' : Nat → Nat} {x x' : Nat → Int32} (h : RU1 Sh V Fz a b g x) (hz : ∀ a, Fz a → Sh' a = Sh a ∧ V' a = V a ∧ Fz' a) (hx : ∀ i, i < 10 → x' i = x i) (hg : ∀ c, c < 3 → g' c = g c) : RU1 Sh' V' Fz' a b g' x' := by
  obtain ⟨za, zb, k1, nc, k2, k3, k4, k5, k6⟩ := h
  refine ⟨(hz _ za).2.2, (hz _ zb).2.2, by rw [(hz _ za).1]; exact k1, nc, k2, (hx 0 (by omega)).trans k3, by rw [(hz _ za).2.1]; exact k4, ?_, fun c hc => ?_⟩
  · obtain ⟨el, e1, e2⟩ := k5
    exact ⟨el, by rw [(hz _ zb).1]; exact e1, fun c hc => by rw [hg c (by omega)]; exact e2 c hc⟩
  · rw [hg c (by omega)]
    refine ⟨(hz _ (k6 c hc).1).2.2, ?_⟩
    have := (k6 c hc).2
    unfold RC at this ⊢
    dsimp only at this ⊢
    rw [(hz _ (k6 c hc).1).1, (hz _ (k6 c hc).1).2.1, hx _ (by omega), hx _ (by omega), hx _ (by omega)]
    exact this
theorem G7_k (h : G7 Sh V κ u w nr) (hz : ∀ a, κ a = 7 → Sh' a = Sh a ∧ V' a = V a ∧ κ' a = κ a) (hu : ∀ j, (j = 12 ∨ j = 13 ∨ (60 ≤ j ∧ j < 92)) → u' j = u j) (hw : ∀ j, (j = 4 ∨ (750 ≤ j ∧ j < 790)) → w' j = w j) : G7 Sh' V' κ' u' w' nr := by
  obtain ⟨h1, h2, h3, h4, h5, h6, h7, h9⟩ := h
  have z8 := hz _ h5
  have z9 := hz _ h6
  refine ⟨h1, by rw [hw 4 (by omega)]; exact h2, ?_, by rw [hu 12 (by omega), z8.2.1]; exact h4, by rw [hu 12 (by omega), z8.2.2]; exact h5, by rw [hu 13 (by omega), z9.2.2]; exact h6, fun p hp => ?_, fun j a b => ?_⟩
  · rw [hu 12 (by omega), hu 13 (by omega)]
    exact LSt_g (LSt_k h3 z8.1 z9.1) (fun p hp => hu _ (by omega))
  · rw [hu (60 + p) (by omega), hu (70 + p) (by omega)]
    exact RU1_k (h7 p hp) (fun a ha => ⟨(hz a ha).1, (hz a ha).2.1, by rw [(hz a ha).2.2]; exact ha⟩) (fun i hi => hw _ (by omega)) (fun c hc => hu _ (by omega))
  · rw [hw _ (by omega)]; exact h9 j a b
end GK2
/-- what is told, all groups -/
def Td (Sh : g_Sh) (V : g_V) (κ u : Nat → Nat) (V2 : g_V) (np nh nr : Nat) : Prop := G1 Sh V κ u (V2 15) ∧ G2 Sh V κ u (V2 15) (V2 16) ∧ G3 Sh V κ u (V2 15) ∧ G4 Sh V κ u (V2 15) (V2 17) ∧ G5 Sh V κ u (V2 15) np ∧ G6 Sh V κ u (V2 15) nh ∧ G7 Sh V κ u (V2 15) nr ∧ G8 (V2 15)
/-- the state of the reading of a text -/
def Ps (gp : Nat → Nat) (N0 : Nat) (Sh : g_Sh) (V : g_V) (n : Nat) (V2 : g_V) (r tp ms bg sz td : Nat) (κ u : Nat → Nat) (np nh nr lc lt : Nat) : Prop := RW Sh V r tp ms bg V2 sz ∧ u 0 = td ∧ Td Sh V κ u V2 np nh nr ∧ (V r 9 = V2 0 18 ∧ V r 10 = V2 0 19) ∧ (V (u 0) 12 = nI lc ∧ V2 15 0 = nI lt ∧ lc ≤ 40 ∧ lt ≤ 41) ∧ (κ r = 8 ∧ κ ms = 8 ∧ κ bg = 8 ∧ tp < N0 ∧ N0 ≤ n ∧ ∀ a, κ a ≠ 0 → N0 ≤ a ∧ a < n) ∧ (∃ em, Sh ms = some (d_ref 6 4 em) ∧ ∀ i, i < 4 → em i = some (gp i)) ∧ ∃ eb, Sh bg = some (d_ref 6 9 eb) ∧ ∀ i, i < 9 → eb i = some (gp (4 + i))
/-- what of the reference is kept while a text is read -/
def TF (V V' : g_V) : Prop := (∀ a, a ≠ 0 → a ≠ 15 → a ≠ 16 → a ≠ 17 → V' a = V a) ∧ ∀ j, (j < 9 ∨ 24 ≤ j ∨ (V' 0 13 = 0 ∧ (j = 13 ∨ j = 14))) → V' 0 j = V 0 j
/-- both failed, told from the start -/
def FL0 {α : Type} (N0 : Nat) (Sh : g_Sh) (V : g_V) (L : g_L) (V2 : g_V) (c : Option (α ⊕ (Nat × c_S))) (V2' : g_V) : Prop := ∃ x Z' k f, c = some (.inr (x, Z')) ∧ (∃ rf, Z'.Sh x = some (d_obj 9 8 rf) ∧ rf 6 = none ∧ rf 7 = none) ∧ Z'.V x 6 = k ∧ Z'.V x 7 = f ∧ N0 ≤ Z'.n ∧ (∀ a, a < N0 → Z'.Sh a = Sh a ∧ Z'.V a = V a ∧ Z'.L a = L a) ∧ V2' 0 13 = k ∧ V2' 0 14 = f ∧ ¬ k = 0 ∧ TF V2 V2'
/-- a line: both go on, or both fail -/
def OL (gp : Nat → Nat) (N0 : Nat) (Sh : g_Sh) (V : g_V) (L : g_L) (V2 : g_V) (r tp ms bg sz td lc lt : Nat) (c : Option (c_S ⊕ (Nat × c_S))) (t : Option g_V) : Prop := (∃ Sh' V' n' V2' κ' u' np' nh' nr', c = some (.inl (Sh', V', L, n')) ∧ t = some V2' ∧ Ps gp N0 Sh' V' n' V2' r tp ms bg sz td κ' u' np' nh' nr' lc lt ∧ (∀ a, a < N0 → Sh' a = Sh a ∧ V' a = V a) ∧ TF V2 V2') ∨ ∃ V2', FL0 N0 Sh V L V2 c V2' ∧ t = some V2'
