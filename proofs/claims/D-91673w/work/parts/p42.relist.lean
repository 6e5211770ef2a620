/-! PURE: a field's lists are told anew -/
set_option maxRecDepth 100000
/-- a field, whatever it holds -/
def FX (Sh : g_Sh) (V : g_V) (n : Nat) (m : Nat → Nat) (t np nh : Nat) : Prop := FS0 Sh m t ∧ FSa Sh m ∧ FSp Sh m np nh ∧ inj m np nh ∧ (∀ i, (i < 13 + np ∨ (31 ≤ i ∧ i < 31 + nh)) → m i < n) ∧ V (m 5) 2 = nI np ∧ V (m 6) 2 = nI nh ∧ np ≤ 18 ∧ nh ≤ 6
/-- a list of pipes or houses outside the field -/
def SrcO (Sh : g_Sh) (V : g_V) (n : Nat) (m : Nat → Nat) (np nh ls es q ci N : Nat) (gs : Nat → Nat) (okV : (Nat → Int32) → Prop) : Prop := LSt Sh ls es q gs ∧ V ls 2 = nI q ∧ ls < n ∧ es < n ∧ (∀ i, (i < 13 + np ∨ (31 ≤ i ∧ i < 31 + nh)) → ls ≠ m i ∧ es ≠ m i) ∧ ∀ p, p < q → gs p < n ∧ (∃ rf, Sh (gs p) = some (d_obj ci N rf) ∧ ∀ j, j < N → rf j = none) ∧ okV (V (gs p)) ∧ ∀ i, (i < 13 + np ∨ (31 ≤ i ∧ i < 31 + nh)) → gs p ≠ m i
section RL
variable {Sh : g_Sh} {V : g_V} {L : g_L} {n : Nat} {m : Nat → Nat} {t np nh : Nat} {gp : Nat → Nat}
theorem two_clears (h : FX Sh V n m t np nh) : ∃ ShA VA ShB VB, cm_J2_clear (Sh, V, L, n) (m 5) = some (ShA, VA, L, n) ∧ cm_J2_clear (ShA, VA, L, n) (m 6) = some (ShB, VB, L, n) ∧ LSt ShB (m 5) (m 11) 0 (fun _ => 0) ∧ LSt ShB (m 6) (m 12) 0 (fun _ => 0) ∧ VB (m 5) 2 = nI 0 ∧ VB (m 6) 2 = nI 0 ∧ (∀ a, a ≠ m 11 → a ≠ m 12 → ShB a = Sh a) ∧ (∀ a, a ≠ m 5 → a ≠ m 6 → VB a = V a) ∧ (∀ a, a ≠ m 11 → ShA a = Sh a) := by
  obtain ⟨hF, hA, hP, hm, hn, h5, h6, h18, hh6⟩ := h
  obtain ⟨ShA, VA, a1, a2, a3, a4, a5⟩ := l_clear (L := L) (n := n) hP.1 h5 (by omega)
  have l6 : LSt ShA (m 6) (m 12) nh (fun h => m (31 + h)) := by
    obtain ⟨⟨rf, b1, b2⟩, cap, el, b3, b4⟩ := hP.2.1
    exact ⟨⟨rf, by rw [a5 _ (hm.ne (by omega) (by omega) (by omega))]; exact b1, b2⟩, cap, el, by rw [a5 _ (hm.ne (by omega) (by omega) (by omega))]; exact b3, b4⟩
  obtain ⟨ShB, VB, c1, c2, c3, c4, c5⟩ := l_clear (V := VA) (L := L) (n := n) l6 (by rw [a4 _ (hm.ne (by omega) (by omega) (by omega))]; exact h6) (by omega)
  refine ⟨ShA, VA, ShB, VB, a1, c1, ?_, c2 _, ?_, c3, fun a b1 b2 => ?_, fun a b1 b2 => ?_, a5⟩
  · obtain ⟨⟨rf, b1, b2⟩, cap, el, b3, b4⟩ := a2 (fun _ => 0)
    exact ⟨⟨rf, by rw [c5 _ (hm.ne (by omega) (by omega) (by omega))]; exact b1, b2⟩, cap, el, by rw [c5 _ (hm.ne (by omega) (by omega) (by omega))]; exact b3, b4⟩
  · rw [c4 _ (hm.ne (by omega) (by omega) (by omega))]; exact a3
  · rw [c5 a b2, a5 a b1]
  · rw [c4 a b2, a4 a b1]
/-- the field's addresses anew -/
def mNew (m : Nat → Nat) (e1 e2 : Nat) (g1 g2 : Nat → Nat) : Nat → Nat := fun i => if i < 11 then m i else if i = 11 then e1 else if i = 12 then e2 else if i < 31 then g1 (i - 13) else g2 (i - 31)
theorem relist (h : FX Sh V n m t np nh) {ls1 es1 q1 ls2 es2 q2 : Nat} {gs1 gs2 : Nat → Nat} {okV1 okV2 : (Nat → Int32) → Prop} (hs1 : SrcO Sh V n m np nh ls1 es1 q1 5 6 gs1 okV1) (hs2 : SrcO Sh V n m np nh ls2 es2 q2 6 3 gs2 okV2) (hcp1 : CpOk cm_X5_copy 5 6 (zrf tyX5) okV1) (hcp2 : CpOk cm_X6_copy 6 3 (zrf tyX6) okV2) (hq1 : q1 ≤ 18) (hq2 : q2 ≤ 6) {f1 f2 : Nat} (hf1 : q1 < f1) (hf2 : q2 < f2)
    {F1 F2 : (Int32 × c_S → Option c_S) → Int32 × c_S → Option c_S}
    (hF1 : ∀ rec i Sh' V' n', i < q1 → (∀ a, a < n → (∀ k, (k < 13 + np ∨ (31 ≤ k ∧ k < 31 + nh)) → a ≠ m k ∨ k ≠ 5 ∧ k ≠ 6 ∧ k ≠ 11 ∧ k ≠ 12) → Sh' a = Sh a ∧ V' a = V a) → LSt Sh' ls1 es1 q1 gs1 → V' ls1 2 = nI q1 → F1 rec (nI i, (Sh', V', L, n')) = turnC gp cm_X5_copy 5 6 (m 5) ls1 i (Sh', V', L, n') (fun Z => rec (nI (i + 1), Z)))
    (hE1 : ∀ rec Sh' V' n', (∀ a, a < n → (∀ k, (k < 13 + np ∨ (31 ≤ k ∧ k < 31 + nh)) → a ≠ m k ∨ k ≠ 5 ∧ k ≠ 6 ∧ k ≠ 11 ∧ k ≠ 12) → Sh' a = Sh a ∧ V' a = V a) → LSt Sh' ls1 es1 q1 gs1 → V' ls1 2 = nI q1 → F1 rec (nI q1, (Sh', V', L, n')) = some (Sh', V', L, n'))
    (hF2 : ∀ rec i Sh' V' n', i < q2 → (∀ a, a < n → (∀ k, (k < 13 + np ∨ (31 ≤ k ∧ k < 31 + nh)) → a ≠ m k ∨ k ≠ 5 ∧ k ≠ 6 ∧ k ≠ 11 ∧ k ≠ 12) → Sh' a = Sh a ∧ V' a = V a) → LSt Sh' ls2 es2 q2 gs2 → V' ls2 2 = nI q2 → F2 rec (nI i, (Sh', V', L, n')) = turnC gp cm_X6_copy 6 3 (m 6) ls2 i (Sh', V', L, n') (fun Z => rec (nI (i + 1), Z)))
    (hE2 : ∀ rec Sh' V' n', (∀ a, a < n → (∀ k, (k < 13 + np ∨ (31 ≤ k ∧ k < 31 + nh)) → a ≠ m k ∨ k ≠ 5 ∧ k ≠ 6 ∧ k ≠ 11 ∧ k ≠ 12) → Sh' a = Sh a ∧ V' a = V a) → LSt Sh' ls2 es2 q2 gs2 → V' ls2 2 = nI q2 → F2 rec (nI q2, (Sh', V', L, n')) = some (Sh', V', L, n')) :
    ∃ ShA VA ShB VB ShC VC nC ShD VD nD m', cm_J2_clear (Sh, V, L, n) (m 5) = some (ShA, VA, L, n) ∧ (∀ a, a ≠ m 11 → ShA a = Sh a) ∧ cm_J2_clear (ShA, VA, L, n) (m 6) = some (ShB, VB, L, n) ∧ lp F1 f1 (0, (ShB, VB, L, n)) = some (ShC, VC, L, nC) ∧ lp F2 f2 (0, (ShC, VC, L, nC)) = some (ShD, VD, L, nD) ∧ FX ShD VD nD m' t q1 q2 ∧ (∀ i, i < 11 → m' i = m i) ∧ n ≤ nD ∧ (∀ p j, p < q1 → j < 6 → VD (m' (13 + p)) j = V (gs1 p) j) ∧ (∀ p j, p < q2 → j < 3 → VD (m' (31 + p)) j = V (gs2 p) j) ∧ (∀ a, a < n → (∀ k, (k < 13 + np ∨ (31 ≤ k ∧ k < 31 + nh)) → a ≠ m k ∨ k ≠ 5 ∧ k ≠ 6 ∧ k ≠ 11 ∧ k ≠ 12) → ShD a = Sh a ∧ VD a = V a) ∧ (∀ i, (i < 13 + q1 ∨ (31 ≤ i ∧ i < 31 + q2)) → 11 ≤ i → (i < 13 ∧ m' i = m i) ∨ n ≤ m' i) := by
  obtain ⟨ShA, VA, ShB, VB, k1, k2, k3, k4, k5, k6, k7, k8, k9⟩ := two_clears (L := L) h
  obtain ⟨hF, hA, hP, hm, hn, h5, h6, h18, hh6⟩ := h
  have n5 := hn 5 (by omega)
  have n6 := hn 6 (by omega)
  have n11 := hn 11 (by omega)
  have n12 := hn 12 (by omega)
  obtain ⟨x1, x2, x3, x4, x5, x6⟩ := hs1
  obtain ⟨y1, y2, y3, y4, y5, y6⟩ := hs2
  have keepL : ∀ {Sh' : g_Sh} {ls es q : Nat} {gs : Nat → Nat}, LSt Sh ls es q gs → Sh' ls = Sh ls → Sh' es = Sh es → LSt Sh' ls es q gs := by
    intro Sh' ls es q gs hl e1 e2
    obtain ⟨⟨rf, b1, b2⟩, cap, el, b3, b4⟩ := hl
    exact ⟨⟨rf, by rw [e1]; exact b1, b2⟩, cap, el, by rw [e2]; exact b3, b4⟩
  -- the pipes
  have frB : ∀ a, a < n → (∀ k, (k < 13 + np ∨ (31 ≤ k ∧ k < 31 + nh)) → a ≠ m k ∨ k ≠ 5 ∧ k ≠ 6 ∧ k ≠ 11 ∧ k ≠ 12) → ShB a = Sh a ∧ VB a = V a := by
    intro a ha hk
    have c5 := hk 5 (by omega)
    have c6 := hk 6 (by omega)
    have c11 := hk 11 (by omega)
    have c12 := hk 12 (by omega)
    exact ⟨k7 a (by omega) (by omega), k8 a (by omega) (by omega)⟩
  have apart : ∀ a, (∀ i, (i < 13 + np ∨ (31 ≤ i ∧ i < 31 + nh)) → a ≠ m i) → (∀ k, (k < 13 + np ∨ (31 ≤ k ∧ k < 31 + nh)) → a ≠ m k ∨ k ≠ 5 ∧ k ≠ 6 ∧ k ≠ 11 ∧ k ≠ 12) := fun a ha k hk => Or.inl (ha k hk)
  have S1 : SrcL ShB VB n (m 5) (m 11) ls1 es1 q1 5 6 gs1 okV1 := by
    have f1 := frB ls1 x3 (apart _ (fun i hi => (x5 i hi).1))
    have f2 := frB es1 x4 (apart _ (fun i hi => (x5 i hi).2))
    refine ⟨keepL x1 f1.1 f2.1, by rw [f1.2]; exact x2, x3, x4, (x5 5 (by omega)).1, (x5 11 (by omega)).2, fun p hp => ?_⟩
    obtain ⟨z1, ⟨rf, z2, z3⟩, z4, z5⟩ := x6 p hp
    have f3 := frB (gs1 p) z1 (apart _ z5)
    exact ⟨z1, ⟨rf, by rw [f3.1]; exact z2, z3⟩, by rw [f3.2]; exact z4⟩
  obtain ⟨ShC, VC, nC, e1, g1, l1, C1⟩ := turn_loop (gp := gp) (L := L) (F := F1) (fuel := f1) hcp1 (Or.inl ⟨rfl, rfl⟩) n5 n11 k3 k5 S1 (by omega) hf1 (fun rec i Sh' V' n' e' g' hi hC => by
      obtain ⟨d1, d2, d3, d4, d5, d6, d7, d8⟩ := hC
      have fr : ∀ a, a < n → (∀ k, (k < 13 + np ∨ (31 ≤ k ∧ k < 31 + nh)) → a ≠ m k ∨ k ≠ 5 ∧ k ≠ 6 ∧ k ≠ 11 ∧ k ≠ 12) → Sh' a = Sh a ∧ V' a = V a := by
        intro a ha hk
        have c5 := hk 5 (by omega)
        have c11 := hk 11 (by omega)
        have f := frB a ha hk
        exact ⟨by rw [d7 a ha (by omega) (by omega)]; exact f.1, by rw [d8 a ha (by omega)]; exact f.2⟩
      have f1 := fr ls1 x3 (apart _ (fun i hi => (x5 i hi).1))
      have f2 := fr es1 x4 (apart _ (fun i hi => (x5 i hi).2))
      exact hF1 rec i Sh' V' n' hi fr (keepL x1 f1.1 f2.1) (by rw [f1.2]; exact x2)) (fun rec Sh' V' n' e' g' hC => by
      obtain ⟨d1, d2, d3, d4, d5, d6, d7, d8⟩ := hC
      have fr : ∀ a, a < n → (∀ k, (k < 13 + np ∨ (31 ≤ k ∧ k < 31 + nh)) → a ≠ m k ∨ k ≠ 5 ∧ k ≠ 6 ∧ k ≠ 11 ∧ k ≠ 12) → Sh' a = Sh a ∧ V' a = V a := by
        intro a ha hk
        have c5 := hk 5 (by omega)
        have c11 := hk 11 (by omega)
        have f := frB a ha hk
        exact ⟨by rw [d7 a ha (by omega) (by omega)]; exact f.1, by rw [d8 a ha (by omega)]; exact f.2⟩
      have f1 := fr ls1 x3 (apart _ (fun i hi => (x5 i hi).1))
      have f2 := fr es1 x4 (apart _ (fun i hi => (x5 i hi).2))
      exact hE1 rec Sh' V' n' fr (keepL x1 f1.1 f2.1) (by rw [f1.2]; exact x2))
  obtain ⟨d1, d2, d3, d4, d5, d6, d7, d8⟩ := C1
  have frC : ∀ a, a < n → (∀ k, (k < 13 + np ∨ (31 ≤ k ∧ k < 31 + nh)) → a ≠ m k ∨ k ≠ 5 ∧ k ≠ 6 ∧ k ≠ 11 ∧ k ≠ 12) → ShC a = Sh a ∧ VC a = V a := by
    intro a ha hk
    have c5 := hk 5 (by omega)
    have c11 := hk 11 (by omega)
    have f := frB a ha hk
    exact ⟨by rw [d7 a ha (by omega) (by omega)]; exact f.1, by rw [d8 a ha (by omega)]; exact f.2⟩
  -- the houses
  have q4 : LSt ShC (m 6) (m 12) 0 (fun _ => 0) := by
    obtain ⟨⟨rf, b1, b2⟩, cap, el, b3, b4⟩ := k4
    exact ⟨⟨rf, by rw [d7 _ n6 (hm.ne (by omega) (by omega) (by omega)) (hm.ne (by omega) (by omega) (by omega))]; exact b1, b2⟩, cap, el, by rw [d7 _ n12 (hm.ne (by omega) (by omega) (by omega)) (hm.ne (by omega) (by omega) (by omega))]; exact b3, b4⟩
  have q6 : VC (m 6) 2 = nI 0 := by rw [d8 _ n6 (hm.ne (by omega) (by omega) (by omega))]; exact k6
  have S2 : SrcL ShC VC nC (m 6) (m 12) ls2 es2 q2 6 3 gs2 okV2 := by
    have f1 := frC ls2 y3 (apart _ (fun i hi => (y5 i hi).1))
    have f2 := frC es2 y4 (apart _ (fun i hi => (y5 i hi).2))
    refine ⟨keepL y1 f1.1 f2.1, by rw [f1.2]; exact y2, by omega, by omega, (y5 6 (by omega)).1, (y5 12 (by omega)).2, fun p hp => ?_⟩
    obtain ⟨z1, ⟨rf, z2, z3⟩, z4, z5⟩ := y6 p hp
    have f3 := frC (gs2 p) z1 (apart _ z5)
    exact ⟨by omega, ⟨rf, by rw [f3.1]; exact z2, z3⟩, by rw [f3.2]; exact z4⟩
  have frD : ∀ (ShX : g_Sh) (VX : g_V), (∀ a, a < nC → a ≠ m 6 → a ≠ m 12 → ShX a = ShC a) → (∀ a, a < nC → a ≠ m 6 → VX a = VC a) → ∀ a, a < n → (∀ k, (k < 13 + np ∨ (31 ≤ k ∧ k < 31 + nh)) → a ≠ m k ∨ k ≠ 5 ∧ k ≠ 6 ∧ k ≠ 11 ∧ k ≠ 12) → ShX a = Sh a ∧ VX a = V a := by
    intro ShX VX hx1 hx2 a ha hk
    have c6 := hk 6 (by omega)
    have c12 := hk 12 (by omega)
    have f := frC a ha hk
    exact ⟨by rw [hx1 a (by omega) (by omega) (by omega)]; exact f.1, by rw [hx2 a (by omega) (by omega)]; exact f.2⟩
  obtain ⟨ShD, VD, nD, e2, g2, l2, C2⟩ := turn_loop (gp := gp) (L := L) (F := F2) (fuel := f2) hcp2 (Or.inr ⟨rfl, rfl⟩) (show m 6 < nC by omega) (show m 12 < nC by omega) q4 q6 S2 (by omega) hf2 (fun rec i Sh' V' n' e' g' hi hC => by
      have fr := frD Sh' V' hC.2.2.2.2.2.2.1 hC.2.2.2.2.2.2.2
      have f1 := fr ls2 y3 (apart _ (fun i hi => (y5 i hi).1))
      have f2 := fr es2 y4 (apart _ (fun i hi => (y5 i hi).2))
      exact hF2 rec i Sh' V' n' hi fr (keepL y1 f1.1 f2.1) (by rw [f1.2]; exact y2)) (fun rec Sh' V' n' e' g' hC => by
      have fr := frD Sh' V' hC.2.2.2.2.2.2.1 hC.2.2.2.2.2.2.2
      have f1 := fr ls2 y3 (apart _ (fun i hi => (y5 i hi).1))
      have f2 := fr es2 y4 (apart _ (fun i hi => (y5 i hi).2))
      exact hE2 rec Sh' V' n' fr (keepL y1 f1.1 f2.1) (by rw [f1.2]; exact y2))
  obtain ⟨w1, w2, w3, w4, w5, w6, w7, w8⟩ := C2
  have frE := frD ShD VD w7 w8
  -- old cells of the field
  have old : ∀ i, i < 11 → i ≠ 5 → i ≠ 6 → ShD (m i) = Sh (m i) ∧ VD (m i) = V (m i) := by
    intro i hi h5' h6'
    refine frE (m i) (hn i (by omega)) (fun k hk => ?_)
    by_cases hki : k = i
    · right; omega
    · left; exact hm.ne (by omega) hk (fun z => hki z.symm)
  have e1n : e1 < nC := by rcases d5 with d5 | d5 <;> omega
  have e2n : e2 < nD := by rcases w5 with w5 | w5 <;> omega
  have ne1g : ∀ p, p < q1 → e1 ≠ g1 p := by
    intro p hp z
    obtain ⟨-, cap, el, b3, -⟩ := d1
    obtain ⟨⟨rf, b4, -⟩, -⟩ := d3 p hp
    rw [← z, b3] at b4; cases b4
  have ne2g : ∀ p, p < q2 → e2 ≠ g2 p := by
    intro p hp z
    obtain ⟨-, cap, el, b3, -⟩ := w1
    obtain ⟨⟨rf, b4, -⟩, -⟩ := w3 p hp
    rw [← z, b3] at b4; cases b4
  have m0 : ∀ i, i < 11 → mNew m e1 e2 g1 g2 i = m i := fun i hi => if_pos hi
  have m11 : mNew m e1 e2 g1 g2 11 = e1 := by unfold mNew; simp
  have m12 : mNew m e1 e2 g1 g2 12 = e2 := by unfold mNew; simp
  have m13 : ∀ p, p < 18 → mNew m e1 e2 g1 g2 (13 + p) = g1 p := by
    intro p hp
    unfold mNew
    rw [if_neg (by omega), if_neg (by omega), if_neg (by omega), if_pos (by omega), show 13 + p - 13 = p by omega]
  have m31 : ∀ p, mNew m e1 e2 g1 g2 (31 + p) = g2 p := by
    intro p
    unfold mNew
    rw [if_neg (by omega), if_neg (by omega), if_neg (by omega), if_neg (by omega), show 31 + p - 31 = p by omega]
  have cls : ∀ i, (i < 13 + q1 ∨ (31 ≤ i ∧ i < 31 + q2)) → (i < 11 ∧ mNew m e1 e2 g1 g2 i = m i ∧ m i < n) ∨ (i = 11 ∧ mNew m e1 e2 g1 g2 i = e1) ∨ (i = 12 ∧ mNew m e1 e2 g1 g2 i = e2) ∨ (∃ p, p < q1 ∧ i = 13 + p ∧ mNew m e1 e2 g1 g2 i = g1 p ∧ n ≤ g1 p ∧ g1 p < nC) ∨ ∃ p, p < q2 ∧ i = 31 + p ∧ mNew m e1 e2 g1 g2 i = g2 p ∧ nC ≤ g2 p ∧ g2 p < nD := by
    intro i hi
    by_cases h1 : i < 11
    · exact Or.inl ⟨h1, m0 i h1, hn i (by omega)⟩
    · by_cases h2 : i = 11
      · subst h2; exact Or.inr (Or.inl ⟨rfl, m11⟩)
      · by_cases h3 : i = 12
        · subst h3; exact Or.inr (Or.inr (Or.inl ⟨rfl, m12⟩))
        · by_cases h4 : i < 31
          · have hp : i - 13 < q1 := by omega
            have e := m13 (i - 13) (by omega)
            rw [show 13 + (i - 13) = i by omega] at e
            have := (d3 _ hp).2.2
            exact Or.inr (Or.inr (Or.inr (Or.inl ⟨i - 13, hp, by omega, e, this.1, this.2⟩)))
          · have hp : i - 31 < q2 := by omega
            have e := m31 (i - 31)
            rw [show 31 + (i - 31) = i by omega] at e
            have := (w3 _ hp).2.2
            exact Or.inr (Or.inr (Or.inr (Or.inr ⟨i - 31, hp, by omega, e, this.1, this.2⟩)))
  have m11n : m 11 < n := n11
  have e1c : e1 = m 11 ∨ n ≤ e1 := by rcases d5 with d5 | d5 <;> omega
  have e2c : e2 = m 12 ∨ nC ≤ e2 := by rcases w5 with w5 | w5 <;> omega
  have d1112 : m 11 ≠ m 12 := hm.ne (by omega) (by omega) (by omega)
  have hinj : inj (mNew m e1 e2 g1 g2) q1 q2 := by
    intro i j hi hj hij
    have lo : ∀ i, i < 11 → m i ≠ m 11 ∧ m i ≠ m 12 := fun i hi => ⟨hm.ne (by omega) (by omega) (by omega), hm.ne (by omega) (by omega) (by omega)⟩
    rcases cls i hi with ⟨a1, a2, a3⟩ | ⟨a1, a2⟩ | ⟨a1, a2⟩ | ⟨p, a1, a2, a3, a4, a5⟩ | ⟨p, a1, a2, a3, a4, a5⟩ <;> rcases cls j hj with ⟨b1, b2, b3⟩ | ⟨b1, b2⟩ | ⟨b1, b2⟩ | ⟨p', b1, b2, b3, b4, b5⟩ | ⟨p', b1, b2, b3, b4, b5⟩
    · rw [a2, b2] at hij; exact hm i j (by omega) (by omega) hij
    · rw [a2, b2] at hij; have := lo i a1; omega
    · rw [a2, b2] at hij; have := lo i a1; omega
    · rw [a2, b3] at hij; omega
    · rw [a2, b3] at hij; omega
    · rw [a2, b2] at hij; have := lo j b1; omega
    · omega
    · rw [a2, b2] at hij; omega
    · rw [a2, b3] at hij; exact absurd hij (ne1g p' b1)
    · rw [a2, b3] at hij; omega
    · rw [a2, b2] at hij; have := lo j b1; omega
    · rw [a2, b2] at hij; omega
    · omega
    · rw [a2, b3] at hij; omega
    · rw [a2, b3] at hij; exact absurd hij (ne2g p' b1)
    · rw [a3, b2] at hij; omega
    · rw [a3, b2] at hij; exact absurd hij.symm (ne1g p a1)
    · rw [a3, b2] at hij; omega
    · rw [a3, b3] at hij; have := d4 p p' a1 b1 hij; omega
    · rw [a3, b3] at hij; omega
    · rw [a3, b2] at hij; omega
    · rw [a3, b2] at hij; omega
    · rw [a3, b2] at hij; exact absurd hij.symm (ne2g p a1)
    · rw [a3, b3] at hij; omega
    · rw [a3, b3] at hij; have := w4 p p' a1 b1 hij; omega
  have g1o : ∀ p, p < q1 → ShD (g1 p) = ShC (g1 p) ∧ VD (g1 p) = VC (g1 p) := by
    intro p hp
    have := (d3 p hp).2.2
    exact ⟨w7 _ this.2 (by omega) (by omega), w8 _ this.2 (by omega)⟩
  refine ⟨ShA, VA, ShB, VB, ShC, VC, nC, ShD, VD, nD, mNew m e1 e2 g1 g2, k1, k9, k2, l1, l2, ⟨?_, ?_, ⟨?_, ?_, fun p hp => ?_, fun p hp => ?_⟩, hinj, fun i hi => ?_, ?_, ?_, hq1, hq2⟩, m0, by omega, fun p j hp hj => ?_, fun p j hp hj => ?_, frE, fun i hi h11 => ?_⟩
  · obtain ⟨rf, r1, r2, r3, r4, r5, r6⟩ := hF
    refine ⟨rf, ?_, r2, fun i h1 h8 => ?_, ?_, ?_, r6⟩
    · rw [m0 0 (by omega), (old 0 (by omega) (by omega) (by omega)).1]; exact r1
    · rw [m0 i (by omega)]; exact r3 i h1 h8
    · rw [m0 9 (by omega)]; exact r4
    · rw [m0 10 (by omega)]; exact r5
  · unfold FSa
    rw [m0 1 (by omega), m0 2 (by omega), m0 3 (by omega), m0 4 (by omega), m0 7 (by omega), m0 8 (by omega), m0 9 (by omega), m0 10 (by omega), (old 1 (by omega) (by omega) (by omega)).1, (old 2 (by omega) (by omega) (by omega)).1, (old 3 (by omega) (by omega) (by omega)).1, (old 4 (by omega) (by omega) (by omega)).1, (old 7 (by omega) (by omega) (by omega)).1, (old 8 (by omega) (by omega) (by omega)).1, (old 9 (by omega) (by omega) (by omega)).1, (old 10 (by omega) (by omega) (by omega)).1]
    exact hA
  · rw [m0 5 (by omega), m11]
    have n56 : m 5 ≠ m 6 := hm.ne (by omega) (by omega) (by omega)
    have n512 : m 5 ≠ m 12 := hm.ne (by omega) (by omega) (by omega)
    have ne16 : e1 ≠ m 6 := by
      rcases e1c with e | e
      · rw [e]; exact hm.ne (by omega) (by omega) (by omega)
      · omega
    have ne112 : e1 ≠ m 12 := by
      rcases e1c with e | e
      · rw [e]; exact d1112
      · omega
    obtain ⟨⟨rf, b1, b2⟩, cap, el, b3, b4, b5, b6⟩ := d1
    refine ⟨⟨rf, by rw [w7 _ (by omega) n56 n512]; exact b1, b2⟩, cap, el, by rw [w7 _ e1n ne16 ne112]; exact b3, b4, b5, fun p hp => ?_⟩
    show el p = some (mNew m e1 e2 g1 g2 (13 + p))
    rw [m13 p (by omega)]
    exact b6 p hp
  · rw [m0 6 (by omega), m12]
    obtain ⟨⟨rf, b1, b2⟩, cap, el, b3, b4, b5, b6⟩ := w1
    refine ⟨⟨rf, b1, b2⟩, cap, el, b3, b4, b5, fun p hp => ?_⟩
    show el p = some (mNew m e1 e2 g1 g2 (31 + p))
    rw [m31 p]
    exact b6 p hp
  · rw [m13 p (by omega), (g1o p hp).1]
    exact (d3 p hp).1
  · rw [m31 p]
    exact (w3 p hp).1
  · rcases cls i hi with ⟨a1, a2, a3⟩ | ⟨a1, a2⟩ | ⟨a1, a2⟩ | ⟨p, a1, a2, a3, a4, a5⟩ | ⟨p, a1, a2, a3, a4, a5⟩ <;> omega
  · rw [m0 5 (by omega), w8 _ (by omega) (hm.ne (by omega) (by omega) (by omega))]; exact d2
  · rw [m0 6 (by omega)]; exact w2
  · rw [m13 p (by omega), (g1o p hp).2, (d3 p hp).2.1 j hj]
    obtain ⟨z1, -, -, z5⟩ := x6 p hp
    rw [(frB (gs1 p) z1 (apart _ z5)).2]
  · rw [m31 p, (w3 p hp).2.1 j hj]
    obtain ⟨z1, -, -, z5⟩ := y6 p hp
    rw [(frC (gs2 p) z1 (apart _ z5)).2]
  · rcases cls i hi with ⟨a1, a2, a3⟩ | ⟨a1, a2⟩ | ⟨a1, a2⟩ | ⟨p, a1, a2, a3, a4, a5⟩ | ⟨p, a1, a2, a3, a4, a5⟩
    · omega
    · rw [a2, a1]
      rcases e1c with e | e
      · exact Or.inl ⟨by omega, e⟩
      · exact Or.inr e
    · rw [a2, a1]
      rcases e2c with e | e
      · exact Or.inl ⟨by omega, e⟩
      · exact Or.inr (by omega)
    · rw [a3]; exact Or.inr a4
    · rw [a3]; exact Or.inr (by omega)
end RL
