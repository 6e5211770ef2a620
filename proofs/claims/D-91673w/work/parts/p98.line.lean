/-! PURE: a text is read: frames of a line; far, cold, stream -/
set_option maxRecDepth 100000
/-- the reference goes on after it failed -/
def Dd (V V' : g_V) : Prop := (∀ a, a ≠ 0 → a ≠ 15 → a ≠ 16 → a ≠ 17 → V' a = V a) ∧ ∀ j, (j < 18 ∨ 24 ≤ j) → V' 0 j = V 0 j
section LN
variable {α β : Type} {Sh Sh0 Sh' : g_Sh} {V V0 V' : g_V} {L : g_L} {n N0 r tp ms bg sz td np nh nr lc lt : Nat} {V2 V20 V2' V2'' : g_V} {κ u : Nat → Nat} {gp : Nat → Nat}
theorem Dd_rf : Dd V2 V2 := ⟨fun _ _ _ _ _ => rfl, fun _ _ => rfl⟩
theorem TF_rf : TF V2 V2 := ⟨fun _ _ _ _ _ => rfl, fun _ _ => rfl⟩
theorem TF_tr (h : TF V20 V2) (h' : TF V2 V2') : TF V20 V2' := ⟨fun a a0 a1 a2 a3 => (h'.1 a a0 a1 a2 a3).trans (h.1 a a0 a1 a2 a3), fun j hj => by
  rcases hj with c | c | ⟨c, d⟩
  · exact (h'.2 j (Or.inl c)).trans (h.2 j (Or.inl c))
  · exact (h'.2 j (Or.inr (Or.inl c))).trans (h.2 j (Or.inr (Or.inl c)))
  · have e : V2 0 13 = 0 := by rw [← h'.2 13 (Or.inr (Or.inr ⟨c, Or.inl rfl⟩))]; exact c
    exact (h'.2 j (Or.inr (Or.inr ⟨c, d⟩))).trans (h.2 j (Or.inr (Or.inr ⟨e, d⟩)))⟩
theorem TF_st (h : Tst r V V' V2 V2') : TF V2 V2' := ⟨fun a a0 _ _ _ => h.2.2.1 a a0, fun j hj => h.2.2.2 j (by omega)⟩
theorem TF_r {g : Nat → Int32} {a : Nat} (ha : a = 15 ∨ a = 16 ∨ a = 17) : TF V2 (rowV V2 a g) := ⟨fun b h0 h15 h16 h17 => rowV_ne (by omega), fun j _ => by rw [rowV_ne (by omega)]⟩
theorem Dd_r {g : Nat → Int32} {a : Nat} (ha : a = 15 ∨ a = 16 ∨ a = 17) : Dd V2 (rowV V2 a g) := ⟨fun b h0 h15 h16 h17 => rowV_ne (by omega), fun j _ => by rw [rowV_ne (by omega)]⟩
theorem RW_w (h : RW Sh V r tp ms bg V2 sz) (h5 : V2' 5 = V2 5) (h0 : ∀ j, j < 18 → V2' 0 j = V2 0 j) : RW Sh V r tp ms bg V2' sz := by
  obtain ⟨h1, h2, h3, h4, h6, h7, h8⟩ := h
  refine ⟨h1, by rw [h5]; exact h2, h3, by rw [h0 8 (by omega)]; exact h4, h6, by rw [h0 13 (by omega)]; exact h7, ?_⟩
  unfold TkR
  rw [h0 9 (by omega), h0 10 (by omega), h0 11 (by omega), h0 12 (by omega)]
  exact h8
theorem RW_s (h : RW Sh V r tp ms bg V2 sz) (hs : Sh' r = Sh r ∧ Sh' tp = Sh tp) (hv : (∀ j, j < 9 → V' r j = V r j) ∧ V' tp = V tp) : RW Sh' V' r tp ms bg V2 sz := by
  obtain ⟨h1, ⟨t1, t2, t3, t4⟩, h3, h4, h6, h7, h8⟩ := h
  refine ⟨?_, ⟨by rw [hs.2]; exact t1, by rw [hv.2]; exact t2, t3, t4⟩, by rw [hv.1 3 (by omega)]; exact h3, h4, h6, h7, ?_⟩
  · unfold RdO
    rw [hs.1]
    exact h1
  · unfold TkR
    rw [hv.1 4 (by omega), hv.1 5 (by omega), hv.1 6 (by omega), hv.1 7 (by omega), hv.1 8 (by omega)]
    exact h8
theorem Td_tok (h : Td Sh V κ u V2 np nh nr) (hr : κ r = 8) (hv : ∀ a, a ≠ r → V' a = V a) (h15 : V2' 15 = V2 15) (h16 : V2' 16 = V2 16) (h17 : V2' 17 = V2 17) : Td Sh V' κ u V2' np nh nr := by
  obtain ⟨g1, g2, g3, g4, g5, g6, g7, g8⟩ := h
  have e : ∀ a, κ a ≠ 8 → V' a = V a := fun a ha => hv a (fun z => ha (by rw [z]; exact hr))
  have z : ∀ k, k ≠ 8 → ∀ a, κ a = k → Sh a = Sh a ∧ V' a = V a ∧ κ a = κ a := fun k hk a ha => ⟨rfl, e a (by omega), rfl⟩
  have k0 := g1.2.1
  unfold Td
  rw [h15, h16, h17]
  exact ⟨G1_k g1 rfl (fun i _ => by rw [e _ (by omega)]) rfl (fun _ _ => rfl) (fun _ _ _ => rfl), G2_k g2 (z 2 (by omega)) (fun _ _ => rfl) (fun _ _ _ => rfl) (fun _ _ => rfl), G3_k g3 (z 3 (by omega)) rfl (fun _ _ _ => rfl), G4_k g4 (z 4 (by omega)) rfl (fun _ _ _ => rfl) (fun _ _ => rfl), G5_k g5 (z 5 (by omega)) (fun _ _ => rfl) (fun _ _ => rfl), G6_k g6 (z 6 (by omega)) (fun _ _ => rfl) (fun _ _ => rfl), G7_k g7 (z 7 (by omega)) (fun _ _ => rfl) (fun _ _ => rfl), g8⟩
theorem Ps_tok (h : Ps gp N0 Sh V n V2 r tp ms bg sz td κ u np nh nr lc lt) (hs : Tst r V V' V2 V2') (hR : RW Sh V' r tp ms bg V2' sz) : Ps gp N0 Sh V' n V2' r tp ms bg sz td κ u np nh nr lc lt := by
  obtain ⟨h1, hu, h2, ⟨f1, f2⟩, ⟨l1, l2, l3, l4⟩, hk, hm⟩ := h
  obtain ⟨s1, s2, s3, s4⟩ := hs
  have k0 : κ (u 0) = 1 := h2.1.2.1
  refine ⟨hR, hu, Td_tok h2 hk.1 s1 (s3 15 (by omega)) (s3 16 (by omega)) (s3 17 (by omega)), ⟨?_, ?_⟩, ⟨?_, ?_, l3, l4⟩, hk, hm⟩
  · rw [s2 9 (by omega), s4 18 (by omega)]; exact f1
  · rw [s2 10 (by omega), s4 19 (by omega)]; exact f2
  · rw [s1 _ (fun e => by rw [e, hk.1] at k0; omega)]; exact l1
  · rw [s3 15 (by omega)]; exact l2
theorem FL0_of {c : Option (α ⊕ (Nat × c_S))} (hN : N0 ≤ n) (hr : N0 ≤ r) (hfr : ∀ a, a < N0 → Sh a = Sh0 a ∧ V a = V0 a) (tf : TF V20 V2) (h : Fl Sh V L n r V2 c V2') (hd : Dd V2' V2'') : ∃ x Z', c = some (.inr (x, Z')) ∧ ∀ (β : Type) (c' : Option (β ⊕ (Nat × c_S))), c' = some (.inr (x, Z')) → FL0 N0 Sh0 V0 L V20 c' V2'' := by
  obtain ⟨x, Z', k, f, e1, ⟨w1, w2, w3, w4, w5, w6⟩, e2, e3, e4, e5, e6⟩ := h
  refine ⟨x, Z', e1, fun β c' hc => ⟨x, Z', k, f, hc, w1, w2, w3, by omega, fun a ha => ?_, ?_, ?_, e4, fun a a0 a1 a2 a3 => ?_, fun j hj => ?_⟩⟩
  · have := w6 a (by omega)
    have q := hfr a ha
    exact ⟨this.1.trans q.1, (this.2.1 (by omega)).trans q.2, this.2.2⟩
  · rw [hd.2 13 (by omega)]; exact e2
  · rw [hd.2 14 (by omega)]; exact e3
  · rw [hd.1 a a0 a1 a2 a3, e5 a a0]; exact tf.1 a a0 a1 a2 a3
  · rcases hj with c | c | ⟨c, d⟩
    · rw [hd.2 j (by omega), e6 j (by omega)]; exact tf.2 j (Or.inl c)
    · rw [hd.2 j (by omega), e6 j (by omega)]; exact tf.2 j (Or.inr (Or.inl c))
    · exact absurd (by rw [← e2, ← hd.2 13 (by omega)]; exact c) e4
end LN
