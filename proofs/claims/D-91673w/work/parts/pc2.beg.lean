/-! PURE: a field begins by what is told: as a row -/
set_option maxRecDepth 100000
theorem pBeg_o {w : Nat → Int32} {j : Nat} (h1 : ¬ (192 ≤ j ∧ j < 624)) (h2 : ¬ (790 ≤ j ∧ j < 810 ∧ j % 2 = 0)) (h3 : ¬ (732 ≤ j ∧ j < 750 ∧ j % 3 = 2)) (h4 : j ≠ 18) : pBeg w j = w j := by
  unfold pBeg
  rw [if_neg (by omega), if_neg (by omega), if_neg h2, if_neg h3, if_neg h4]
theorem pBeg_w {w : Nat → Int32} {c : Nat} (hc : c < 144) : pBeg w (192 + c) = w 5 ∧ pBeg w (336 + c) = 0 ∧ pBeg w (480 + c) = 0 := by
  unfold pBeg
  refine ⟨?_, ?_, ?_⟩
  · rw [if_pos (by omega)]
  · rw [if_neg (by omega), if_pos (by omega)]
  · rw [if_neg (by omega), if_pos (by omega)]
theorem pBeg_18 {w : Nat → Int32} : pBeg w 18 = 144 * w 5 := by
  unfold pBeg
  rw [if_neg (by omega), if_neg (by omega), if_neg (by omega), if_neg (by omega), if_pos rfl]
theorem pBeg_g {w : Nat → Int32} {g : Nat} (hg : g < 10) : pBeg w (790 + 2 * g) = -1 := by
  unfold pBeg
  rw [if_neg (by omega), if_neg (by omega), if_pos (by omega)]
theorem pBeg_h {w : Nat → Int32} {h : Nat} (hh : h < 6) : pBeg w (732 + 3 * h + 2) = -1 := by
  unfold pBeg
  rw [if_neg (by omega), if_neg (by omega), if_neg (by omega), if_pos (by omega)]
section BF
variable {S : g_Sh} {V : g_V} {L : g_L} {n np nh nr np0 nh0 : Nat} {W : g_V} {κ u m : Nat → Nat} {Fz : Nat → Prop} {gp : Nat → Nat}
theorem Td_TL (hT : Td S V κ u W np nh nr) (hF : ∀ a, 1 ≤ κ a → κ a ≤ 7 → Fz a) : TL S V Fz u np nh := by
  obtain ⟨⟨⟨rf, r0, -, -, -, r3, r4, -, rn⟩, k0, -⟩, -, -, -, ⟨a1, a2, a3, a4, a5, a6, a7, -⟩, ⟨b1, b2, b3, b4, b5, b6, b7⟩, -⟩ := hT
  refine ⟨⟨rf, r0, r3, r4, rn⟩, a3, a4, b3, b4, fun p hp => ?_, fun h hh => ?_, hF _ (by omega) (by omega), hF _ (by omega) (by omega), hF _ (by omega) (by omega), hF _ (by omega) (by omega), hF _ (by omega) (by omega), a1, b1⟩
  · obtain ⟨c1, c2, c3, -, -, -, c4⟩ := a7 p hp
    refine ⟨c2, ?_, hF _ (by omega) (by omega)⟩
    rw [c3 3 (by omega), c4]; rfl
  · obtain ⟨c1, c2, -⟩ := b7 h hh
    exact ⟨c2, hF _ (by omega) (by omega)⟩
theorem Td_RU {w : Nat → Int32} (hT : Td S V κ u W np nh nr) (hF : ∀ a, 1 ≤ κ a → κ a ≤ 7 → Fz a) (hw : ∀ j, j = 4 ∨ (750 ≤ j ∧ j < 790) → w j = W 15 j) : RU S V Fz u w := by
  obtain ⟨⟨⟨rf, r0, -, -, -, -, -, r5, -⟩, k0, -⟩, -, -, -, -, -, ⟨a1, a2, a3, a4, a5, a6, a7, -⟩, -⟩ := hT
  refine ⟨nr, a1, by rw [hw 4 (by omega)]; exact a2, ⟨rf, r0, r5⟩, a3, a4, hF _ (by omega) (by omega), hF _ (by omega) (by omega), hF _ (by omega) (by omega), fun r hr => ?_⟩
  exact RU1_k (a7 r hr) (fun a ha => ⟨rfl, rfl, hF a (by omega) (by omega)⟩) (fun i hi => hw _ (by omega)) (fun _ _ => rfl)
theorem Td_TS {w : Nat → Int32} (hT : Td S V κ u W np nh nr) (hg : ∀ g, g < 4 → W 16 g = 1) (hF : ∀ a, 1 ≤ κ a → κ a ≤ 7 → Fz a) (hl : V (u 0) 12 = w 0) (hw : ∀ j, j < 192 → j ≠ 0 → j ≠ 18 → w j = W 15 j) : TS S V Fz u w := by
  obtain ⟨⟨⟨rf, r0, r1, r2, r3, -, -, -, rn⟩, k0, v6, v11, vs, -⟩, ⟨q1, ge, q2, q3⟩, ⟨c1, c2, c3⟩, ⟨d1, d2, d3⟩, -⟩ := hT
  have q4 : ∀ g, g < 4 → ge g = some (u (4 + g)) ∧ κ (u (4 + g)) = 2 ∧ (∃ rf, S (u (4 + g)) = some (d_obj 4 4 rf) ∧ ∀ i, i < 4 → rf i = none) ∧ (∀ i, i < 4 → V (u (4 + g)) i = W 15 (20 + 4 * g + i)) := fun g hg4 => by
    rcases q3 g hg4 with ⟨e, -⟩ | ⟨-, e1, e2, e3, e4, -⟩
    · rw [hg g hg4] at e; exact absurd e (by decide)
    · exact ⟨e1, e2, e3, e4⟩
  refine ⟨⟨rf, r0, r1, r2, r3, rn⟩, ⟨ge, q2, fun g hg4 => (q4 g hg4).1⟩, c2, d2, fun g hg4 => ⟨(q4 g hg4).2.2.1, fun i hi => ?_⟩, fun c hc => ?_, fun y hy => ?_, ?_, hl, ?_, fun i hi => ?_⟩
  · rw [hw _ (by omega) (by omega) (by omega)]; exact (q4 g hg4).2.2.2 i hi
  · rw [hw _ (by omega) (by omega) (by omega)]; exact (c3 c hc).1
  · rw [hw _ (by omega) (by omega) (by omega)]
    rcases d3 y hy with ⟨-, e1, e2⟩ | ⟨-, e1, -⟩
    · exact Or.inr ⟨e1, e2⟩
    · exact Or.inl e1
  · rw [hw 5 (by omega) (by omega) (by omega)]; exact v6
  · rw [hw 7 (by omega) (by omega) (by omega), hw 8 (by omega) (by omega) (by omega), hw 9 (by omega) (by omega) (by omega), hw 10 (by omega) (by omega) (by omega), hw 11 (by omega) (by omega) (by omega)]
    rcases vs with e | ⟨e1, ⟨l, t, r, b, e2, -, -, -, -, e4, e5, -⟩, e3⟩
    · exact Or.inl e
    · refine Or.inr ⟨e1, e3.1, e3.2.1, e3.2.2.1, e3.2.2.2, ?_⟩
      rw [e2, N_m1 (by omega)]; exact id
  · have : i = 0 ∨ i = 1 ∨ i = 2 ∨ i = 3 ∨ ∃ g, g < 4 ∧ i = 4 + g := by
      by_cases c : i < 4
      · omega
      · exact Or.inr (Or.inr (Or.inr (Or.inr ⟨i - 4, by omega, by omega⟩)))
    rcases this with rfl | rfl | rfl | rfl | ⟨g, g4, rfl⟩
    · exact hF _ (by omega) (by omega)
    · exact hF _ (by omega) (by omega)
    · exact hF _ (by omega) (by omega)
    · exact hF _ (by omega) (by omega)
    · have := (q4 g g4).2.1
      exact hF _ (by omega) (by omega)
theorem nI_negI {k : Nat} (h : k < 2 ^ 30) : (-(nI k)).toInt = -(k : Int) := by
  rw [Int32.toInt_neg, nI_toInt (by omega)]
  rw [Int.bmod_eq_of_le] <;> omega
theorem Td_inv (hT : Td S V κ u W np nh nr) (hg : ∀ g, g < 4 → W 16 g = 1) : pInv (pBeg (W 15)) := by
  obtain ⟨⟨-, -, -, -, vs, ⟨f, f1, f2, f3⟩, ⟨cc, c1, c2⟩⟩, ⟨q1, ge, q2, q3⟩, ⟨-, -, k3⟩, ⟨-, -, d3⟩, ⟨a1, a2, -, -, -, -, a7, a8, -⟩, ⟨b1, b2, -, -, -, -, b7⟩, -, z⟩ := hT
  have o : ∀ j, ¬ (192 ≤ j ∧ j < 624) → ¬ (790 ≤ j ∧ j < 810 ∧ j % 2 = 0) → ¬ (732 ≤ j ∧ j < 750 ∧ j % 3 = 2) → j ≠ 18 → pBeg (W 15) j = W 15 j := fun j h1 h2 h3 h4 => pBeg_o h1 h2 h3 h4
  have eNp : pNp (pBeg (W 15)) = np := by
    unfold pNp
    rw [o 2 (by omega) (by omega) (by omega) (by omega), a2, nI_clamp (by omega)]
  have eNh : pNh (pBeg (W 15)) = nh := by
    unfold pNh
    rw [o 3 (by omega) (by omega) (by omega) (by omega), b2, nI_clamp (by omega)]
  have q4 : ∀ g, g < 4 → (∃ a, W 15 (20 + 4 * g) = nI a ∧ a ≤ 15) ∧ (∃ a, W 15 (20 + 4 * g + 1) = nI a ∧ a ≤ 15) ∧ (∃ a, W 15 (20 + 4 * g + 2) = nI a ∧ 1 ≤ a ∧ a ≤ 999) ∧ ∃ a, W 15 (20 + 4 * g + 3) = -(nI a) ∧ a ≤ 30 := fun g hg4 => by
    rcases q3 g hg4 with ⟨e, -⟩ | ⟨-, -, -, -, -, e⟩
    · rw [hg g hg4] at e; exact absurd e (by decide)
    · exact e
  have eP : ∀ p, p < np → ∃ c, pBeg (W 15) (624 + 6 * p) = nI c ∧ c < 144 ∧ pPc (pBeg (W 15)) p = c := fun p hp => by
    obtain ⟨-, -, -, ⟨c, e1, e2⟩, -⟩ := a7 p hp
    have : pBeg (W 15) (624 + 6 * p) = nI c := by rw [o _ (by omega) (by omega) (by omega) (by omega)]; exact e1
    exact ⟨c, this, e2, by unfold pPc; rw [this, nI_clamp (by omega)]⟩
  have i0 : (0 : Int32).toInt = 0 := rfl
  refine ⟨⟨fun c hc => ?_, ⟨?_, ?_, fun p hp => ?_, ?_⟩, ⟨?_, ?_, fun h hh => ?_⟩, ⟨fun g hg4 => ⟨?_, ?_, ?_, ?_⟩, fun y hy => ?_, ?_, ?_⟩, ⟨fun p hp => ⟨?_, ?_, Or.inr ?_⟩, fun p q hp hq e => ?_⟩, fun c hc => ⟨?_, ?_, ?_⟩⟩, by omega, ?_, ?_, ?_, fun g hg10 => Or.inl (pBeg_g hg10), 0, by omega, ?_⟩
  · rw [o _ (by omega) (by omega) (by omega) (by omega)]; exact (k3 c hc).2
  · rw [eNp, o 2 (by omega) (by omega) (by omega) (by omega)]; exact a2
  · omega
  · rw [eNp] at hp
    obtain ⟨c, e1, e2, e3⟩ := eP p hp
    rw [e3]; exact ⟨e1, e2⟩
  · rw [o 6 (by omega) (by omega) (by omega) (by omega), c1, nI_toInt (by omega)]; omega
  · rw [eNh, o 3 (by omega) (by omega) (by omega) (by omega)]; exact b2
  · omega
  · rw [eNh] at hh
    obtain ⟨-, -, -, -, -, c, e1, e2⟩ := b7 h hh
    have e : pBeg (W 15) (732 + 3 * h) = nI c := by rw [o _ (by omega) (by omega) (by omega) (by omega)]; exact e1
    have e3 : pHx (pBeg (W 15)) h = c := by unfold pHx; rw [e, nI_clamp (by omega)]
    rw [e3]; exact ⟨e, e2⟩
  · obtain ⟨⟨a, e1, e2⟩, -⟩ := q4 g hg4
    rw [o _ (by omega) (by omega) (by omega) (by omega), e1, nI_toInt (by omega)]; omega
  · obtain ⟨-, ⟨a, e1, e2⟩, -⟩ := q4 g hg4
    rw [o _ (by omega) (by omega) (by omega) (by omega), e1, nI_toInt (by omega)]; omega
  · obtain ⟨-, -, ⟨a, e1, e3, e2⟩, -⟩ := q4 g hg4
    rw [o _ (by omega) (by omega) (by omega) (by omega), e1, nI_toInt (by omega)]; omega
  · obtain ⟨-, -, -, ⟨a, e1, e2⟩⟩ := q4 g hg4
    rw [o _ (by omega) (by omega) (by omega) (by omega), e1, nI_negI (by omega)]; omega
  · rw [o _ (by omega) (by omega) (by omega) (by omega)]
    rcases d3 y hy with ⟨-, -, e⟩ | ⟨-, -, k, e1, e2⟩
    · rw [e, i0]; omega
    · rw [e1, nI_toInt (by omega)]; omega
  · rw [o 5 (by omega) (by omega) (by omega) (by omega), f1, nI_toInt (by omega)]; omega
  · rw [o 5 (by omega) (by omega) (by omega) (by omega), f1, nI_toInt (by omega)]; omega
  · rw [eNp] at hp
    obtain ⟨-, -, -, -, ⟨k, e1, e2⟩, -⟩ := a7 p hp
    rw [o _ (by omega) (by omega) (by omega) (by omega), e1, nI_negI (by omega)]; omega
  · rw [eNp] at hp
    obtain ⟨-, -, -, -, -, ⟨k, e1, e2⟩, -⟩ := a7 p hp
    rw [o _ (by omega) (by omega) (by omega) (by omega), e1, nI_toInt (by omega)]; omega
  · rw [eNp] at hp
    obtain ⟨-, -, -, -, -, -, e⟩ := a7 p hp
    rw [o _ (by omega) (by omega) (by omega) (by omega)]; exact e
  · rw [eNp] at hp hq
    obtain ⟨c, e1, e2, e3⟩ := eP p hp
    obtain ⟨d, g1, g2, g3⟩ := eP q hq
    rw [e3, g3] at e
    subst e
    rw [o _ (by omega) (by omega) (by omega) (by omega)] at e1 g1
    exact a8 p q hp hq (by rw [e1, g1])
  · rw [(pBeg_w hc).1, f1, nI_toInt (by omega)]; omega
  · rw [(pBeg_w hc).2.1, i0]; omega
  · rw [(pBeg_w hc).2.1, i0]
    obtain ⟨k, hk4, ek⟩ := (k3 c hc).2
    obtain ⟨-, -, ⟨a, e1, e3, e2⟩, -⟩ := q4 k hk4
    have : pGr (pBeg (W 15)) c 2 = nI a := by
      unfold pGr pKd
      rw [o (48 + c) (by omega) (by omega) (by omega) (by omega), ek, nI_clamp (by omega), o _ (by omega) (by omega) (by omega) (by omega)]; exact e1
    rw [this, nI_toInt (by omega)]; omega
  · intro hh
    unfold pHas at hh
    rw [o 7 (by omega) (by omega) (by omega) (by omega)] at hh
    rw [o 8 (by omega) (by omega) (by omega) (by omega), o 9 (by omega) (by omega) (by omega) (by omega), o 10 (by omega) (by omega) (by omega) (by omega), o 11 (by omega) (by omega) (by omega) (by omega)]
    rcases vs with ⟨e, -⟩ | ⟨-, e, -⟩
    · rw [e] at hh; exact absurd hh (by decide)
    · exact e
  · left; rw [o 12 (by omega) (by omega) (by omega) (by omega)]; exact z 12 (by omega)
  · rw [pBeg_18, o 5 (by omega) (by omega) (by omega) (by omega)]
  · rw [o 1 (by omega) (by omega) (by omega) (by omega)]; exact z 1 (by omega)
theorem beg_Fld (hX : FN S V n m np0 nh0) (hT : Td S V κ u W np nh nr) (hg : ∀ g, g < 4 → W 16 g = 1) (hl : V (u 0) 12 = W 15 0) (kk : ∀ a, κ a ≠ 0 → a < n) (hap : ∀ a, 1 ≤ κ a → κ a ≤ 7 → ∀ i, (i < 13 + np0 ∨ (31 ≤ i ∧ i < 31 + nh0)) → a ≠ m i) : ∃ S' V' n' m', cm_X1_begins gp (S, V, L, n) (m 0) (u 0) = some (S', V', L, n') ∧ n ≤ n' ∧ m' 0 = m 0 ∧ FX S' V' n' m' (u 0) np nh ∧ (∀ i, (i < 13 + np ∨ (31 ≤ i ∧ i < 31 + nh)) → (∃ j, j < 13 ∧ m' i = m j) ∨ n ≤ m' i) ∧ (∀ a, a < n → (∀ i, (i < 13 + np0 ∨ (31 ≤ i ∧ i < 31 + nh0)) → a ≠ m i) → S' a = S a ∧ V' a = V a) ∧ ∀ (ρ' : Nat → Nat) (k : Nat), k ≠ 1 → (∀ a, 1 ≤ κ a → κ a ≤ 7 → ρ' a = 1) → (∀ i, i < 13 → ρ' (m i) = k) → (∀ a, n ≤ a → a < n' → ρ' a = k) → Fld (S', V', L, n') ρ' k m' u (pBeg (W 15)) := by
  have hTL : TL S V (fun a => 1 ≤ κ a ∧ κ a ≤ 7) u np nh := Td_TL hT (fun a h1 h2 => ⟨h1, h2⟩)
  obtain ⟨S', V', n', m', e1, bX, bm, bn, bp, bh, bi, ba, bg, bf, bc⟩ := cm_begins_n (L := L) (gp := gp) hX hTL (fun a ha => ⟨kk a (by omega), hap a ha.1 ha.2⟩)
  have hmi : ∀ i, (i < 13 + np ∨ (31 ≤ i ∧ i < 31 + nh)) → (∃ j, j < 13 ∧ m' i = m j) ∨ n ≤ m' i := fun i hi => by
    by_cases h11 : i < 11
    · exact Or.inl ⟨i, by omega, bm i h11⟩
    · rcases bc i hi (by omega) with ⟨c1, c2⟩ | c
      · exact Or.inl ⟨i, by omega, c2⟩
      · exact Or.inr c
  refine ⟨S', V', n', m', e1, bn, bm 0 (by omega), bX, hmi, bf, fun ρ' k hk1 r1 rm rn => ?_⟩
  have fr : ∀ a, 1 ≤ κ a ∧ κ a ≤ 7 → S' a = S a ∧ V' a = V a := fun a ha => bf a (kk a (by omega)) (hap a ha.1 ha.2)
  have hF : ∀ a, 1 ≤ κ a → κ a ≤ 7 → ρ' a = 1 := r1
  have o : ∀ j, ¬ (192 ≤ j ∧ j < 624) → ¬ (790 ≤ j ∧ j < 810 ∧ j % 2 = 0) → ¬ (732 ≤ j ∧ j < 750 ∧ j % 3 = 2) → j ≠ 18 → pBeg (W 15) j = W 15 j := fun j h1 h2 h3 h4 => pBeg_o h1 h2 h3 h4
  have inv := Td_inv hT hg
  have ts0 : TS S V (fun a => 1 ≤ κ a ∧ κ a ≤ 7) u (pBeg (W 15)) := Td_TS hT hg (fun a h1 h2 => ⟨h1, h2⟩) (by rw [o 0 (by omega) (by omega) (by omega) (by omega)]; exact hl) (fun j j1 j2 j3 => o j (by omega) (by omega) (by omega) j3)
  have ts : TS S' V' (fun a => ρ' a = 1) u (pBeg (W 15)) := TS_z (TS_mono ts0 (fun a ha => (fr a ha).1) (fun a ha => (fr a ha).2)) (fun a ha => hF a ha.1 ha.2)
  have tl : TL S' V' (fun a => ρ' a = 1) u np nh := TL_z (TL_mono hTL (fun a ha => (fr a ha).1) (fun a ha => (fr a ha).2)) (fun a ha => hF a ha.1 ha.2)
  have ru0 : RU S V (fun a => 1 ≤ κ a ∧ κ a ≤ 7) u (pBeg (W 15)) := Td_RU hT (fun a h1 h2 => ⟨h1, h2⟩) (fun j hj => o j (by omega) (by omega) (by omega) (by omega))
  have ru : RU S' V' (fun a => ρ' a = 1) u (pBeg (W 15)) := RU_k ru0 fr (fun a ha => hF a ha.1 ha.2)
  obtain ⟨g1, -, -, -, ⟨a1, a2, -, -, -, -, a7, -⟩, ⟨b1, b2, -, -, -, -, b7⟩, -, z⟩ := hT
  have eNp : pNp (pBeg (W 15)) = np := by
    unfold pNp
    rw [o 2 (by omega) (by omega) (by omega) (by omega), a2, nI_clamp (by omega)]
  have eNh : pNh (pBeg (W 15)) = nh := by
    unfold pNh
    rw [o 3 (by omega) (by omega) (by omega) (by omega), b2, nI_clamp (by omega)]
  obtain ⟨cF, cA', cP, cm, cn, c5, c6, c18, ch6⟩ := bX
  have how : ∀ i, (i < 13 + np ∨ (31 ≤ i ∧ i < 31 + nh)) → ρ' (m' i) = k := fun i hi => by
    rcases hmi i hi with ⟨j, j1, j2⟩ | c
    · rw [j2]; exact rm j j1
    · exact rn _ c (cn i hi)
  refine ⟨⟨⟨⟨cF, cA', ts, fun c hc => ?_, inv.1.1⟩, ?_, ?_⟩, ?_, ?_, ?_, fun p i hp hi => ?_, fun p i hp hi => ?_, fun g hg10 => ⟨?_, Or.inl (pBeg_g hg10)⟩⟩, ?_, ⟨np, nh, tl⟩, ru, inv⟩
  · have := ba c hc
    rw [bm 1 (by omega), bm 2 (by omega), bm 4 (by omega), (pBeg_w hc).1, (pBeg_w hc).2.1, (pBeg_w hc).2.2]
    exact ⟨this.1.trans g1.2.2.1, this.2.1, this.2.2, Or.inl rfl⟩
  · rw [eNp, eNh]; exact cm
  · rw [eNp, eNh]
    intro i hi e
    have e : ρ' (m' i) = 1 := e
    rw [how i hi] at e; exact hk1 e
  · rw [eNp, eNh]; exact cP
  · obtain ⟨i1, i2, i3, i4, i5, i6, i7, i8, i9⟩ := bi
    show VI V' m' _
    unfold VI
    rw [bm 0 (by omega), i1, i2, i3, i4, i5, i6, i7, i8, i9, pBeg_18, o 1 (by omega) (by omega) (by omega) (by omega), o 6 (by omega) (by omega) (by omega) (by omega), o 14 (by omega) (by omega) (by omega) (by omega), o 15 (by omega) (by omega) (by omega) (by omega), o 16 (by omega) (by omega) (by omega) (by omega), o 17 (by omega) (by omega) (by omega) (by omega), o 13 (by omega) (by omega) (by omega) (by omega), o 12 (by omega) (by omega) (by omega) (by omega), z 1 (by omega), z 14 (by omega), z 15 (by omega), z 16 (by omega), z 17 (by omega), z 13 (by omega), z 12 (by omega), g1.2.2.1, g1.2.2.2.1]
    exact ⟨rfl, rfl, rfl, rfl, rfl, rfl, rfl, rfl, rfl⟩
  · show VLi V' m' _
    unfold VLi
    rw [o 2 (by omega) (by omega) (by omega) (by omega), o 3 (by omega) (by omega) (by omega) (by omega), a2, b2]
    exact ⟨c5, c6⟩
  · rw [eNp] at hp
    show V' (m' (13 + p)) i = _
    rw [bp p i hp hi, o _ (by omega) (by omega) (by omega) (by omega)]
    exact (a7 p hp).2.2.1 i hi
  · rw [eNh] at hp
    show V' (m' (31 + p)) i = _
    rw [bh p i hp hi]
    obtain ⟨-, -, h0, h1, h2, -⟩ := b7 p hp
    have hh : i = 0 ∨ i = 1 ∨ i = 2 := by omega
    rcases hh with rfl | rfl | rfl
    · rw [h0, o _ (by omega) (by omega) (by omega) (by omega)]; rfl
    · rw [h1, o _ (by omega) (by omega) (by omega) (by omega)]
    · rw [h2, pBeg_h (by omega)]
  · show V' (m' 7) g = _
    rw [bm 7 (by omega), bg g hg10, pBeg_g hg10]
  · rw [eNp, eNh]; exact how
end BF
