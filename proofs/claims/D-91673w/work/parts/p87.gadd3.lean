/-! PURE: one more pipe is tried: the component -/
set_option maxRecDepth 100000
section AC
variable {Sh Sh' : g_Sh} {V V' : g_V} {L L' : g_L} {n n' e' : Nat} {m u : Nat → Nat} {Fz : Nat → Prop} {w : Nat → Int32} {c : Int32}
/-- a field's addresses with one more pipe -/
def mAdd (m : Nat → Nat) (np e' y : Nat) : Nat → Nat := fun i => if i = 11 then e' else if i = 13 + np then y else m i
theorem FR_add (h : FR (Sh, V, L, n) m u Fz w) (hg : pGood w) (h18 : pNp w < 18) (hl : ∀ i, (i < 13 + pNp w ∨ (31 ≤ i ∧ i < 31 + pNh w)) → m i < n) (hz : ∀ a, Fz a → a < n) (hL : LSt Sh' (m 5) e' (pNp w + 1) (fun p => if p = pNp w then n else m (13 + p))) (hV5 : V' (m 5) 2 = nI (pNp w + 1)) (he : e' = m 11 ∨ e' = n + 1) (hs : ∀ a, a < n → a ≠ m 5 → a ≠ m 11 → Sh' a = Sh a) (hv : ∀ a, a < n → a ≠ m 5 → V' a = V a) (hn : ∃ rf, Sh' n = some (d_obj 5 6 rf) ∧ ∀ i, i < 6 → rf i = none) (hvn : ∀ i, i < 6 → V' n i = pAdd w c (624 + 6 * pNp w + i)) : FR (Sh', V', L', n') (mAdd m (pNp w) e' n) u Fz (pAdd w c) ∧ pNh (pAdd w c) = pNh w := by
  have en := pAdd_np (c := c) h18
  have h6 := hg.2.2.1.2.1
  have ej : ∀ j, j ≠ 2 → j < 624 + 6 * pNp w ∨ 732 ≤ j → pAdd w c j = w j := fun j a b => pAdd_j a (by omega)
  have eh : pNh (pAdd w c) = pNh w := pNh_eq (ej 3 (by omega) (by omega))
  obtain ⟨⟨⟨hF0, hA, hT, hV, hk⟩, hi, hN⟩, ⟨p1, p2, p3, p4⟩, hI, hLi, hP, hH, hG⟩ := h
  simp only [zSh_T, zV_T, zL_T, zn_T] at hF0 hA hT hV p1 p2 p3 p4 hI hLi hP hH hG
  have mo : ∀ i, i ≠ 11 → i ≠ 13 + pNp w → mAdd m (pNp w) e' n i = m i := fun i a b => by unfold mAdd; rw [if_neg a, if_neg b]
  have m11 : mAdd m (pNp w) e' n 11 = e' := if_pos rfl
  have mnn : mAdd m (pNp w) e' n (13 + pNp w) = n := by unfold mAdd; rw [if_neg (by omega), if_pos rfl]
  have so : ∀ i, (i < 13 + pNp w ∨ (31 ≤ i ∧ i < 31 + pNh w)) → i ≠ 5 → i ≠ 11 → Sh' (m i) = Sh (m i) := fun i a b d => hs _ (hl i a) (hi.ne a (by omega) b) (hi.ne a (by omega) d)
  have vo : ∀ i, (i < 13 + pNp w ∨ (31 ≤ i ∧ i < 31 + pNh w)) → i ≠ 5 → V' (m i) = V (m i) := fun i a b => hv _ (hl i a) (hi.ne a (by omega) b)
  have zs : ∀ a, Fz a → Sh' a = Sh a ∧ V' a = V a := fun a ha => ⟨hs a (hz a ha) (fun e => hN 5 (by omega) (e ▸ ha)) (fun e => hN 11 (by omega) (e ▸ ha)), hv a (hz a ha) (fun e => hN 5 (by omega) (e ▸ ha))⟩
  have l11 := hl 11 (by omega)
  have cls : ∀ i, (i < 13 + (pNp w + 1) ∨ (31 ≤ i ∧ i < 31 + pNh w)) → (i = 11 ∧ mAdd m (pNp w) e' n i = e') ∨ (i = 13 + pNp w ∧ mAdd m (pNp w) e' n i = n) ∨ (i ≠ 11 ∧ i ≠ 13 + pNp w ∧ (i < 13 + pNp w ∨ (31 ≤ i ∧ i < 31 + pNh w)) ∧ mAdd m (pNp w) e' n i = m i ∧ m i < n ∧ m i ≠ m 11) := by
    intro i hd
    by_cases a : i = 11
    · subst a; exact Or.inl ⟨rfl, m11⟩
    · by_cases b : i = 13 + pNp w
      · subst b; exact Or.inr (Or.inl ⟨rfl, mnn⟩)
      · have hd' : i < 13 + pNp w ∨ (31 ≤ i ∧ i < 31 + pNh w) := by omega
        exact Or.inr (Or.inr ⟨a, b, hd', mo i a b, hl i hd', hi.ne hd' (by omega) a⟩)
  refine ⟨⟨⟨⟨?_, ?_, TS_w (TS_mono hT (fun a ha => (zs a ha).1) (fun a ha => (zs a ha).2)) (fun j hj => ej j (by omega) (by omega)), fun d hd => ?_, pKok_of hk (fun j h3 h4 => ej j (by omega) (by omega))⟩, ?_, ?_⟩, ⟨?_, ?_, fun p hp => ?_, fun p hp => ?_⟩, ?_, ?_, fun p i hp hi => ?_, fun p i hp hi => ?_, fun g hg => ?_⟩, eh⟩
  · obtain ⟨rf, r1, r2, r3, r4, r5, r6⟩ := hF0
    refine ⟨rf, ?_, r2, fun i h1 h8 => ?_, ?_, ?_, r6⟩
    · rw [mo 0 (by omega) (by omega)]; exact (so 0 (by omega) (by omega) (by omega)).trans r1
    · rw [mo i (by omega) (by omega)]; exact r3 i h1 h8
    · rw [mo 9 (by omega) (by omega)]; exact r4
    · rw [mo 10 (by omega) (by omega)]; exact r5
  · show FSa Sh' _
    unfold FSa
    rw [mo 1 (by omega) (by omega), mo 2 (by omega) (by omega), mo 3 (by omega) (by omega), mo 4 (by omega) (by omega), mo 7 (by omega) (by omega), mo 8 (by omega) (by omega), mo 9 (by omega) (by omega), mo 10 (by omega) (by omega), so 1 (by omega) (by omega) (by omega), so 2 (by omega) (by omega) (by omega), so 3 (by omega) (by omega) (by omega), so 4 (by omega) (by omega) (by omega), so 7 (by omega) (by omega) (by omega), so 8 (by omega) (by omega) (by omega), so 9 (by omega) (by omega) (by omega), so 10 (by omega) (by omega) (by omega)]
    exact hA
  · show V' _ d = _ ∧ V' _ d = _ ∧ V' _ d = _ ∧ _
    rw [mo 1 (by omega) (by omega), mo 2 (by omega) (by omega), mo 4 (by omega) (by omega), vo 1 (by omega) (by omega), vo 2 (by omega) (by omega), vo 4 (by omega) (by omega), ej (192 + d) (by omega) (by omega), ej (336 + d) (by omega) (by omega), ej (480 + d) (by omega) (by omega)]
    exact hV d hd
  · rw [en, eh]
    intro i j a b hij
    rcases cls i a with ⟨i1, i2⟩ | ⟨i1, i2⟩ | ⟨i1, i2, i3, i4, i5, i6⟩ <;> rcases cls j b with ⟨j1, j2⟩ | ⟨j1, j2⟩ | ⟨j1, j2, j3, j4, j5, j6⟩
    · omega
    · rw [i2, j2] at hij; omega
    · rw [i2, j4] at hij; omega
    · rw [i2, j2] at hij; omega
    · omega
    · rw [i2, j4] at hij; omega
    · rw [i4, j2] at hij; omega
    · rw [i4, j2] at hij; omega
    · rw [i4, j4] at hij; exact hi i j i3 j3 hij
  · rw [en, eh]
    intro i a hf
    rcases cls i a with ⟨i1, i2⟩ | ⟨i1, i2⟩ | ⟨i1, i2, i3, i4, i5, i6⟩
    · rw [i2] at hf
      rcases he with he | he
      · exact hN 11 (by omega) (he ▸ hf)
      · have := hz _ hf; omega
    · rw [i2] at hf
      have := hz _ hf; omega
    · rw [i4] at hf
      exact hN i i3 hf
  · rw [en, m11, mo 5 (by omega) (by omega)]
    obtain ⟨b1, cap, el, b3, b4, b5, b6⟩ := hL
    refine ⟨b1, cap, el, b3, b4, b5, fun p hp => ?_⟩
    rw [b6 p hp]
    dsimp only
    by_cases e : p = pNp w
    · rw [if_pos e, e, mnn]
    · rw [if_neg e, mo _ (by omega) (by omega)]
  · rw [eh, mo 6 (by omega) (by omega), mo 12 (by omega) (by omega)]
    obtain ⟨b1, cap, el, b3, b4, b5, b6⟩ := LSt_k p2 (so 6 (by omega) (by omega) (by omega)) (so 12 (by omega) (by omega) (by omega))
    refine ⟨b1, cap, el, b3, b4, b5, fun p hp => ?_⟩
    rw [b6 p hp]
    dsimp only
    rw [mo _ (by omega) (by omega)]
  · show ∃ rf, Sh' _ = _ ∧ _
    rw [en] at hp
    by_cases e : p = pNp w
    · rw [e, mnn]; exact hn
    · rw [mo _ (by omega) (by omega), so _ (by omega) (by omega) (by omega)]; exact p3 p (by omega)
  · show ∃ rf, Sh' _ = _ ∧ _
    rw [eh] at hp
    rw [mo _ (by omega) (by omega), so _ (by omega) (by omega) (by omega)]; exact p4 p (by omega)
  · show VI V' _ _
    unfold VI at hI ⊢
    rw [mo 0 (by omega) (by omega), vo 0 (by omega) (by omega), ej 1 (by omega) (by omega), ej 6 (by omega) (by omega), ej 14 (by omega) (by omega), ej 15 (by omega) (by omega), ej 16 (by omega) (by omega), ej 17 (by omega) (by omega), ej 18 (by omega) (by omega), ej 13 (by omega) (by omega), ej 12 (by omega) (by omega)]
    exact hI
  · show VLi V' _ _
    unfold VLi at hLi ⊢
    rw [mo 5 (by omega) (by omega), mo 6 (by omega) (by omega), vo 6 (by omega) (by omega), pAdd_2, ej 3 (by omega) (by omega)]
    exact ⟨hV5, hLi.2⟩
  · show V' _ i = _
    rw [en] at hp
    by_cases e : p = pNp w
    · rw [e, mnn]; exact hvn i hi
    · rw [mo _ (by omega) (by omega), vo _ (by omega) (by omega), ej _ (by omega) (by omega)]; exact hP p i (by omega) hi
  · show V' _ i = _
    rw [eh] at hp
    rw [mo _ (by omega) (by omega), vo _ (by omega) (by omega), ej _ (by omega) (by omega)]; exact hH p i (by omega) hi
  · show V' _ g = _ ∧ (_ ∨ V' _ g = _)
    rw [mo 7 (by omega) (by omega), mo 8 (by omega) (by omega), vo 7 (by omega) (by omega), vo 8 (by omega) (by omega), ej _ (by omega) (by omega), ej _ (by omega) (by omega)]
    exact hG g hg
end AC
