/-! PURE: the component: a tick, whole -/
set_option maxRecDepth 100000
theorem pWayO_lt {w : Nat → Int32} (hk : pKok w) : ∀ v, pWayO w = some v → v < 2 ^ 31 := pWayO_le (V := fun _ => w) hk
section CL
variable {Sh : g_Sh} {V V' : g_V} {L : g_L} {n : Nat} {m u : Nat → Nat} {Fz : Nat → Prop} {np nh : Nat} {w w' : Nat → Int32}
theorem FM_w (h : FM (Sh, V, L, n) m u Fz np nh w) (h1 : V' (m 1) = V (m 1)) (h2 : V' (m 2) = V (m 2)) (h4 : V' (m 4) = V (m 4)) (hz : ∀ a, Fz a → V' a = V a) (hw : ∀ j, (j = 0 ∨ j = 5 ∨ (7 ≤ j ∧ j < 12) ∨ (20 ≤ j ∧ j < 624)) → w' j = w j) : FM (Sh, V', L, n) m u Fz np nh w' := by
  obtain ⟨hR, hm, hzz⟩ := h
  obtain ⟨hF, hA, hT, hV, hk⟩ := RD_frame (V' := V') (L' := L) (n' := n) hR h1 h2 h4 hz
  refine ⟨⟨hF, hA, TS_w hT (fun j hj => hw j (by omega)), fun c hc => ?_, pKok_of hk (fun j h3 h4 => hw j (by omega))⟩, hm, hzz⟩
  obtain ⟨v1, v2, v3, v4⟩ := hV c hc
  rw [hw (192 + c) (by omega), hw (336 + c) (by omega), hw (480 + c) (by omega)]
  exact ⟨v1, v2, v3, v4⟩
theorem pNp_eq (h : w' 2 = w 2) : pNp w' = pNp w := by unfold pNp; rw [h]
theorem pNh_eq (h : w' 3 = w 3) : pNh w' = pNh w := by unfold pNh; rw [h]
theorem cm_ticks_eq (hFR : FR (Sh, V, L, n) m u Fz w) (hp : pPok w) (hh : pHok w) (hb : pBnd w) (hn1 : ∀ y, y < 12 → ¬ w (36 + y) = -1) : ∃ V', cm_X1_ticks (Sh, V, L, n) (m 0) = some (Sh, V', L, n) ∧ FR (Sh, V', L, n) m u Fz (pTicks w) ∧ ∀ a, (∀ i, (i < 13 + pNp w ∨ (31 ≤ i ∧ i < 31 + pNh w)) → a ≠ m i) → V' a = V a := by
  obtain ⟨hM, hP, hI, hL, hvp, hvh, hvg⟩ := hFR
  simp only [zSh_T, zV_T, zL_T, zn_T] at hP hI hL hvp hvh hvg
  have hm := hM.2.1
  have hz := hM.2.2
  have hF : FS0 Sh m (u 0) := hM.1.1
  have h18 := hp.2.1
  have h6 := hh.2.1
  obtain ⟨i9, i10, i11, i12, i13, i14, i15, i16, i17⟩ := hI
  have t1 := cm_ticks_1 hM hn1 i12 i13
  -- the state behind the first loop
  generalize hX : upd (upd (V (m 0)) 12 (tRimI w 144)) 13 (tStrI w 144) = X at t1
  generalize hC : (fun j => if j < 144 then pCame w j else V (m 3) j) = C at t1
  have hCc : ∀ c, c < 144 → C c = pCame w c := by intro c hc; rw [← hC]; exact if_pos hc
  have hV1 : ∃ V1, V1 = rowV (rowV V (m 0) X) (m 3) C := ⟨_, rfl⟩
  obtain ⟨V1, hV1⟩ := hV1
  have t1' : cm_X1_ticks_L2 (m 0) 1000 0 (Sh, V, L, n) = some (Sh, V1, L, n) := by rw [t1, hV1]
  have v1lo : ∀ j, (j < 13 + pNp w ∨ (31 ≤ j ∧ j < 31 + pNh w)) → j ≠ 0 → j ≠ 3 → V1 (m j) = V (m j) := by
    intro j hj h0 h3
    rw [hV1, rowM_ne hm hj (by omega) h3, rowM_ne hm hj (by omega) h0]
  have v10 : V1 (m 0) = X := by rw [hV1, rowM_ne hm (by omega) (by omega) (by omega), rowV_eq]
  have v13 : V1 (m 3) = C := by rw [hV1, rowV_eq]
  have v1o : ∀ a, (∀ i, (i < 13 + pNp w ∨ (31 ≤ i ∧ i < 31 + pNh w)) → a ≠ m i) → V1 a = V a := by
    intro a ha
    rw [hV1, rowV_ne (ha 3 (by omega)), rowV_ne (ha 0 (by omega))]
  have fz : ∀ a, Fz a → ∀ i, (i < 13 + pNp w ∨ (31 ≤ i ∧ i < 31 + pNh w)) → a ≠ m i := fun a ha i hi e => hz i hi (e ▸ ha)
  obtain ⟨hp1, en1, ec1⟩ := pPok_T1 hp
  have w1 : ∀ j, j ≠ 15 → j ≠ 16 → pT1 w j = w j := fun j h15 h16 => pT1I_j h15 h16
  have hM1 : FM (Sh, V1, L, n) m u Fz (pNp (pT1 w)) (pNh w) (pT1 w) := by
    rw [en1]
    exact FM_w hM (v1lo 1 (by omega) (by omega) (by omega)) (v1lo 2 (by omega) (by omega) (by omega)) (v1lo 4 (by omega) (by omega) (by omega)) (fun a ha => v1o a (fz a ha)) (fun j hj => w1 j (by omega) (by omega))
  have hb1 : pBnd (pT1 w) := by
    refine ⟨fun c hc => ?_, fun p hp9 => ?_⟩
    · rw [w1 _ (by omega) (by omega)]; exact hb.1 c hc
    · rw [en1] at hp9
      rw [w1 _ (by omega) (by omega), w1 _ (by omega) (by omega)]; exact hb.2 p hp9
  have hvp1 : VPi V1 m (pT1 w) := by
    intro p i hp9 hi
    rw [en1] at hp9
    rw [v1lo (13 + p) (by omega) (by omega) (by omega), w1 _ (by omega) (by omega)]
    exact hvp p i hp9 hi
  have x11 : X 11 = V (m 0) 11 := by rw [← hX, upd_ne (by omega), upd_ne (by omega)]
  have x10 : X 10 = V (m 0) 10 := by rw [← hX, upd_ne (by omega), upd_ne (by omega)]
  obtain ⟨V2, t2, c0, c3, cp, co⟩ := cm_cools_eq hM1 (by rw [en1]; exact hP) hp1 hb1 hvp1 (by rw [v1lo 5 (by omega) (by omega) (by omega), w1 _ (by omega) (by omega)]; exact hL.1) (by rw [v10, x10, w1 _ (by omega) (by omega)]; exact i10) (by rw [v10, x11, w1 _ (by omega) (by omega)]; exact i11)
  rw [en1] at cp co
  rw [v10] at c0
  rw [v13] at c0 c3 cp
  obtain ⟨q1, q2⟩ := pPip_h hp1 hCc
  generalize hQ : pPip (pT1 w) C = Q at c0 c3 cp q1 q2
  have w2 : ∀ j, j ≠ 14 → j ≠ 15 → j ≠ 16 → (j < 624 ∨ 732 ≤ j ∨ (j - 624) % 6 < 4) → Q.1 j = w j := by
    intro j h14 h15 h16 hj
    rw [q1, pPip_A hp1 j h14 hj, w1 j h15 h16]
  have v2lo : ∀ j, (j < 13 ∨ (31 ≤ j ∧ j < 31 + pNh w)) → j ≠ 0 → j ≠ 3 → V2 (m j) = V (m j) := by
    intro j hj h0 h3
    rw [co _ (hm.ne (by omega) (by omega) h0) (hm.ne (by omega) (by omega) h3) (fun p hp9 => hm.ne (by omega) (by omega) (by omega)), v1lo j (by omega) h0 h3]
  have v2o : ∀ a, (∀ i, (i < 13 + pNp w ∨ (31 ≤ i ∧ i < 31 + pNh w)) → a ≠ m i) → V2 a = V a := by
    intro a ha
    rw [co a (ha 0 (by omega)) (ha 3 (by omega)) (fun p hp9 => ha (13 + p) (by omega)), v1o a ha]
  have hM2 : FM (Sh, V2, L, n) m u Fz (pNp w) (pNh w) Q.1 := FM_w hM (v2lo 1 (by omega) (by omega) (by omega)) (v2lo 2 (by omega) (by omega) (by omega)) (v2lo 4 (by omega) (by omega) (by omega)) (fun a ha => v2o a (fz a ha)) (fun j hj => w2 j (by omega) (by omega) (by omega) (by omega))
  have t3 := cm_does_eq hM2 c3
  have hM3 := FM_does (h := Q.2) (i := 144) hM2 (Nat.le_refl _)
  have e3 : pDoesI Q.1 Q.2 144 = pT3 w := by
    unfold pT3 pDoes
    rw [q1]
    exact pDoesI_h (Nat.le_refl _) q2
  rw [e3] at hM3
  have hV3 : ∃ V3, V3 = rowV (rowV V2 (m 1) (fun c => if c < 144 then dW V2 m Q.1 Q.2 c else V2 (m 1) c)) (m 2) (fun c => if c < 144 then dI V2 m Q.1 Q.2 c else V2 (m 2) c) := ⟨_, rfl⟩
  obtain ⟨V3, hV3⟩ := hV3
  have t3' : cm_X1_ticks_L50 (m 0) 1000 0 (Sh, V2, L, n) = some (Sh, V3, L, n) := by rw [t3, hV3]
  have hM3' : FM (Sh, V3, L, n) m u Fz (pNp w) (pNh w) (pT3 w) := by rw [hV3]; exact hM3
  have v3lo : ∀ j, (j < 13 + pNp w ∨ (31 ≤ j ∧ j < 31 + pNh w)) → j ≠ 1 → j ≠ 2 → V3 (m j) = V2 (m j) := by
    intro j hj h1 h2
    rw [hV3, rowM_ne hm hj (by omega) h2, rowM_ne hm hj (by omega) h1]
  have v3o : ∀ a, (∀ i, (i < 13 + pNp w ∨ (31 ≤ i ∧ i < 31 + pNh w)) → a ≠ m i) → V3 a = V a := by
    intro a ha
    rw [hV3, rowV_ne (ha 2 (by omega)), rowV_ne (ha 1 (by omega)), v2o a ha]
  -- the tick
  have hV4 : ∃ V4, V4 = rowV V3 (m 0) (upd (V3 (m 0)) 9 (V3 (m 0) 9 + 1)) := ⟨_, rfl⟩
  obtain ⟨V4, hV4⟩ := hV4
  have v4lo : ∀ j, (j < 13 + pNp w ∨ (31 ≤ j ∧ j < 31 + pNh w)) → j ≠ 0 → V4 (m j) = V3 (m j) := by
    intro j hj h0
    rw [hV4, rowM_ne hm hj (by omega) h0]
  have v40 : V4 (m 0) = upd (V3 (m 0)) 9 (V3 (m 0) 9 + 1) := by rw [hV4, rowV_eq]
  have v4o : ∀ a, (∀ i, (i < 13 + pNp w ∨ (31 ≤ i ∧ i < 31 + pNh w)) → a ≠ m i) → V4 a = V a := by
    intro a ha
    rw [hV4, rowV_ne (ha 0 (by omega)), v3o a ha]
  have v30 : V3 (m 0) = upd X 11 (Q.1 14) := by rw [v3lo 0 (by omega) (by omega) (by omega), c0]
  have b3 : ∀ j, j ≠ 14 → j ≠ 15 → j ≠ 16 → (j < 192 ∨ 480 ≤ j) → (j < 624 ∨ 732 ≤ j ∨ (j - 624) % 6 < 4) → pT3 w j = w j := pT3_B hp
  have b39 : V3 (m 0) 9 = pT3 w 1 := by
    rw [v30, upd_ne (by omega), ← hX, upd_ne (by omega), upd_ne (by omega), i9]
    exact (b3 1 (by omega) (by omega) (by omega) (by omega) (by omega)).symm
  obtain ⟨hh4, en4⟩ := pT4_hok hp hh
  generalize hw4 : upd (pT3 w) 1 (pT3 w 1 + 1) = w4 at hh4 en4
  have w4e : ∀ j, j ≠ 1 → w4 j = pT3 w j := by intro j hj; rw [← hw4, upd_ne hj]
  have hM4 : FM (Sh, V4, L, n) m u Fz (pNp w) (pNh w4) w4 := by
    rw [en4]
    exact FM_w hM3' (v4lo 1 (by omega) (by omega)) (v4lo 2 (by omega) (by omega)) (v4lo 4 (by omega) (by omega)) (fun a ha => by rw [v4o a (fz a ha), v3o a (fz a ha)]) (fun j hj => w4e j (by omega))
  have vlow4 : ∀ j, (j < 13 ∨ (31 ≤ j ∧ j < 31 + pNh w)) → j ≠ 0 → j ≠ 1 → j ≠ 2 → j ≠ 3 → V4 (m j) = V (m j) := by
    intro j hj h0 h1 h2 h3
    rw [v4lo j (by omega) h0, v3lo j (by omega) h1 h2, v2lo j hj h0 h3]
  have hv4h : VHo V4 m w4 := by
    intro k i hk hi
    rw [en4] at hk
    rw [vlow4 _ (by omega) (by omega) (by omega) (by omega) (by omega), w4e _ (by omega), b3 _ (by omega) (by omega) (by omega) (by omega) (by omega)]
    exact hvh k i hk hi
  obtain ⟨V5, t5, hv5h, hv5o⟩ := cm_hou_eq hM4 (by rw [en4]; exact hP) hh4 (by rw [vlow4 6 (by omega) (by omega) (by omega) (by omega) (by omega), w4e _ (by omega), b3 _ (by omega) (by omega) (by omega) (by omega) (by omega)]; exact hL.2) (by rw [v40, upd_eq, ← hw4, upd_eq, b39]) hv4h
  rw [en4] at hv5h hv5o
  have e5 : pHou w4 = pT5 w := by rw [← hw4]; rfl
  rw [e5] at hv5h
  have v5lo : ∀ j, j < 13 + pNp w → V5 (m j) = V4 (m j) := fun j hj => hv5o _ (fun k hk => hm.ne (by omega) (by omega) (by omega))
  have v5o : ∀ a, (∀ i, (i < 13 + pNp w ∨ (31 ≤ i ∧ i < 31 + pNh w)) → a ≠ m i) → V5 a = V a := by
    intro a ha
    rw [hv5o a (fun k hk => ha (31 + k) (by omega)), v4o a ha]
  have w5e : ∀ j, j < 732 → pT5 w j = w4 j := by
    intro j hj
    rw [← e5]
    exact pHouI_lt hj
  have hM5 : FM (Sh, V5, L, n) m u Fz (pNp w) (pNh w) (pT5 w) := by
    rw [en4] at hM4
    exact FM_w hM4 (v5lo 1 (by omega)) (v5lo 2 (by omega)) (v5lo 4 (by omega)) (fun a ha => by rw [v5o a (fz a ha), v4o a (fz a ha)]) (fun j hj => w5e j (by omega))
  -- values behind the houses
  have hn2 : pT5 w 2 = w 2 := by rw [w5e 2 (by omega), w4e 2 (by omega), b3 2 (by omega) (by omega) (by omega) (by omega) (by omega)]
  have hn3 : pT5 w 3 = w 3 := by rw [w5e 3 (by omega), w4e 3 (by omega), b3 3 (by omega) (by omega) (by omega) (by omega) (by omega)]
  have hI5 : VI V5 m (pT5 w) := by
    unfold VI
    rw [v5lo 0 (by omega), v40]
    have z : ∀ j, 9 < j → j ≠ 11 → j ≠ 12 → j ≠ 13 → upd (V3 (m 0)) 9 (V3 (m 0) 9 + 1) j = V (m 0) j := by
      intro j h9 h11 h12 h13
      rw [upd_ne (by omega), v30, upd_ne h11, ← hX, upd_ne h13, upd_ne h12]
    have zz : ∀ j, j < 624 → (j < 192) → j ≠ 1 → j ≠ 14 → j ≠ 15 → j ≠ 16 → pT5 w j = w j := by
      intro j hj hj2 h1 h14 h15 h16
      rw [w5e j (by omega), w4e j h1, b3 j h14 h15 h16 (by omega) (by omega)]
    have y14 : pT3 w 14 = Q.1 14 := by
      rw [← e3]
      exact pDoesI_ag (Nat.le_refl _) 14 (by omega)
    have y15 : pT3 w 15 = tRimI w 144 := by
      rw [← e3, pDoesI_ag (Nat.le_refl _) 15 (by omega), q1, pPip_A hp1 15 (by omega) (by omega)]
      unfold pT1 pT1I
      rw [upd_ne (by omega), upd_eq]
    have y16 : pT3 w 16 = tStrI w 144 := by
      rw [← e3, pDoesI_ag (Nat.le_refl _) 16 (by omega), q1, pPip_A hp1 16 (by omega) (by omega)]
      unfold pT1 pT1I
      rw [upd_eq]
    refine ⟨?_, ?_, ?_, ?_, ?_, ?_, ?_, ?_, ?_⟩
    · rw [upd_eq, w5e 1 (by omega), ← hw4, upd_eq, b39]
    · rw [z 10 (by omega) (by omega) (by omega) (by omega), zz 6 (by omega) (by omega) (by omega) (by omega) (by omega) (by omega)]; exact i10
    · rw [upd_ne (by omega), v30, upd_eq, w5e 14 (by omega), w4e 14 (by omega), y14]
    · rw [upd_ne (by omega), v30, upd_ne (by omega), ← hX, upd_ne (by omega), upd_eq, w5e 15 (by omega), w4e 15 (by omega), y15]
    · rw [upd_ne (by omega), v30, upd_ne (by omega), ← hX, upd_eq, w5e 16 (by omega), w4e 16 (by omega), y16]
    · rw [z 14 (by omega) (by omega) (by omega) (by omega), zz 17 (by omega) (by omega) (by omega) (by omega) (by omega) (by omega)]; exact i14
    · rw [z 15 (by omega) (by omega) (by omega) (by omega), zz 18 (by omega) (by omega) (by omega) (by omega) (by omega) (by omega)]; exact i15
    · rw [z 16 (by omega) (by omega) (by omega) (by omega), zz 13 (by omega) (by omega) (by omega) (by omega) (by omega) (by omega)]; exact i16
    · rw [z 17 (by omega) (by omega) (by omega) (by omega), zz 12 (by omega) (by omega) (by omega) (by omega) (by omega) (by omega)]; exact i17
  have hvp5 : VPi V5 m (pT5 w) := by
    intro p i hp9 hi
    rw [pNp_eq hn2] at hp9
    rw [v5lo _ (by omega), v4lo _ (by omega) (by omega), v3lo _ (by omega) (by omega) (by omega), cp p i hp9 hi, w5e _ (by omega), w4e _ (by omega), ← e3, pDoesI_ag (Nat.le_refl _) _ (by omega)]
  have hvh5 : VHo V5 m (pT5 w) := by
    intro k i hk hi
    rw [pNh_eq hn3] at hk
    exact hv5h k i hk hi
  have hvg5 : VGa V5 m (pT5 w) := by
    have z : ∀ j, 750 ≤ j → pT5 w j = w j := by
      intro j hj
      rw [← e5]
      show pHouI w4 (pNh w4) j = w j
      unfold pHouI
      rw [en4, if_neg (by omega), w4e _ (by omega), b3 _ (by omega) (by omega) (by omega) (by omega) (by omega)]
    intro g hg
    rw [v5lo 7 (by omega), v5lo 8 (by omega), vlow4 7 (by omega) (by omega) (by omega) (by omega) (by omega), vlow4 8 (by omega) (by omega) (by omega) (by omega) (by omega), z _ (by omega), z _ (by omega)]
    exact hvg g hg
  have hL5 : VLi V5 m (pT5 w) := by
    unfold VLi
    rw [v5lo 5 (by omega), v5lo 6 (by omega), vlow4 5 (by omega) (by omega) (by omega) (by omega) (by omega), vlow4 6 (by omega) (by omega) (by omega) (by omega) (by omega), hn2, hn3]
    exact hL
  have hFR5 : FR (Sh, V5, L, n) m u Fz (pT5 w) := by
    unfold FR
    rw [pNp_eq hn2, pNh_eq hn3]
    exact ⟨hM5, hP, hI5, hL5, hvp5, hvh5, hvg5⟩
  -- the flood
  have fl : ∀ V6, V6 (m 0) = upd (upd (V5 (m 0)) 17 1) 16 (V5 (m 0) 16 + 1) → (∀ a, a ≠ m 0 → a ≠ m 9 → a ≠ m 10 → V6 a = V5 a) → FR (Sh, V6, L, n) m u Fz (upd (upd (pT5 w) 12 1) 13 (pT5 w 13 + 1)) := by
    intro V6 h60 h6o
    have l6 : ∀ j, (j < 13 + pNp w ∨ (31 ≤ j ∧ j < 31 + pNh w)) → j ≠ 0 → j ≠ 9 → j ≠ 10 → V6 (m j) = V5 (m j) := fun j hj h0 h9 h10 => h6o _ (hm.ne (by omega) (by omega) h0) (hm.ne (by omega) (by omega) h9) (hm.ne (by omega) (by omega) h10)
    have wf : ∀ j, j ≠ 12 → j ≠ 13 → upd (upd (pT5 w) 12 1) 13 (pT5 w 13 + 1) j = pT5 w j := by intro j h12 h13; rw [upd_ne h13, upd_ne h12]
    unfold FR
    rw [pNp_eq (w := pT5 w) (wf 2 (by omega) (by omega)), pNh_eq (w := pT5 w) (wf 3 (by omega) (by omega)), pNp_eq hn2, pNh_eq hn3]
    obtain ⟨j9, j10, j11, j12, j13, j14, j15, j16, j17⟩ := hI5
    refine ⟨FM_w hM5 (l6 1 (by omega) (by omega) (by omega) (by omega)) (l6 2 (by omega) (by omega) (by omega) (by omega)) (l6 4 (by omega) (by omega) (by omega) (by omega)) (fun a ha => h6o a (fz a ha 0 (by omega)) (fz a ha 9 (by omega)) (fz a ha 10 (by omega))) (fun j hj => wf j (by omega) (by omega)), hP, ?_, ?_, fun p i hp9 hi => ?_, fun k i hk hi => ?_, fun g hg => ?_⟩
    · show VI V6 m _
      unfold VI
      rw [h60]
      simp (disch := omega) only [upd_ne, upd_eq]
      exact ⟨j9, j10, j11, j12, j13, j14, j15, by rw [j16], trivial⟩
    · show VLi V6 m _
      unfold VLi
      rw [l6 5 (by omega) (by omega) (by omega) (by omega), l6 6 (by omega) (by omega) (by omega) (by omega), wf _ (by omega) (by omega), wf _ (by omega) (by omega)]
      exact hL5
    · show V6 (m (13 + p)) i = _
      rw [pNp_eq (w := pT5 w) (wf 2 (by omega) (by omega))] at hp9
      have hp10 := hp9
      rw [pNp_eq hn2] at hp10
      rw [l6 _ (by omega) (by omega) (by omega) (by omega), wf _ (by omega) (by omega)]
      exact hvp5 p i hp9 hi
    · show V6 (m (31 + k)) i = _
      rw [pNh_eq (w := pT5 w) (wf 3 (by omega) (by omega))] at hk
      have hk10 := hk
      rw [pNh_eq hn3] at hk10
      rw [l6 _ (by omega) (by omega) (by omega) (by omega), wf _ (by omega) (by omega)]
      exact hvh5 k i hk hi
    · show V6 (m 7) g = _ ∧ (_ ∨ V6 (m 8) g = _)
      rw [l6 7 (by omega) (by omega) (by omega) (by omega), l6 8 (by omega) (by omega) (by omega) (by omega), wf _ (by omega) (by omega), wf _ (by omega) (by omega)]
      exact hvg5 g hg
  have stay : ∀ V6, (∀ a, a ≠ m 9 → a ≠ m 10 → V6 a = V5 a) → FR (Sh, V6, L, n) m u Fz (pT5 w) := by
    intro V6 h6o
    have l6 : ∀ j, (j < 13 + pNp w ∨ (31 ≤ j ∧ j < 31 + pNh w)) → j ≠ 9 → j ≠ 10 → V6 (m j) = V5 (m j) := fun j hj h9 h10 => h6o _ (hm.ne (by omega) (by omega) h9) (hm.ne (by omega) (by omega) h10)
    unfold FR
    rw [pNp_eq hn2, pNh_eq hn3]
    refine ⟨FM_w hM5 (l6 1 (by omega) (by omega) (by omega)) (l6 2 (by omega) (by omega) (by omega)) (l6 4 (by omega) (by omega) (by omega)) (fun a ha => h6o a (fz a ha 9 (by omega)) (fz a ha 10 (by omega))) (fun j hj => rfl), hP, ?_, ?_, fun p i hp9 hi => ?_, fun k i hk hi => ?_, fun g hg => ?_⟩
    · show VI V6 m _
      unfold VI
      rw [l6 0 (by omega) (by omega) (by omega)]
      exact hI5
    · show VLi V6 m _
      unfold VLi
      rw [l6 5 (by omega) (by omega) (by omega), l6 6 (by omega) (by omega) (by omega)]
      exact hL5
    · show V6 (m (13 + p)) i = _
      have hp10 := hp9
      rw [pNp_eq hn2] at hp10
      rw [l6 _ (by omega) (by omega) (by omega)]
      exact hvp5 p i hp9 hi
    · show V6 (m (31 + k)) i = _
      have hk10 := hk
      rw [pNh_eq hn3] at hk10
      rw [l6 _ (by omega) (by omega) (by omega)]
      exact hvh5 k i hk hi
    · show V6 (m 7) g = _ ∧ (_ ∨ V6 (m 8) g = _)
      rw [l6 7 (by omega) (by omega) (by omega), l6 8 (by omega) (by omega) (by omega)]
      exact hvg5 g hg
  have run : cm_X1_ticks (Sh, V, L, n) (m 0) = (if V5 (m 0) 17 = 0 then bnd (cm_X1_isOpenDug (Sh, V5, L, n) (m 0)) (un2 fun x_89 Z_90 => if x_89 = 0 then (some Z_90) else (zPI Z_90 (m 0) 1 20 17 1 fun Z_92 => cI Z_92.Sh Z_92.V (m 0) 1 20 16 fun x_93 => zPI Z_92 (m 0) 1 20 16 (x_93 + 1) fun Z_94 => some Z_94)) else some (Sh, V5, L, n)) := by
    unfold cm_X1_ticks
    rw [t1', bnd_S, f_KT hF, t2, bnd_S, t3', bnd_S]
    simp (disch := omega) only [zSh_T, zV_T, zL_T, zn_T, f_I hF, f_pT hF, upd2_row]
    rw [← hV4, t5, bnd_S]
    simp (disch := omega) only [zSh_T, zV_T, zL_T, zn_T, f_I hF, f_KT hF]
  have i175 : V5 (m 0) 17 = pT5 w 12 := hI5.2.2.2.2.2.2.2.2
  obtain ⟨A, B, hs⟩ := cm_isShut_eq hM5 (pWayO_lt hM5.1.2.2.2.2)
  by_cases h12 : pT5 w 12 = 0
  · have ed := cm_anyDug_eq hM5.1
    have run2 : cm_X1_isOpenDug (Sh, V5, L, n) (m 0) = (if pAny (pT5 w) = false then some (0, (Sh, V5, L, n)) else some (if pShut (pT5 w) = false then 1 else 0, st9 Sh V5 L n m A B)) := by
      unfold cm_X1_isOpenDug
      rw [ed, bnd_S]
      simp only [b2iF]
      cases pAny (pT5 w)
      · simp
      · simp only [Bool.true_eq_false, if_false]
        rw [f_KT hF, hs, bnd_S, un2_S]
        simp only [b2iF]
        cases pShut (pT5 w) <;> simp
    rw [run, i175, if_pos h12, run2]
    cases ha : pAny (pT5 w)
    · have e : pTicks w = pT5 w := by unfold pTicks pFlood; rw [if_neg (fun q => by rw [ha] at q; exact Bool.noConfusion q.2.1)]
      rw [e, if_pos rfl, bnd_S, un2_S, if_pos rfl]
      exact ⟨V5, rfl, hFR5, v5o⟩
    · rw [if_neg (by simp), bnd_S, un2_S]
      cases hsh : pShut (pT5 w)
      · have z1 : ¬ (1 : Int32) = 0 := by decide
        have e : pTicks w = upd (upd (pT5 w) 12 1) 13 (pT5 w 13 + 1) := by unfold pTicks pFlood; rw [if_pos ⟨h12, ha, hsh⟩]
        rw [e, if_pos rfl, if_neg z1]
        refine ⟨rowV (rowV (rowV V5 (m 0) (upd (upd (V5 (m 0)) 17 1) 16 (V5 (m 0) 16 + 1))) (m 9) A) (m 10) B, ?_, fl _ ?_ ?_, ?_⟩
        · simp (disch := omega) only [zSh_T, zV_T, zL_T, zn_T, f_I hF, f_pT hF]
          simp (disch := omega) only [upd2_row, rowV_eq, rowM_ne hm, rowV_over, rowM_swap hm, upd_eq, upd_ne, upd_over, Nat.zero_add]
        · simp (disch := omega) only [upd2_row, rowV_eq, rowM_ne hm, rowV_over, rowM_swap hm, upd_eq, upd_ne, upd_over, Nat.zero_add]
        · intro a a0 a9 a10
          rw [rowV_ne a10, rowV_ne a9, rowV_ne a0]
        · intro a ha9
          rw [rowV_ne (ha9 10 (by omega)), rowV_ne (ha9 9 (by omega)), rowV_ne (ha9 0 (by omega))]
          exact v5o a ha9
      · have e : pTicks w = pT5 w := by unfold pTicks pFlood; rw [if_neg (fun q => by rw [hsh] at q; exact Bool.noConfusion q.2.2)]
        have z2 : (if true = false then (1 : Int32) else 0) = 0 := by simp
        rw [e, if_pos z2]
        refine ⟨rowV (rowV V5 (m 9) A) (m 10) B, rfl, stay _ (fun a a9 a10 => by rw [rowV_ne a10, rowV_ne a9]), fun a ha9 => ?_⟩
        rw [rowV_ne (ha9 10 (by omega)), rowV_ne (ha9 9 (by omega))]
        exact v5o a ha9
  · have e : pTicks w = pT5 w := by unfold pTicks pFlood; rw [if_neg (fun q => h12 q.1)]
    rw [e, run, i175, if_neg h12]
    exact ⟨V5, rfl, hFR5, v5o⟩
end CL
