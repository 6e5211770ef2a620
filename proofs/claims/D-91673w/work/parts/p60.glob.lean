/-! PURE: what holds between two calls: owners of addresses, fields as rows -/
set_option maxRecDepth 100000
/-- a condition as cells of a row -/
def RC (Sh : g_Sh) (V : g_V) (a : Nat) (x : Nat → Int32) : Prop := (x 0 = 0 ∧ ∃ rf, Sh a = some (d_obj 11 0 rf)) ∨ ∃ k, k < 4 ∧ x 0 = nI (k + 1) ∧ (∃ rf, Sh a = some (d_obj 12 3 rf) ∧ ∀ i, i < 3 → rf i = none) ∧ V a 0 = nI k ∧ V a 1 = x 2 ∧ ((x 1 = 60 ∧ V a 2 = 1) ∨ (¬ x 1 = 60 ∧ V a 2 = 0))
/-- a rule -/
def RU1 (Sh : g_Sh) (V : g_V) (Fz : Nat → Prop) (a b : Nat) (g : Nat → Nat) (x : Nat → Int32) : Prop := Fz a ∧ Fz b ∧ (∃ rf, Sh a = some (d_obj 10 2 rf) ∧ rf 0 = some (some b) ∧ rf 1 = none) ∧ ∃ nc, nc ≤ 3 ∧ x 0 = nI nc ∧ V a 1 = nI nc ∧ (∃ el, Sh b = some (d_ref 10 3 el) ∧ ∀ c, c < nc → el c = some (g c)) ∧ ∀ c, c < nc → Fz (g c) ∧ RC Sh V (g c) (fun i => x (1 + 3 * c + i))
/-- rules -/
def RU (Sh : g_Sh) (V : g_V) (Fz : Nat → Prop) (u : Nat → Nat) (w : Nat → Int32) : Prop := ∃ nr, nr ≤ 4 ∧ w 4 = nI nr ∧ (∃ rf, Sh (u 0) = some (d_obj 2 13 rf) ∧ rf 5 = some (some (u 12))) ∧ LSt Sh (u 12) (u 13) nr (fun r => u (60 + r)) ∧ V (u 12) 2 = nI nr ∧ Fz (u 0) ∧ Fz (u 12) ∧ Fz (u 13) ∧ ∀ r, r < nr → RU1 Sh V Fz (u (60 + r)) (u (70 + r)) (fun c => u (80 + 3 * r + c)) (fun i => w (750 + 10 * r + i))
/-- what holds of a row between two calls -/
def pInv (w : Nat → Int32) : Prop := pGood w ∧ pNp w ≤ 12 ∧ pShOk w ∧ (w 12 = 0 ∨ w 12 = 1) ∧ w 18 = 144 * w 5 ∧ (∀ g, g < 10 → w (790 + 2 * g) = -1 ∨ ∃ c, c < 144 ∧ w (790 + 2 * g) = nI c) ∧ ∃ t, t ≤ 2000 ∧ w 1 = nI t
section FF
variable {Sh Sh' : g_Sh} {V V' : g_V} {L L' : g_L} {n n' : Nat} {m u : Nat → Nat} {Fz Fz' : Nat → Prop} {w w' : Nat → Int32} {tp th : Nat}
theorem LSt_k {l e q : Nat} {g : Nat → Nat} (h : LSt Sh l e q g) (h1 : Sh' l = Sh l) (h2 : Sh' e = Sh e) : LSt Sh' l e q g := by
  obtain ⟨⟨rf, b1, b2⟩, cap, el, b3, b4⟩ := h
  exact ⟨⟨rf, by rw [h1]; exact b1, b2⟩, cap, el, by rw [h2]; exact b3, b4⟩
theorem TS_z (h : TS Sh V Fz u w) (hF : ∀ a, Fz a → Fz' a) : TS Sh V Fz' u w := by
  obtain ⟨h0, h1, h2, h3, h4, h5, h6, h7, h8, h9, hz⟩ := h
  exact ⟨h0, h1, h2, h3, h4, h5, h6, h7, h8, h9, fun i hi => hF _ (hz i hi)⟩
theorem TL_z (h : TL Sh V Fz u tp th) (hF : ∀ a, Fz a → Fz' a) : TL Sh V Fz' u tp th := by
  obtain ⟨h0, h1, h2, h3, h4, h5, h6, z0, z8, z9, z10, z11, h7, h8⟩ := h
  exact ⟨h0, h1, h2, h3, h4, fun p hp => ⟨(h5 p hp).1, (h5 p hp).2.1, hF _ (h5 p hp).2.2⟩, fun p hp => ⟨(h6 p hp).1, hF _ (h6 p hp).2⟩, hF _ z0, hF _ z8, hF _ z9, hF _ z10, hF _ z11, h7, h8⟩
theorem RU_k (h : RU Sh V Fz u w) (hz : ∀ a, Fz a → Sh' a = Sh a ∧ V' a = V a) (hF : ∀ a, Fz a → Fz' a) : RU Sh' V' Fz' u w := by
  obtain ⟨nr, h1, h2, h3, h4, h5, z0, z12, z13, h6⟩ := h
  refine ⟨nr, h1, h2, by rw [(hz _ z0).1]; exact h3, LSt_k h4 (hz _ z12).1 (hz _ z13).1, by rw [(hz _ z12).2]; exact h5, hF _ z0, hF _ z12, hF _ z13, fun r hr => ?_⟩
  obtain ⟨za, zb, k1, nc, k2, k3, k4, k5, k6⟩ := h6 r hr
  refine ⟨hF _ za, hF _ zb, by rw [(hz _ za).1]; exact k1, nc, k2, k3, by rw [(hz _ za).2]; exact k4, by rw [(hz _ zb).1]; exact k5, fun c hc => ⟨hF _ (k6 c hc).1, ?_⟩⟩
  have := (k6 c hc).2
  unfold RC at this ⊢
  rw [(hz _ (k6 c hc).1).1, (hz _ (k6 c hc).1).2]
  exact this
theorem RU_w (h : RU Sh V Fz u w) (hw : ∀ j, j = 4 ∨ (750 ≤ j ∧ j < 790) → w' j = w j) : RU Sh V Fz u w' := by
  obtain ⟨nr, h1, h2, h3, h4, h5, z0, z12, z13, h6⟩ := h
  refine ⟨nr, h1, by rw [hw 4 (by omega)]; exact h2, h3, h4, h5, z0, z12, z13, fun r hr => ?_⟩
  obtain ⟨za, zb, k1, nc, k2, k3, k4, k5, k6⟩ := h6 r hr
  refine ⟨za, zb, k1, nc, k2, (hw _ (by omega)).trans k3, k4, k5, fun c hc => ⟨(k6 c hc).1, ?_⟩⟩
  have := (k6 c hc).2
  unfold RC at this ⊢
  dsimp only at this ⊢
  rw [hw _ (by omega), hw _ (by omega), hw _ (by omega)]
  exact this
theorem FR_k (h : FR (Sh, V, L, n) m u Fz w) (s : ∀ i, (i < 13 + pNp w ∨ (31 ≤ i ∧ i < 31 + pNh w)) → Sh' (m i) = Sh (m i)) (v : ∀ i, (i < 13 + pNp w ∨ (31 ≤ i ∧ i < 31 + pNh w)) → i ≠ 3 → i ≠ 9 → i ≠ 10 → V' (m i) = V (m i)) (hz : ∀ a, Fz a → Sh' a = Sh a ∧ V' a = V a) (hF : ∀ a, Fz a → Fz' a) (hN : ∀ i, (i < 13 + pNp w ∨ (31 ≤ i ∧ i < 31 + pNh w)) → ¬ Fz' (m i)) : FR (Sh', V', L', n') m u Fz' w := by
  obtain ⟨⟨⟨hF0, hA, hT, hV, hk⟩, hi, -⟩, ⟨p1, p2, p3, p4⟩, hI, hLi, hP, hH, hG⟩ := h
  refine ⟨⟨⟨?_, ?_, TS_z (TS_mono hT (fun a ha => (hz a ha).1) (fun a ha => (hz a ha).2)) hF, fun c hc => ?_, hk⟩, hi, hN⟩, ⟨LSt_k p1 (s 5 (by omega)) (s 11 (by omega)), LSt_k p2 (s 6 (by omega)) (s 12 (by omega)), fun p hp => ?_, fun p hp => ?_⟩, ?_, ?_, fun p i hp hi => ?_, fun p i hp hi => ?_, fun g hg => ?_⟩
  · show FS0 Sh' m (u 0)
    unfold FS0
    rw [s 0 (by omega)]
    exact hF0
  · show FSa Sh' m
    unfold FSa
    rw [s 1 (by omega), s 2 (by omega), s 3 (by omega), s 4 (by omega), s 7 (by omega), s 8 (by omega), s 9 (by omega), s 10 (by omega)]
    exact hA
  · show V' (m 1) c = _ ∧ V' (m 2) c = _ ∧ V' (m 4) c = _ ∧ _
    rw [v 1 (by omega) (by omega) (by omega) (by omega), v 2 (by omega) (by omega) (by omega) (by omega), v 4 (by omega) (by omega) (by omega) (by omega)]
    exact hV c hc
  · show ∃ rf, Sh' _ = _ ∧ _
    rw [s _ (by omega)]; exact p3 p hp
  · show ∃ rf, Sh' _ = _ ∧ _
    rw [s _ (by omega)]; exact p4 p hp
  · show VI V' m w
    unfold VI
    rw [v 0 (by omega) (by omega) (by omega) (by omega)]
    exact hI
  · show VLi V' m w
    unfold VLi
    rw [v 5 (by omega) (by omega) (by omega) (by omega), v 6 (by omega) (by omega) (by omega) (by omega)]
    exact hLi
  · show V' _ i = _
    rw [v _ (by omega) (by omega) (by omega) (by omega)]; exact hP p i hp hi
  · show V' _ i = _
    rw [v _ (by omega) (by omega) (by omega) (by omega)]; exact hH p i hp hi
  · show V' _ g = _ ∧ (_ ∨ V' _ g = _)
    rw [v 7 (by omega) (by omega) (by omega) (by omega), v 8 (by omega) (by omega) (by omega) (by omega)]; exact hG g hg
theorem FR_w (h : FR (Sh, V, L, n) m u Fz w) (h18 : pNp w ≤ 18) (h6 : pNh w ≤ 6) (hw : ∀ j, j < 810 → w' j = w j) : FR (Sh, V, L, n) m u Fz w' := by
  have e1 : pNp w' = pNp w := pNp_eq (hw 2 (by omega))
  have e2 : pNh w' = pNh w := pNh_eq (hw 3 (by omega))
  obtain ⟨hM, hS, hI, hLi, hP, hH, hG⟩ := h
  refine ⟨?_, ?_, ?_, ?_, fun p i hp hi => ?_, fun p i hp hi => ?_, fun g hg => ?_⟩
  · rw [e1, e2]
    exact FM_w hM rfl rfl rfl (fun _ _ => rfl) (fun j hj => hw j (by omega))
  · rw [e1, e2]; exact hS
  · unfold VI at hI ⊢
    rw [hw 1 (by omega), hw 6 (by omega), hw 14 (by omega), hw 15 (by omega), hw 16 (by omega), hw 17 (by omega), hw 18 (by omega), hw 13 (by omega), hw 12 (by omega)]
    exact hI
  · unfold VLi at hLi ⊢
    rw [hw 2 (by omega), hw 3 (by omega)]
    exact hLi
  · rw [e1] at hp
    rw [hw _ (by omega)]; exact hP p i hp hi
  · rw [e2] at hp
    rw [hw _ (by omega)]; exact hH p i hp hi
  · rw [hw _ (by omega), hw _ (by omega)]; exact hG g hg
theorem pWrm_w (h : pWrm w) (hk : pKok w) (hw : ∀ j, 20 ≤ j → j < 480 → w' j = w j) : pWrm w' := by
  intro c hc
  obtain ⟨g, hg, eg⟩ := hk c hc
  have e : pGr w' c 2 = pGr w c 2 := by
    unfold pGr pKd
    rw [hw (48 + c) (by omega) (by omega), eg, nI_clamp (by omega), hw (20 + 4 * g + 2) (by omega) (by omega)]
  rw [e, hw (192 + c) (by omega) (by omega), hw (336 + c) (by omega) (by omega)]
  exact h c hc
theorem pInv_w (h : pInv w) (hw : ∀ j, j < 810 → w' j = w j) : pInv w' := by
  obtain ⟨h1, h2, h3, h4, h5, h6, h7⟩ := h
  refine ⟨pGood_of h1 (fun j hj => hw j (by omega)) (pWrm_w h1.2.2.2.2.2 h1.1 (fun j _ hj => hw j (by omega))), by rw [pNp_eq (hw 2 (by omega))]; exact h2, ?_, by rw [hw 12 (by omega)]; exact h4, by rw [hw 18 (by omega), hw 5 (by omega)]; exact h5, fun g hg => by rw [hw _ (by omega)]; exact h6 g hg, by rw [hw 1 (by omega)]; exact h7⟩
  unfold pShOk pHas at h3 ⊢
  rw [hw 7 (by omega), hw 8 (by omega), hw 9 (by omega), hw 10 (by omega), hw 11 (by omega)]
  exact h3
end FF
/-- a field of an owner, as a row -/
def Fld (Z : c_S) (ρ : Nat → Nat) (k : Nat) (m u : Nat → Nat) (w : Nat → Int32) : Prop := FR Z m u (fun a => ρ a = 1) w ∧ (∀ i, (i < 13 + pNp w ∨ (31 ≤ i ∧ i < 31 + pNh w)) → ρ (m i) = k) ∧ (∃ tp th, TL Z.Sh Z.V (fun a => ρ a = 1) u tp th) ∧ RU Z.Sh Z.V (fun a => ρ a = 1) u w ∧ pInv w
/-- the field that is tried on -/
def Tri (Sh : g_Sh) (V : g_V) (n : Nat) (ρ : Nat → Nat) (m : Nat → Nat) : Prop := ∃ t np nh, FX Sh V n m t np nh ∧ ∀ i, (i < 13 + np ∨ (31 ≤ i ∧ i < 31 + nh)) → ρ (m i) = 3
section FL
variable {Sh Sh' : g_Sh} {V V' : g_V} {L L' : g_L} {n n' : Nat} {m u : Nat → Nat} {ρ ρ' : Nat → Nat} {w w' : Nat → Int32} {k : Nat}
theorem Fld_k (h : Fld (Sh, V, L, n) ρ k m u w) (hk : k ≠ 1) (hz : ∀ a, ρ a = k ∨ ρ a = 1 → Sh' a = Sh a ∧ ρ' a = ρ a) (hv : ∀ a, ρ a = k ∨ ρ a = 1 → a ≠ m 3 → a ≠ m 9 → a ≠ m 10 → V' a = V a) : Fld (Sh', V', L', n') ρ' k m u w := by
  obtain ⟨h1, h2, ⟨tp, th, h3⟩, h4, h5⟩ := h
  have nz : ∀ a i, ρ a = 1 → i < 13 → a ≠ m i := fun a i ha hi e => hk (by rw [← h2 i (by omega), ← e]; exact ha)
  have z1 : ∀ a, ρ a = 1 → Sh' a = Sh a ∧ V' a = V a := fun a ha => ⟨(hz a (Or.inr ha)).1, hv a (Or.inr ha) (nz a 3 ha (by omega)) (nz a 9 ha (by omega)) (nz a 10 ha (by omega))⟩
  have z2 : ∀ a, ρ a = 1 → ρ' a = 1 := fun a ha => by rw [(hz a (Or.inr ha)).2]; exact ha
  have z3 : ∀ i, (i < 13 + pNp w ∨ (31 ≤ i ∧ i < 31 + pNh w)) → ρ' (m i) = k := fun i hi => by rw [(hz _ (Or.inl (h2 i hi))).2]; exact h2 i hi
  have hi := h1.1.2.1
  refine ⟨FR_k h1 (fun i hi => (hz _ (Or.inl (h2 i hi))).1) (fun i hd a3 a9 a10 => hv _ (Or.inl (h2 i hd)) (fun e => a3 (hi i 3 hd (by omega) e)) (fun e => a9 (hi i 9 hd (by omega) e)) (fun e => a10 (hi i 10 hd (by omega) e))) z1 z2 (fun i hi => by rw [z3 i hi]; exact hk), z3, ⟨tp, th, TL_z (TL_mono h3 (fun a ha => (z1 a ha).1) (fun a ha => (z1 a ha).2)) z2⟩, RU_k h4 z1 z2, h5⟩
theorem Fld_w (h : Fld (Sh, V, L, n) ρ k m u w) (hw : ∀ j, j < 810 → w' j = w j) : Fld (Sh, V, L, n) ρ k m u w' := by
  obtain ⟨h1, h2, h3, h4, h5⟩ := h
  refine ⟨FR_w h1 h5.1.2.1.2.1 h5.1.2.2.1.2.1 hw, ?_, h3, RU_w h4 (fun j hj => hw j (by omega)), pInv_w h5 hw⟩
  rw [pNp_eq (hw 2 (by omega)), pNh_eq (hw 3 (by omega))]
  exact h2
theorem Tri_k (h : Tri Sh V n ρ m) (hn : n ≤ n') (hz : ∀ a, ρ a = 3 → Sh' a = Sh a ∧ V' a = V a ∧ ρ' a = ρ a) : Tri Sh' V' n' ρ' m := by
  obtain ⟨t, np, nh, ⟨f0, fa, ⟨p1, p2, p3, p4⟩, fi, fn, v5, v6, l1, l2⟩, ho⟩ := h
  have s := fun i hi => (hz _ (ho i hi)).1
  have v := fun i hi => (hz _ (ho i hi)).2.1
  refine ⟨t, np, nh, ⟨?_, ?_, ⟨LSt_k p1 (s 5 (by omega)) (s 11 (by omega)), LSt_k p2 (s 6 (by omega)) (s 12 (by omega)), fun p hp => ?_, fun p hp => ?_⟩, fi, fun i hi => Nat.lt_of_lt_of_le (fn i hi) hn, ?_, ?_, l1, l2⟩, fun i hi => by rw [(hz _ (ho i hi)).2.2]; exact ho i hi⟩
  · unfold FS0
    rw [s 0 (by omega)]
    exact f0
  · unfold FSa
    rw [s 1 (by omega), s 2 (by omega), s 3 (by omega), s 4 (by omega), s 7 (by omega), s 8 (by omega), s 9 (by omega), s 10 (by omega)]
    exact fa
  · rw [s _ (by omega)]; exact p3 p hp
  · rw [s _ (by omega)]; exact p4 p hp
  · rw [v 5 (by omega)]; exact v5
  · rw [v 6 (by omega)]; exact v6
end FL
