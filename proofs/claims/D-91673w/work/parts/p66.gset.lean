/-! PURE: calls that change a little: end, cold, gauge, run, pump -/
set_option maxRecDepth 100000
section ST
variable {Sh : g_Sh} {V V' : g_V} {L L' : g_L} {n n' x : Nat} {m u mt q ρ : Nat → Nat} {V2 V2' : g_V} {L2 : g_L} {Fz : Nat → Prop} {w w' : Nat → Int32}
theorem FR_of (h : FR (Sh, V, L, n) m u Fz w) (hz : ∀ a, Fz a → V' a = V a) (hw : ∀ j, (j = 0 ∨ j = 2 ∨ j = 3 ∨ j = 5 ∨ (7 ≤ j ∧ j < 12) ∨ (20 ≤ j ∧ j < 192)) → w' j = w j) (hA : VA V' m w') (hI : VI V' m w') (hL : VLi V' m w') (hP : VPi V' m w') (hH : VHo V' m w') (hG : VGa V' m w') : FR (Sh, V', L', n') m u Fz w' := by
  obtain ⟨⟨⟨hF0, hFa, hT, hV, hk⟩, hi, hzz⟩, hS, -⟩ := h
  have e1 : pNp w' = pNp w := pNp_eq (hw 2 (by omega))
  have e2 : pNh w' = pNh w := pNh_eq (hw 3 (by omega))
  refine ⟨⟨⟨hF0, hFa, TS_w (TS_mono hT (fun _ _ => rfl) hz) (fun j hj => hw j (by omega)), hA, pKok_of hk (fun j h3 h4 => hw j (by omega))⟩, ?_, ?_⟩, ?_, hI, hL, hP, hH, hG⟩
  · rw [e1, e2]; exact hi
  · rw [e1, e2]; exact hzz
  · rw [e1, e2]; exact hS
/-- the field changed -/
theorem GG_now (h : GG (Sh, V, L, n) x ρ m u mt q V2 L2) (hv : ∀ a, ρ a ≠ 2 → V' a = V a) (hF : FR (Sh, V', L, n) m u (fun a => ρ a = 1) w') (hp : w' 2 = V2 1 2) (hh : w' 3 = V2 1 3) (hi : pInv w') (hr : ∀ j, j = 4 ∨ (750 ≤ j ∧ j < 790) → w' j = V2 1 j) (ht : TwK V2 V2') (hw : V2' 1 = w') : GG (Sh, V', L, n) x ρ m u mt q V2' L2 := by
  obtain ⟨⟨f1, f2, ⟨tp, th, f3⟩, f4, f5⟩, hT, hM, hN, hS, hI, hO⟩ := h
  simp only [zSh_T, zV_T, zL_T, zn_T] at hT hM hN hS hO f3 f4
  have hO' := hO
  obtain ⟨o1, o2, o3, o4, o5, o6, o7⟩ := hO'
  have z1 : ∀ a, ρ a = 1 → V' a = V a := fun a ha => hv a (by omega)
  refine ⟨⟨by rw [hw]; exact hF, ?_, ⟨tp, th, TL_mono f3 (fun _ _ => rfl) z1⟩, by rw [hw]; exact RU_w (RU_k f4 (fun a ha => ⟨rfl, z1 a ha⟩) (fun _ ha => ha)) hr, by rw [hw]; exact hi⟩, Tri_k hT (Nat.le_refl n) (fun a ha => ⟨rfl, hv a (by omega), rfl⟩), hM, GN_k hN ⟨rfl, rfl⟩ ⟨hv _ (by omega), hv _ (by omega), hv _ (by omega)⟩ ht, GS_k hS hO (fun a ha => ⟨rfl, rfl, hv a (by omega), rfl⟩) ⟨ht.2.2.2.2.1, ht.2.2.2.2.2.1⟩, GI_k hI hO (fun a ha => ⟨rfl, rfl, hv a (by omega)⟩) ⟨ht.1, ht.2.1⟩, hO⟩
  rw [hw, pNp_eq hp, pNh_eq hh]
  exact f2
/-- the object's numbers, the tape, what gaps were told changed -/
theorem GG_gn (h : GG (Sh, V, L, n) x ρ m u mt q V2 L2) (hv : ∀ a, ρ a ≠ 7 → ρ a ≠ 10 → ρ a ≠ 11 → V' a = V a) (hN : GN Sh V' x q V2') (h1 : V2' 1 = V2 1) (ht : V2' 3 = V2 3 ∧ V2' 4 = V2 4 ∧ V2' 36 = V2 36 ∧ V2' 37 = V2 37) : GG (Sh, V', L, n) x ρ m u mt q V2' L2 := by
  obtain ⟨hF, hT, hM, -, hS, hI, hO⟩ := h
  simp only [zSh_T, zV_T, zL_T, zn_T] at hT hM hS hO
  have hO' := hO
  obtain ⟨o1, o2, o3, o4, o5, o6, o7⟩ := hO'
  have k := hF.2.1
  refine ⟨by rw [h1]; exact Fld_k hF (by omega) (fun a ha => ⟨rfl, rfl⟩) (fun a ha _ _ _ => hv a (by omega) (by omega) (by omega)), Tri_k hT (Nat.le_refl n) (fun a ha => ⟨rfl, hv a (by omega) (by omega) (by omega), rfl⟩), hM, hN, ?_, GI_k hI hO (fun a ha => ⟨rfl, rfl, hv a (by omega) (by omega) (by omega)⟩) ⟨ht.1, ht.2.1⟩, hO⟩
  obtain ⟨⟨el, s1, s2⟩, s3⟩ := hS
  refine ⟨⟨el, s1, s2⟩, fun s hs => ?_⟩
  have := o7 s hs
  exact SlR_k (s3 s hs) rfl (fun b hb => ⟨rfl, hv b (by omega) (by omega) (by omega), rfl, rfl⟩) (by rw [ht.2.2.1]) (by rw [ht.2.2.2])
theorem q_end (h : GG (Sh, V, L, n) x ρ m u mt q V2 L2) (a : Int32) : Ans (cm_X0_end (Sh, V, L, n) x a) (tw_end V2 a) x L2 := by
  have hM : GM Sh x (m 0) (mt 0) q := h.gm
  have hO := h.2.2.2.2.2.2
  obtain ⟨o1, o2, o3, o4, o5, o6, o7⟩ := hO
  obtain ⟨n1, ⟨t, t1, t2, t3⟩, n3, n4, g, g1, g2, g3, g4⟩ := h.2.2.2.1
  simp only [zSh_T, zV_T, zL_T, zn_T] at n1 t2 n3 n4 g2 g4
  have z1 : ¬ (1 : Int32) = 0 := by decide
  have hh : ((nI t).toInt64).toInt = ((t + 1 : Nat) : Int) - 1 := by
    rw [Int32.toInt_toInt64, nI_toInt (by omega)]; omega
  unfold cm_X0_end tw_end
  simp (disch := omega) only [zSh_T, zV_T, zL_T, zn_T, cm_in_tw, x_I hM, t2, t3]
  rcases in_N (a := a) (hi := (nI t).toInt64) (N := t + 1) (by omega) hh with h1 | ⟨k, hk, rfl, h1⟩
  · rw [h1]; exact ⟨_, _, _, rfl, rfl, h.g⟩
  · rw [h1]
    simp (disch := omega) only [zSh_T, zV_T, zL_T, zn_T, bnd_S, un2_S, un3_S, nmI_S, nmL_S, ptI_S, cs2_L, cs2_R, okI_b, okI_1, okI_0, rdI_in, wrI_in, rdI_L, wrI_L, rdL_in, wrL_in, if_true, if_false, z1, x_P hM, upd2_row]
    refine ⟨_, _, _, rfl, rfl, GG.g (GG_gn (V' := rowV V x (upd (V x) 5 (nI k))) (V2' := rowV V2 0 (upd (V2 0) 6 (nI k))) h (fun a h7 _ _ => rowV_ne (fun e => h7 (by rw [e]; exact o2))) ?_ (rowV_ne (by omega)) ⟨rowV_ne (by omega), rowV_ne (by omega), rowV_ne (by omega), rowV_ne (by omega)⟩)⟩
    have q3 : q 3 ≠ x := fun e => by rw [e] at o5; omega
    have q4 : q 4 ≠ x := fun e => by rw [e] at o6; omega
    refine ⟨?_, ⟨k, by omega, ?_, ?_⟩, ⟨n3.1, ?_⟩, n4, g, g1, ?_, ?_, ?_⟩
    · simp (disch := omega) only [rowV_eq, upd_ne]; exact n1
    · rw [rowV_eq, upd_eq]
    · rw [rowV_eq, upd_eq]
    · simp (disch := omega) only [rowV_ne]; exact n3.2
    · simp (disch := omega) only [rowV_eq, upd_ne]; exact g2
    · simp (disch := omega) only [rowV_eq, upd_ne]; exact g3
    · simp (disch := omega) only [rowV_ne]; exact g4
theorem pGood_c (hg : pGood w) (ha : ∀ j, (j = 2 ∨ j = 3 ∨ j = 5 ∨ (20 ≤ j ∧ j < 192) ∨ (624 ≤ j ∧ j < 732 ∧ (j - 624) % 6 < 3) ∨ (732 ≤ j ∧ j < 750 ∧ (j - 732) % 3 = 0)) → w' j = w j) (hb : ∀ p, p < pNp w → w' (624 + 6 * p + 3) = 0 ∨ w' (624 + 6 * p + 3) = 1) (h6 : 0 ≤ (w' 6).toInt) (hw : pWrm w') : pGood w' := by
  obtain ⟨hk, hp, hh, hgn, h2, -⟩ := hg
  have en : pNp w' = pNp w := pNp_eq (ha 2 (by omega))
  have ec : ∀ p, p < 18 → pPc w' p = pPc w p := by intro p hp9; unfold pPc; rw [ha _ (by omega)]
  have h18 := hp.2.1
  refine ⟨pKok_of hk (fun j h3 h4 => ha j (by omega)), ⟨?_, ?_, fun p hp9 => ?_, h6⟩, (pHok_of hh (ha 3 (by omega)) (fun i hi => ha _ (by omega))).1, ⟨fun g hg => ?_, fun y hy => ?_, ?_⟩, ⟨fun p hp9 => ?_, fun p q hp9 hq9 => ?_⟩, hw⟩
  · rw [en, ha 2 (by omega)]; exact hp.1
  · rw [en]; exact h18
  · rw [en] at hp9
    rw [ec p (by omega), ha _ (by omega)]
    exact hp.2.2.1 p hp9
  · rw [ha _ (by omega), ha _ (by omega), ha _ (by omega), ha _ (by omega)]; exact hgn.1 g hg
  · rw [ha _ (by omega)]; exact hgn.2.1 y hy
  · rw [ha _ (by omega)]; exact hgn.2.2
  · rw [en] at hp9
    rw [ha (624 + 6 * p + 1) (by omega), ha (624 + 6 * p + 2) (by omega)]
    exact ⟨(h2.1 p hp9).1, (h2.1 p hp9).2.1, hb p hp9⟩
  · rw [en] at hp9 hq9
    rw [ec p (by omega), ec q (by omega)]
    exact h2.2 p q hp9 hq9
/-- a row of which only cold, runs, gauges, what is dug or flooded changed -/
theorem pInv_c (h : pInv w) (ha : ∀ j, j < 810 → j ≠ 6 → j ≠ 12 → j ≠ 17 → (j < 480 ∨ 624 ≤ j) → (j < 624 ∨ 732 ≤ j ∨ ¬ (j - 624) % 6 = 3) → j < 790 → w' j = w j) (hb : ∀ p, p < pNp w → w' (624 + 6 * p + 3) = 0 ∨ w' (624 + 6 * p + 3) = 1) (h6 : 0 ≤ (w' 6).toInt) (h12 : w' 12 = 0 ∨ w' 12 = 1) (hg : ∀ g, g < 10 → w' (790 + 2 * g) = -1 ∨ ∃ c, c < 144 ∧ w' (790 + 2 * g) = nI c) : pInv w' := by
  obtain ⟨k1, k2, k3, k4, k5, k6, k7⟩ := h
  refine ⟨pGood_c k1 (fun j hj => ha j (by omega) (by omega) (by omega) (by omega) (by omega) (by omega) (by omega)) hb h6 (pWrm_w k1.2.2.2.2.2 k1.1 (fun j hj hj2 => ha j (by omega) (by omega) (by omega) (by omega) (by omega) (by omega) (by omega))), ?_, ?_, h12, ?_, hg, ?_⟩
  · rw [pNp_eq (ha 2 (by omega) (by omega) (by omega) (by omega) (by omega) (by omega) (by omega))]; exact k2
  · unfold pShOk pHas at k3 ⊢
    rw [ha 7 (by omega) (by omega) (by omega) (by omega) (by omega) (by omega) (by omega), ha 8 (by omega) (by omega) (by omega) (by omega) (by omega) (by omega) (by omega), ha 9 (by omega) (by omega) (by omega) (by omega) (by omega) (by omega) (by omega), ha 10 (by omega) (by omega) (by omega) (by omega) (by omega) (by omega) (by omega), ha 11 (by omega) (by omega) (by omega) (by omega) (by omega) (by omega) (by omega)]
    exact k3
  · rw [ha 18 (by omega) (by omega) (by omega) (by omega) (by omega) (by omega) (by omega), ha 5 (by omega) (by omega) (by omega) (by omega) (by omega) (by omega) (by omega)]; exact k5
  · rw [ha 1 (by omega) (by omega) (by omega) (by omega) (by omega) (by omega) (by omega)]; exact k7
end ST
