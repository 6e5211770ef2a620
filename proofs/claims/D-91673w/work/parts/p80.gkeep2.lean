/-! PURE: keep -/
set_option maxRecDepth 100000
section KQ
variable {Sh Sh' : g_Sh} {V V' V0 : g_V} {L L' : g_L} {n n' x : Nat} {m u mt q ρ ρ' mk uk : Nat → Nat} {V2 V2' : g_V} {L2 : g_L} {w : Nat → Int32} {gp : Nat → Nat} {k : Nat}
/-- an image that is made -/
theorem x_keep2 (h : GG (Sh, V, L, n) x ρ m u mt q V2 L2) (hk : k < 3) {el : Nat → Option Nat} (hS : Sh (q 2) = some (d_ref 9 3 el)) : ∃ Z', (zNew (Sh, V, L, n) 1 20 tyX1 fun Z_9 a_10 => cA Z_9.Sh x 0 11 1 fun a_11 => cA Z_9.Sh a_11 1 20 0 fun a_12 => bnd (cm_X1_init gp Z_9 a_10 a_12) (fun Z_15 => zsR [1] Z_15 9 (q 2) (nI k) (some a_10) fun Z_16 => cm_X0_keep_J44 gp x (nI k) Z_16)) = some (0, Z') ∧ G Z' x (rowV (rowV V2 3 (fun i => if 810 * k ≤ i ∧ i < 810 * k + 810 then V2 1 (i - 810 * k) else V2 3 i)) 4 (upd (V2 4) k 1)) L2 := by
  have hM : GM Sh x (m 0) (mt 0) q := h.gm
  have hF : FS0 Sh m (u 0) := h.f0
  have o1 : ∀ a, ρ a ≠ 0 → a < n := h.2.2.2.2.2.2.1
  have o2 : ρ x = 7 := h.2.2.2.2.2.2.2.1
  have o4 : ρ (q 2) = 9 := h.2.2.2.2.2.2.2.2.2.1
  have xn := o1 x (by omega)
  have q2n := o1 (q 2) (by omega)
  have m0n : m 0 < n := o1 _ (by rw [h.ow (by omega)]; omega)
  obtain ⟨tp, th, hTL⟩ := h.1.2.2.1
  simp only [zSh_T, zV_T, zL_T, zn_T] at hTL
  obtain ⟨Sh1, V1, c1, c2, c3⟩ := cm_field_new (Sh := Sh) (V := V) (L := L) (n := n) (gp := gp) (u 0)
  have z1 : ∀ a, ρ a = 1 → a < n := fun a ha => o1 a (by omega)
  have hTL1 : TL Sh1 V1 (fun a => ρ a = 1) u tp th := TL_mono hTL (fun a ha => (c3 a (z1 a ha)).1) (fun a ha => (c3 a (z1 a ha)).2)
  obtain ⟨Sh2, V3, n2, m2, b1, bX, bm, bn, -, -, -, -, -, bf, bc⟩ := cm_begins_n (L := L) (gp := gp) c2 hTL1 (fun a ha => ⟨by have := z1 a ha; omega, fun i _ e => by have := nf_ge (n := n) i; have := z1 a ha; omega⟩)
  have b1 : cm_X1_begins gp (Sh1, V1, L, n + 13) n (u 0) = some (Sh2, V3, L, n2) := b1
  have ge2 : ∀ i, (i < 13 + tp ∨ (31 ≤ i ∧ i < 31 + th)) → n ≤ m2 i := by
    intro i hi
    by_cases h11 : i < 11
    · rw [bm i h11]; exact nf_ge i
    · rcases bc i hi (by omega) with ⟨h13, h14⟩ | h13
      · rw [h14]; exact nf_ge i
      · omega
  have m20 : m2 0 = n := (bm 0 (by omega)).trans rfl
  have f2 : ∀ a, a < n → Sh2 a = Sh a ∧ V3 a = V a := by
    intro a ha
    have e := bf a (by omega) (fun i _ e => by have := nf_ge (n := n) i; omega)
    rw [e.1, e.2]
    exact c3 a ha
  have hq2 : Sh2 (q 2) = some (d_ref 9 3 el) := by rw [(f2 _ q2n).1]; exact hS
  obtain ⟨Sh3, hSh3⟩ : ∃ S, S = updS Sh2 (q 2) (d_ref 9 3 (va_up el k (some n))) := ⟨_, rfl⟩
  have g3 : ∀ a, a ≠ q 2 → Sh3 a = Sh2 a := fun a ha => by rw [hSh3, updS_ne ha]
  have g3q : Sh3 (q 2) = some (d_ref 9 3 (va_up el k (some n))) := by rw [hSh3, updS_eq]
  have zal : zAl [1] (Sh2, V3, L, n2) n = true := by
    obtain ⟨rf, r1, -⟩ := bX.1
    rw [m20] at r1
    unfold zAl
    simp only [zSh_T, zV_T, zL_T, zn_T, r1, d_obj]
    decide
  -- the owners
  obtain ⟨r1, hr1⟩ : ∃ r : Nat → Nat, r = fun a => if n ≤ a ∧ a < n2 then 4 + k else ρ a := ⟨_, rfl⟩
  have rl : ∀ a, ρ a ≠ 0 → r1 a = ρ a := fun a ha => by rw [hr1]; exact if_neg (by have := o1 a ha; omega)
  have ro : ∀ a, r1 a ≠ 0 → a < n2 := fun a ha => by
    by_cases hc : n ≤ a ∧ a < n2
    · exact hc.2
    · have ha : r1 a ≠ 0 := ha
      rw [hr1] at ha
      have ha : (if n ≤ a ∧ a < n2 then 4 + k else ρ a) ≠ 0 := ha
      rw [if_neg hc] at ha
      have := o1 a ha
      omega
  have hX3 : FX Sh3 V3 n2 m2 (u 0) tp th := by
    obtain ⟨x0, xa, ⟨x1, x2, x3, x4⟩, xi, xl, x5, x6, x7, x8⟩ := bX
    have s : ∀ i, (i < 13 + tp ∨ (31 ≤ i ∧ i < 31 + th)) → Sh3 (m2 i) = Sh2 (m2 i) := fun i hi => g3 _ (by have := ge2 i hi; omega)
    refine ⟨?_, ?_, ⟨LSt_k x1 (s 5 (by omega)) (s 11 (by omega)), LSt_k x2 (s 6 (by omega)) (s 12 (by omega)), fun p hp => ?_, fun p hp => ?_⟩, xi, xl, x5, x6, x7, x8⟩
    · unfold FS0
      rw [s 0 (by omega)]
      exact x0
    · unfold FSa
      rw [s 1 (by omega), s 2 (by omega), s 3 (by omega), s 4 (by omega), s 7 (by omega), s 8 (by omega), s 9 (by omega), s 10 (by omega)]
      exact xa
    · rw [s _ (by omega)]; exact x3 p hp
    · rw [s _ (by omega)]; exact x4 p hp
  have how : ∀ i, (i < 13 + tp ∨ (31 ≤ i ∧ i < 31 + th)) → r1 (m2 i) = 4 + k := fun i hi => by
    rw [hr1]
    exact if_pos ⟨ge2 i hi, bX.2.2.2.2.1 i hi⟩
  have s3 : ∀ a, a < n → a ≠ q 2 → Sh3 a = Sh a ∧ V3 a = V a := fun a ha hq => ⟨(g3 a hq).trans (f2 a ha).1, (f2 a ha).2⟩
  have hFn : Fld (Sh3, V3, L, n2) r1 2 m u (V2 1) := Fld_k h.1 (by omega) (fun a ha => ⟨(s3 a (o1 a (by omega)) (fun e => by rw [e] at ha; omega)).1, rl a (by omega)⟩) (fun a ha _ _ _ => (s3 a (o1 a (by omega)) (fun e => by rw [e] at ha; omega)).2)
  obtain ⟨Sh', V', n', m', e1, e2, e3, e4, e5⟩ := Fld_become (gp := gp) ro hX3 how hFn (by omega) (by omega) (by omega) (by omega)
  rw [m20] at e1 e3
  have hM3 : GM Sh3 x (m 0) (mt 0) q := by
    unfold GM
    rw [(s3 x xn (fun e => by rw [e] at o2; omega)).1]
    exact hM
  have hMn : GM (updS Sh n (d_obj 1 20 (zrf tyX1))) x (m 0) (mt 0) q := by
    unfold GM
    rw [updS_ne (by omega)]
    exact hM
  have hFn0 : FS0 (updS Sh n (d_obj 1 20 (zrf tyX1))) m (u 0) := by
    unfold FS0
    rw [updS_ne (by omega)]
    exact hF
  have hF3 : zK (Sh3, V3, L, n2) n 1 20 (bnd (some (Sh', V', L, n')) fun Z_24 => some ((0 : Int32), Z_24)) = some (0, (Sh', V', L, n')) := by
    obtain ⟨rf, r1, -⟩ := hX3.1
    rw [m20] at r1
    rw [zK_T r1]
    rfl
  refine ⟨(Sh', V', L, n'), ?_, ?_⟩
  · unfold zNew
    simp only [zSh_T, zV_T, zL_T, zn_T, x_now hMn, f_t hFn0, c1, b1, bnd_S]
    rw [zsR_some hq2 hk (by omega) zal, ← hSh3]
    unfold cm_X0_keep_J44
    simp (disch := omega) only [zSh_T, zV_T, zL_T, zn_T, x_img hM3, caR_eq g3q, x_now hM3]
    rw [show va_up el k (some n) k = some n by unfold va_up; simp]
    simp only [nn_eq, e1]
    exact hF3
  · have nq2 : r1 (q 2) ≠ 4 + k := by rw [rl _ (by omega)]; omega
    refine GG.g (GG_im (ρ' := fun a => if n2 ≤ a ∧ a < n' then 4 + k else r1 a) (el' := va_up el k (some n)) h hk (by omega) (fun a ha h1 h2 => ?_) (fun a ha => ?_) (fun a ha => ?_) (by rw [(e4 (q 2) (by omega) nq2).1]; exact g3q) (fun el2 hel2 j _ hjk => ?_) e5 (by rw [e3]; unfold va_up; simp) ?_ ⟨?_, ?_, ?_, ?_, ?_⟩ ?_ (fun j hj hjk => ?_) (fun i hi => ?_) (fun j hj hjk i hi => ?_))
    · have hra : r1 a ≠ 4 + k := by
        rw [hr1]
        show (if n ≤ a ∧ a < n2 then 4 + k else ρ a) ≠ 4 + k
        rw [if_neg (by omega)]; exact h1
      have e := e4 a (by omega) hra
      rw [e.1, e.2]
      exact s3 a ha h2
    · show (if n2 ≤ a ∧ a < n' then 4 + k else r1 a) = ρ a
      rw [if_neg (by have := o1 a ha; omega)]
      exact rl a ha
    · by_cases hc : n2 ≤ a ∧ a < n'
      · exact hc.2
      · have ha : (if n2 ≤ a ∧ a < n' then 4 + k else r1 a) ≠ 0 := ha
        rw [if_neg hc] at ha
        exact Nat.lt_of_lt_of_le (ro a ha) e2
    · rw [hS] at hel2
      have h2 : (Sum.inr (Sum.inr (Sum.inl (9, 3, el))) : g_D) = Sum.inr (Sum.inr (Sum.inl (9, 3, el2))) := Option.some.inj hel2
      have h3 : el = el2 := by injection h2 with h2; injection h2 with h2; injection h2 with h2; injection h2 with _ h2; injection h2
      rw [← h3]
      unfold va_up
      simp [hjk]
    · simp (disch := omega) only [rowV_ne]
    · simp (disch := omega) only [rowV_ne]
    · simp (disch := omega) only [rowV_ne]
    · simp (disch := omega) only [rowV_ne]
    · simp (disch := omega) only [rowV_ne]
    · simp (disch := omega) only [rowV_ne]
    · rw [rowV_eq, upd_eq]
    · rw [rowV_eq, upd_ne hjk]
    · rw [rowV_ne (by omega), rowV_eq, if_pos (by omega), show 810 * k + i - 810 * k = i by omega]
    · rw [rowV_ne (by omega), rowV_eq, if_neg (by omega)]
theorem q_keep (h : GG (Sh, V, L, n) x ρ m u mt q V2 L2) (a : Int32) : Ans (cm_X0_keep gp (Sh, V, L, n) x a) (tw_keep V2 a) x L2 := by
  have hM : GM Sh x (m 0) (mt 0) q := h.gm
  obtain ⟨el, i1, i2⟩ := h.2.2.2.2.2.1
  simp only [zSh_T, zV_T, zL_T, zn_T] at i1
  have o1 : ∀ a, ρ a ≠ 0 → a < n := h.2.2.2.2.2.2.1
  have z1 : ¬ (1 : Int32) = 0 := by decide
  unfold cm_X0_keep tw_keep
  simp only [cm_in_tw]
  rcases in_N (a := a) (hi := 2) (N := 3) (by omega) (by decide) with h1 | ⟨k, hk, rfl, h1⟩
  · rw [h1]; exact ⟨_, _, _, rfl, rfl, h.g⟩
  · rw [h1]
    have tw : (bnd (tw_keep_L17 (nI k) 1000 0 V2) fun V_16 => wrI V_16 4 3 (nI k) 1 fun V_19 => some ((0 : Int32), V_19)) = some (0, rowV (rowV V2 3 (fun i => if 810 * k ≤ i ∧ i < 810 * k + 810 then V2 1 (i - 810 * k) else V2 3 i)) 4 (upd (V2 4) k 1)) := by
      rw [tw_keep_loop hk]
      simp (disch := omega) only [bnd_S, un2_S, un3_S, nmI_S, nmL_S, ptI_S, cs2_L, cs2_R, okI_b, okI_1, okI_0, rdI_in, wrI_in, rdI_L, wrI_L, rdL_in, wrL_in, if_true, if_false, upd2_row, rowV_ne]
    simp (disch := omega) only [bnd_S, z1, if_false, tw, zSh_T, zV_T, zL_T, zn_T, x_img hM, caR_eq i1]
    rcases i2 k hk with ⟨j1, j2⟩ | ⟨j1, mk, uk, j2, j3⟩
    · rw [j2]
      obtain ⟨Z', e1, e2⟩ := x_keep2 (gp := gp) h hk i1
      exact ⟨0, Z', _, e1, rfl, e2⟩
    · rw [j2]
      have hX := FR_FX j3.1 j3.2.2.2.2.1 (fun i hi => o1 _ (by rw [j3.2.1 i hi]; omega))
      obtain ⟨Z', e1, e2⟩ := x_keep1 (gp := gp) h hk i1 j2 hX j3.2.1
      exact ⟨0, Z', _, e1, rfl, e2⟩
end KQ
