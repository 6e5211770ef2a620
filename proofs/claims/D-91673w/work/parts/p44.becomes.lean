/-! PURE: a field becomes another -/
set_option maxRecDepth 100000
section ZC
variable {ρ : Type} {Sh : g_Sh} {V : g_V} {L : g_L} {n : Nat}
theorem zCpI_T {t a0 a q0 q1 k : Nat} {x : Int32} {K : c_S → Option ρ} (h0 : Sh a0 = some (d_int t q0)) (h1 : Sh a = some (d_int t q1)) (hx : x.toNatClampNeg = k) (hx0 : ¬ x < 0) (hk0 : k ≤ q0) (hk1 : k ≤ q1) (hB : t = 0 ∨ ∀ i, i < k → isB (V a0 i) = true) : zCpI (Sh, V, L, n) t a0 0 a 0 x K = K (Sh, rowV V a (fun j => if j < k then V a0 j else V a j), L, n) := by
  have z : (0 : Int32).toNatClampNeg = 0 := by decide
  have z0 : ¬ (0 : Int32) < 0 := by decide
  have e : va_cpy (V a0) (V a) 0 0 k = fun j => if j < k then V a0 j else V a j := by
    funext j
    unfold va_cpy
    by_cases hj : j < k
    · rw [if_pos (by omega), if_pos hj, show 0 + (j - 0) = j by omega]
    · rw [if_neg (by omega), if_neg hj]
  unfold zCpI
  simp only [zSh_T, zV_T, zL_T, zn_T, h0, h1, d_int, z, hx, e]
  have hB2 : t = 0 ∨ ((List.range k).all (fun i => isB (V a0 (0 + i)))) = true := by
    rcases hB with hB | hB
    · exact Or.inl hB
    · right
      rw [List.all_eq_true]
      intro i hi
      rw [Nat.zero_add]
      exact hB i (List.mem_range.mp hi)
  rw [if_pos ⟨trivial, trivial, z0, z0, hx0, by omega, by omega, hB2⟩]
end ZC
section BC
variable {Sh : g_Sh} {V : g_V} {L : g_L} {n : Nat} {m o u : Nat → Nat} {t np nh tp th : Nat} {gp : Nat → Nat} {Fz : Nat → Prop} {w : Nat → Int32}
theorem c144 : (144 : Int32).toNatClampNeg = 144 ∧ ¬ (144 : Int32) < 0 := by decide
theorem c10 : (10 : Int32).toNatClampNeg = 10 ∧ ¬ (10 : Int32) < 0 := by decide
theorem cm_becomes_eq (hX : FX Sh V n m t np nh) (hO : FR (Sh, V, L, n) o u Fz w) (hL : TL Sh V Fz u tp th) (hz : ∀ a, Fz a → a < n ∧ ∀ i, (i < 13 + np ∨ (31 ≤ i ∧ i < 31 + nh)) → a ≠ m i)
    (hon : ∀ i, (i < 13 + pNp w ∨ (31 ≤ i ∧ i < 31 + pNh w)) → o i < n) (hap : ∀ i j, (i < 13 + np ∨ (31 ≤ i ∧ i < 31 + nh)) → (j < 13 + pNp w ∨ (31 ≤ j ∧ j < 31 + pNh w)) → m i ≠ o j)
    (hp12 : pNp w ≤ 12) (hpo : pPok w) (hho : pHok w) (hb : pBnd w) (hfl : w 12 = 0 ∨ w 12 = 1) (hbeg : 144 * V (u 0) 6 = w 18) :
    ∃ Sh' V' n' m', cm_X1_becomes gp (Sh, V, L, n) (m 0) (o 0) = some (Sh', V', L, n') ∧ FR (Sh', V', L, n') m' u Fz w ∧ (∀ i, i < 11 → m' i = m i) ∧ n ≤ n' ∧ (∀ i, (i < 13 + pNp w ∨ (31 ≤ i ∧ i < 31 + pNh w)) → m' i < n') ∧ (∀ a, a < n → (∀ i, (i < 13 + np ∨ (31 ≤ i ∧ i < 31 + nh)) → a ≠ m i) → Sh' a = Sh a ∧ V' a = V a) ∧ (∀ i, (i < 13 + pNp w ∨ (31 ≤ i ∧ i < 31 + pNh w)) → 11 ≤ i → (i < 13 ∧ m' i = m i) ∨ n ≤ m' i) := by
  obtain ⟨hMO, hPO, hIO, hLO, hvpO, hvhO, hvgO⟩ := hO
  simp only [zSh_T, zV_T, zL_T, zn_T] at hPO hIO hLO hvpO hvhO hvgO
  obtain ⟨⟨hFO, hAO, hTO, hVO, hkO⟩, hmO, hzO⟩ := hMO
  simp only [zSh_T, zV_T, zL_T, zn_T] at hFO hAO hTO hVO
  have hnh6 := hho.2.1
  obtain ⟨Sh1, V1, n1, m1, b1, bX, bm, bn, bp, bh, bi, ba, bg, bf, bc⟩ := cm_begins_eq (L := L) (gp := gp) hX hL hz
  obtain ⟨hF, hA, hP, hm, hn, h5, h6, h18, hh6⟩ := hX
  -- the other field is as it was
  have of : ∀ j, (j < 13 + pNp w ∨ (31 ≤ j ∧ j < 31 + pNh w)) → Sh1 (o j) = Sh (o j) ∧ V1 (o j) = V (o j) := fun j hj => bf _ (hon j hj) (fun i hi => Ne.symm (hap i j hi hj))
  have fzf : ∀ a, Fz a → Sh1 a = Sh a ∧ V1 a = V a := fun a ha => bf a (hz a ha).1 (hz a ha).2
  have lk : ∀ {l e q : Nat} {g : Nat → Nat}, LSt Sh l e q g → Sh1 l = Sh l → Sh1 e = Sh e → LSt Sh1 l e q g := by
    intro l e q g hl n1 n2
    obtain ⟨⟨rf, b1, b2⟩, cap, el, b3, b4⟩ := hl
    exact ⟨⟨rf, by rw [n1]; exact b1, b2⟩, cap, el, by rw [n2]; exact b3, b4⟩
  have hFO1 : FS0 Sh1 o (u 0) := by
    obtain ⟨rf, q1, q2⟩ := hFO
    exact ⟨rf, by rw [(of 0 (by omega)).1]; exact q1, q2⟩
  have hAO1 : FSa Sh1 o := by
    unfold FSa
    rw [(of 1 (by omega)).1, (of 2 (by omega)).1, (of 3 (by omega)).1, (of 4 (by omega)).1, (of 7 (by omega)).1, (of 8 (by omega)).1, (of 9 (by omega)).1, (of 10 (by omega)).1]
    exact hAO
  have hL1 : TL Sh1 V1 Fz u tp th := TL_mono hL (fun a ha => (fzf a ha).1) (fun a ha => (fzf a ha).2)
  obtain ⟨cF, cA', cP, cm, cn, c5, c6, c18, ch6⟩ := bX
  -- cells of the field and of the other one are apart
  have ap1 : ∀ i j, (i < 13 + tp ∨ (31 ≤ i ∧ i < 31 + th)) → (j < 13 + pNp w ∨ (31 ≤ j ∧ j < 31 + pNh w)) → m1 i ≠ o j := by
    intro i j hi hj
    have hoj := hon j hj
    by_cases h11 : i < 11
    · rw [bm i h11]; exact hap i j (by omega) hj
    · rcases bc i hi (by omega) with ⟨e1, e⟩ | e
      · rw [e]; exact hap i j (by omega) hj
      · omega
  have zap : ∀ a, Fz a → ∀ i, (i < 13 + tp ∨ (31 ≤ i ∧ i < 31 + th)) → a ≠ m1 i := by
    intro a ha i hi
    have han := (hz a ha).1
    by_cases h11 : i < 11
    · rw [bm i h11]; exact (hz a ha).2 i (by omega)
    · rcases bc i hi (by omega) with ⟨e1, e⟩ | e
      · rw [e]; exact (hz a ha).2 i (by omega)
      · omega
  have e0 : m1 0 = m 0 := bm 0 (by omega)
  -- the arrays
  have vo1 : ∀ j, (j < 13 + pNp w ∨ (31 ≤ j ∧ j < 31 + pNh w)) → ∀ i, (i < 13 + tp ∨ (31 ≤ i ∧ i < 31 + th)) → ∀ (Vx : g_V) (f : Nat → Int32), rowV Vx (m1 i) f (o j) = Vx (o j) := fun j hj i hi Vx f => rowV_ne (Ne.symm (ap1 i j hi hj))
  have hV2 : ∃ V2, V2 = rowV (rowV (rowV (rowV (rowV V1 (m1 1) (fun c => if c < 144 then V (o 1) c else V1 (m1 1) c)) (m1 2) (fun c => if c < 144 then V (o 2) c else V1 (m1 2) c)) (m1 4) (fun c => if c < 144 then V (o 4) c else V1 (m1 4) c)) (m1 7) (fun c => if c < 10 then V (o 7) c else V1 (m1 7) c)) (m1 8) (fun c => if c < 10 then V (o 8) c else V1 (m1 8) c) := ⟨_, rfl⟩
  obtain ⟨V2, hV2⟩ := hV2
  have v2o : ∀ a, (∀ i, i < 11 → a ≠ m1 i) → V2 a = V1 a := by
    intro a ha
    rw [hV2, rowV_ne (ha 8 (by omega)), rowV_ne (ha 7 (by omega)), rowV_ne (ha 4 (by omega)), rowV_ne (ha 2 (by omega)), rowV_ne (ha 1 (by omega))]
  have v2m : ∀ i, (i < 13 + tp ∨ (31 ≤ i ∧ i < 31 + th)) → i ≠ 1 → i ≠ 2 → i ≠ 4 → i ≠ 7 → i ≠ 8 → V2 (m1 i) = V1 (m1 i) := by
    intro i hi h1 h2 h4 h7 h8
    rw [hV2, rowM_ne cm hi (by omega) h8, rowM_ne cm hi (by omega) h7, rowM_ne cm hi (by omega) h4, rowM_ne cm hi (by omega) h2, rowM_ne cm hi (by omega) h1]
  have v2oj : ∀ j, (j < 13 + pNp w ∨ (31 ≤ j ∧ j < 31 + pNh w)) → V2 (o j) = V (o j) := fun j hj => by
    rw [v2o _ (fun i hi => Ne.symm (ap1 i j (by omega) hj)), (of j hj).2]
  have hX2 : FX Sh1 V2 n1 m1 (u 0) tp th := ⟨cF, cA', cP, cm, cn, by rw [v2m 5 (by omega) (by omega) (by omega) (by omega) (by omega) (by omega)]; exact c5, by rw [v2m 6 (by omega) (by omega) (by omega) (by omega) (by omega) (by omega)]; exact c6, c18, ch6⟩
  have s1 : SrcO Sh1 V2 n1 m1 tp th (o 5) (o 11) (pNp w) 5 6 (fun p => o (13 + p)) (fun r => isB (r 3) = true) := by
    refine ⟨lk hPO.1 (of 5 (by omega)).1 (of 11 (by omega)).1, by rw [v2oj 5 (by omega)]; exact hLO.1.trans hpo.1, by have := hon 5 (by omega); omega, by have := hon 11 (by omega); omega, fun i hi => ⟨Ne.symm (ap1 i 5 hi (by omega)), Ne.symm (ap1 i 11 hi (by omega))⟩, fun p hp => ?_⟩
    show o (13 + p) < n1 ∧ (∃ rf, Sh1 (o (13 + p)) = _ ∧ _) ∧ isB (V2 (o (13 + p)) 3) = true ∧ _
    rw [(of _ (by omega)).1, v2oj _ (by omega), hvpO p 3 hp (by omega)]
    refine ⟨by have := hon (13 + p) (by omega); omega, hPO.2.2.1 p hp, ?_, fun i hi => Ne.symm (ap1 i _ hi (by omega))⟩
    rcases (hb.2 p hp).2 with e | e <;> rw [e] <;> decide
  have s2 : SrcO Sh1 V2 n1 m1 tp th (o 6) (o 12) (pNh w) 6 3 (fun p => o (31 + p)) (fun _ => True) := by
    refine ⟨lk hPO.2.1 (of 6 (by omega)).1 (of 12 (by omega)).1, by rw [v2oj 6 (by omega)]; exact hLO.2.trans hho.1, by have := hon 6 (by omega); omega, by have := hon 12 (by omega); omega, fun i hi => ⟨Ne.symm (ap1 i 6 hi (by omega)), Ne.symm (ap1 i 12 hi (by omega))⟩, fun p hp => ?_⟩
    show o (31 + p) < n1 ∧ (∃ rf, Sh1 (o (31 + p)) = _ ∧ _) ∧ True ∧ _
    rw [(of _ (by omega)).1]
    exact ⟨by have := hon (31 + p) (by omega); omega, hPO.2.2.2 p hp, trivial, fun i hi => Ne.symm (ap1 i _ hi (by omega))⟩
  have fO : ∀ (Sh' : g_Sh) (V' : g_V), (∀ a, a < n1 → (∀ k, (k < 13 + tp ∨ (31 ≤ k ∧ k < 31 + th)) → a ≠ m1 k ∨ k ≠ 5 ∧ k ≠ 6 ∧ k ≠ 11 ∧ k ≠ 12) → Sh' a = Sh1 a ∧ V' a = V2 a) → FS0 Sh' o (u 0) ∧ FS0 Sh' m1 (u 0) := by
    intro Sh' V' h
    have h9 := h (o 0) (by have := hon 0 (by omega); omega) (fun k hk => Or.inl (Ne.symm (ap1 k 0 hk (by omega))))
    have h10 := h (m1 0) (cn 0 (by omega)) (fun k hk => by
      by_cases hk0 : k = 0
      · right; omega
      · left; exact cm.ne (by omega) hk (fun z => hk0 z.symm))
    refine ⟨?_, ?_⟩
    · obtain ⟨rf', q1, q2⟩ := hFO1
      exact ⟨rf', by rw [h9.1]; exact q1, q2⟩
    · obtain ⟨rf', q1, q2⟩ := cF
      exact ⟨rf', by rw [h10.1]; exact q1, q2⟩
  obtain ⟨ShA, VA, ShB, VB, ShC, VC, nC, ShD, VD, nD, m', k1, k9, k2, k3, k4, hXD, km, kn, kp, kh, kf, kc⟩ := relist (L := L) (gp := gp) hX2 s1 s2 cp_X5 cp_X6 (by omega) hnh6 (f1 := 13) (f2 := 7) (by omega) (by omega) (F1 := cm_X1_becomes_F106 gp (m 0) (o 0)) (F2 := cm_X1_becomes_F153 gp (m 0) (o 0))
    (fun rec i Sh' V' n' hi hfr hl hv => by
      obtain ⟨a1, a2⟩ := fO Sh' V' hfr
      unfold cm_X1_becomes_F106 turnC
      rw [← e0]
      simp (disch := omega) only [cm_X1_becomes_B106, zSh_T, zV_T, zL_T, zn_T, L_add, L_addR, L_mul, L_mulR, L_div, N_div, N_rem, L_sub, L_subN, nI_add, nI_mul, L_le, L_leR, L_lt, L_ltR, L_eq, N_leT, N_leF, N_ltT, N_ltF, N_eqT, N_eqF, N_m1, f_A a1, l_K hl, l_size hl, bnd_S, hv, if_false, f_A a2, nmI_S])
    (fun rec Sh' V' n' hfr hl hv => by
      obtain ⟨a1, a2⟩ := fO Sh' V' hfr
      unfold cm_X1_becomes_F106
      simp (disch := omega) only [cm_X1_becomes_B106, zSh_T, zV_T, zL_T, zn_T, L_add, L_addR, L_mul, L_mulR, L_div, N_div, N_rem, L_sub, L_subN, nI_add, nI_mul, L_le, L_leR, L_lt, L_ltR, L_eq, N_leT, N_leF, N_ltT, N_ltF, N_eqT, N_eqF, N_m1, f_A a1, l_K hl, l_size hl, bnd_S, hv, if_true])
    (fun rec i Sh' V' n' hi hfr hl hv => by
      obtain ⟨a1, a2⟩ := fO Sh' V' hfr
      unfold cm_X1_becomes_F153 turnC
      rw [← e0]
      simp (disch := omega) only [cm_X1_becomes_B153, zSh_T, zV_T, zL_T, zn_T, L_add, L_addR, L_mul, L_mulR, L_div, N_div, N_rem, L_sub, L_subN, nI_add, nI_mul, L_le, L_leR, L_lt, L_ltR, L_eq, N_leT, N_leF, N_ltT, N_ltF, N_eqT, N_eqF, N_m1, f_A a1, l_K hl, l_size hl, bnd_S, hv, if_false, f_A a2, nmI_S])
    (fun rec Sh' V' n' hfr hl hv => by
      obtain ⟨a1, a2⟩ := fO Sh' V' hfr
      unfold cm_X1_becomes_F153
      simp (disch := omega) only [cm_X1_becomes_B153, zSh_T, zV_T, zL_T, zn_T, L_add, L_addR, L_mul, L_mulR, L_div, N_div, N_rem, L_sub, L_subN, nI_add, nI_mul, L_le, L_leR, L_lt, L_ltR, L_eq, N_leT, N_leF, N_ltT, N_ltF, N_eqT, N_eqF, N_m1, f_A a1, l_K hl, l_size hl, bnd_S, hv, if_true])
  obtain ⟨hFD, hAD, hPD, hmD, hnD, h5D, h6D, -, -⟩ := hXD
  have oD : ∀ j, (j < 13 + pNp w ∨ (31 ≤ j ∧ j < 31 + pNh w)) → ShD (o j) = Sh (o j) ∧ VD (o j) = V (o j) := by
    intro j hj
    have h9 := kf (o j) (by have := hon j hj; omega) (fun k hk => Or.inl (Ne.symm (ap1 k j hk hj)))
    exact ⟨by rw [h9.1, (of j hj).1], by rw [h9.2, v2oj j hj]⟩
  have zD : ∀ a, Fz a → ShD a = Sh a ∧ VD a = V a := by
    intro a ha
    have h9 := kf a (by have := (hz a ha).1; omega) (fun k hk => Or.inl (zap a ha k hk))
    exact ⟨by rw [h9.1, (fzf a ha).1], by rw [h9.2, v2o a (fun i hi => zap a ha i (by omega)), (fzf a ha).2]⟩
  have mD : ∀ i, i < 11 → i ≠ 5 → i ≠ 6 → VD (m' i) = V2 (m1 i) := by
    intro i hi h5' h6'
    rw [km i hi]
    exact (kf (m1 i) (cn i (by omega)) (fun k hk => by
      by_cases hk0 : k = i
      · right; omega
      · left; exact cm.ne (by omega) hk (fun z => hk0 z.symm))).2
  have apD : ∀ i j, (i < 13 + pNp w ∨ (31 ≤ i ∧ i < 31 + pNh w)) → (j < 13 + pNp w ∨ (31 ≤ j ∧ j < 31 + pNh w)) → m' i ≠ o j := by
    intro i j hi hj
    have hoj := hon j hj
    by_cases h11 : i < 11
    · rw [km i h11]; exact ap1 i j (by omega) hj
    · rcases kc i hi (by omega) with ⟨e1, e⟩ | e
      · rw [e]; exact ap1 i j (by omega) hj
      · omega
  have zapD : ∀ a, Fz a → ∀ i, (i < 13 + pNp w ∨ (31 ≤ i ∧ i < 31 + pNh w)) → a ≠ m' i := by
    intro a ha i hi
    have han := (hz a ha).1
    by_cases h11 : i < 11
    · rw [km i h11]; exact zap a ha i (by omega)
    · rcases kc i hi (by omega) with ⟨e1, e⟩ | e
      · rw [e]; exact zap a ha i (by omega)
      · omega
  -- its numbers
  have hV3 : ∃ V3, V3 = rowV VD (m' 0) (upd (upd (upd (upd (upd (upd (upd (upd (VD (m' 0)) 9 (V (o 0) 9)) 10 (V (o 0) 10)) 11 (V (o 0) 11)) 12 (V (o 0) 12)) 13 (V (o 0) 13)) 14 (V (o 0) 14)) 16 (V (o 0) 16)) 17 (V (o 0) 17)) := ⟨_, rfl⟩
  obtain ⟨V3, hV3⟩ := hV3
  have e0' : m' 0 = m 0 := by rw [km 0 (by omega), e0]
  have v3 : ∀ a, a ≠ m' 0 → V3 a = VD a := fun a ha => by rw [hV3, rowV_ne ha]
  have v3m : ∀ i, (i < 13 + pNp w ∨ (31 ≤ i ∧ i < 31 + pNh w)) → i ≠ 0 → V3 (m' i) = VD (m' i) := fun i hi h0 => v3 _ (hmD.ne hi (by omega) h0)
  have run : cm_X1_becomes gp (Sh, V, L, n) (m 0) (o 0) = some (ShD, V3, L, nD) := by
    have hXm : FS0 Sh m t := hF
    unfold cm_X1_becomes
    simp (disch := omega) only [zSh_T, zV_T, zL_T, zn_T, f_t hFO, f_KT hXm]
    rw [b1, bnd_S, ← e0]
    have o1 := (of 1 (by omega)).2
    have o2 := (of 2 (by omega)).2
    have o4 := (of 4 (by omega)).2
    have o7 := (of 7 (by omega)).2
    have o8 := (of 8 (by omega)).2
    have iB : (2 : Nat) = 0 ∨ ∀ i, i < 144 → isB (V (o 4) i) = true := by
      right
      intro i hi
      obtain ⟨-, -, q1, q2⟩ := hVO i hi
      rw [q1]
      rcases q2 with e | e <;> rw [e] <;> decide
    simp (disch := omega) only [zSh_T, zV_T, zL_T, zn_T, f_A hFO1, f_A cF]
    rw [zCpI_T hAO1.1 cA'.1 c144.1 c144.2 (by omega) (by omega) (Or.inl rfl)]
    simp (disch := omega) only [zSh_T, zV_T, zL_T, zn_T, f_A hFO1, f_A cF]
    rw [zCpI_T hAO1.2.1 cA'.2.1 c144.1 c144.2 (by omega) (by omega) (Or.inl rfl)]
    simp (disch := omega) only [zSh_T, zV_T, zL_T, zn_T, f_A hFO1, f_A cF]
    rw [zCpI_T hAO1.2.2.2.1 cA'.2.2.2.1 c144.1 c144.2 (by omega) (by omega) (by simp (disch := omega) only [vo1, o4]; exact iB)]
    simp (disch := omega) only [zSh_T, zV_T, zL_T, zn_T, f_A hFO1, f_A cF]
    rw [zCpI_T hAO1.2.2.2.2.1 cA'.2.2.2.2.1 c10.1 c10.2 (by omega) (by omega) (Or.inl rfl)]
    simp (disch := omega) only [zSh_T, zV_T, zL_T, zn_T, f_A hFO1, f_A cF]
    rw [zCpI_T hAO1.2.2.2.2.2.1 cA'.2.2.2.2.2.1 c10.1 c10.2 (by omega) (by omega) (Or.inl rfl)]
    simp (disch := omega) only [vo1, rowM_ne cm, o1, o2, o4, o7, o8]
    rw [← hV2]
    simp (disch := omega) only [zSh_T, zV_T, zL_T, zn_T, f_A cF, l_K cP.1]
    rw [k1, bnd_S]
    have cFA : FS0 ShA m1 (u 0) := by
      obtain ⟨rf', q1, q2⟩ := cF
      exact ⟨rf', by rw [k9 _ (cm.ne (by omega) (by omega) (by omega))]; exact q1, q2⟩
    have lB : LSt ShA (m1 6) (m1 12) th (fun h => m1 (31 + h)) := by
      obtain ⟨⟨rf, b1, b2⟩, cap, el, b3, b4⟩ := cP.2.1
      exact ⟨⟨rf, by rw [k9 _ (cm.ne (by omega) (by omega) (by omega))]; exact b1, b2⟩, cap, el, by rw [k9 _ (cm.ne (by omega) (by omega) (by omega))]; exact b3, b4⟩
    simp (disch := omega) only [zSh_T, zV_T, zL_T, zn_T, f_A cFA, l_K lB]
    rw [k2, bnd_S]
    unfold cm_X1_becomes_L106 cm_X1_becomes_L153
    rw [e0, k3, bnd_S, k4, bnd_S, ← e0']
    have hFOD : FS0 ShD o (u 0) := by
      obtain ⟨rf', q1, q2⟩ := hFO
      exact ⟨rf', by rw [(oD 0 (by omega)).1]; exact q1, q2⟩
    have oD0 := (oD 0 (by omega)).2
    have vo : ∀ (Vx : g_V) (f : Nat → Int32), rowV Vx (m' 0) f (o 0) = Vx (o 0) := fun Vx f => rowV_ne (Ne.symm (apD 0 0 (by omega) (by omega)))
    have i17 : isB (V (o 0) 17) = true := by
      rw [hIO.2.2.2.2.2.2.2.2]
      rcases hfl with e | e <;> rw [e] <;> decide
    simp (disch := omega) only [zSh_T, zV_T, zL_T, zn_T, f_I hFOD, f_pT hFD, upd2_row, rowV_eq, rowV_over, vo, oD0, okI, i17, if_true]
    rw [← hV3]
  obtain ⟨i9, i10, i11, i12, i13, i14, i15, i16, i17⟩ := hIO
  obtain ⟨bi9, bi10, bi11, bi12, bi13, bi14, bi15, bi16, bi17⟩ := bi
  refine ⟨ShD, V3, nD, m', run, ⟨⟨⟨hFD, hAD, ?_, fun c hc => ?_, hkO⟩, hmD, fun i hi hza => zapD _ hza i hi rfl⟩, hPD, ?_, ?_, fun p i hp hi => ?_, fun p i hp hi => ?_, fun g hg => ?_⟩, fun i hi => by rw [km i hi, bm i hi], by omega, hnD, fun a ha hai => ?_, fun i hi h11 => ?_⟩
  · refine TS_mono hTO (fun a ha => (zD a ha).1) (fun a ha => ?_)
    show V3 a = V a
    rw [v3 a (zapD a ha 0 (by omega)), (zD a ha).2]
  · show V3 (m' 1) c = _ ∧ V3 (m' 2) c = _ ∧ V3 (m' 4) c = _ ∧ _
    rw [v3m 1 (by omega) (by omega), v3m 2 (by omega) (by omega), v3m 4 (by omega) (by omega), mD 1 (by omega) (by omega) (by omega), mD 2 (by omega) (by omega) (by omega), mD 4 (by omega) (by omega) (by omega), hV2]
    simp (disch := omega) only [rowV_eq, rowM_ne cm, hc, if_true]
    exact hVO c hc
  · show VI V3 m' w
    unfold VI
    rw [hV3, rowV_eq]
    simp (disch := omega) only [upd_ne, upd_eq]
    refine ⟨i9, i10, i11, i12, i13, i14, ?_, i16, i17⟩
    rw [mD 0 (by omega) (by omega) (by omega), v2m 0 (by omega) (by omega) (by omega) (by omega) (by omega) (by omega), e0, bi15]
    exact hbeg
  · show VLi V3 m' w
    unfold VLi
    rw [v3m 5 (by omega) (by omega), v3m 6 (by omega) (by omega), h5D, h6D]
    exact ⟨hpo.1.symm, hho.1.symm⟩
  · show V3 (m' (13 + p)) i = _
    rw [v3m _ (by omega) (by omega), kp p i hp hi, v2oj _ (by omega)]
    exact hvpO p i hp hi
  · show V3 (m' (31 + p)) i = _
    rw [v3m _ (by omega) (by omega), kh p i hp hi, v2oj _ (by omega)]
    exact hvhO p i hp hi
  · show V3 (m' 7) g = _ ∧ (_ ∨ V3 (m' 8) g = _)
    rw [v3m 7 (by omega) (by omega), v3m 8 (by omega) (by omega), mD 7 (by omega) (by omega) (by omega), mD 8 (by omega) (by omega) (by omega), hV2]
    simp (disch := omega) only [rowV_eq, rowM_ne cm, hg, if_true]
    exact hvgO g hg
  · have hlo : ∀ i, i < 11 → a ≠ m1 i := fun i hi => by rw [bm i hi]; exact hai i (by omega)
    have hall : ∀ k, (k < 13 + tp ∨ (31 ≤ k ∧ k < 31 + th)) → a ≠ m1 k := by
      intro k hk
      by_cases h11 : k < 11
      · exact hlo k h11
      · rcases bc k hk (by omega) with ⟨e1, e⟩ | e
        · rw [e]; exact hai k (by omega)
        · omega
    have h9 := kf a (by omega) (fun k hk => Or.inl (hall k hk))
    have h10 := bf a ha hai
    have ha0 : a ≠ m' 0 := by rw [km 0 (by omega)]; exact hlo 0 (by omega)
    exact ⟨by rw [h9.1, h10.1], by rw [v3 a ha0, h9.2, v2o a hlo, h10.2]⟩
  · rcases kc i hi h11 with ⟨e1, e⟩ | e
    · rcases bc i (by omega) h11 with ⟨e2, e3⟩ | e3
      · exact Or.inl ⟨e1, by rw [e, e3]⟩
      · right; omega
    · right; omega
end BC
