/-! PURE: a set of places is tried -/
set_option maxRecDepth 100000
theorem bit_64 : ∀ (s : Fin 64) (i : Fin 6), ((nI s.val >>> (nI i.val &&& 31)) &&& 1) = if s.val / 2 ^ i.val % 2 = 1 then 1 else 0 := by decide +kernel
/-- the row with the set's pipes among the first so many -/
def pSet (g : Nat → Int64) (sv : Nat) (w : Nat → Int32) : Nat → Nat → Int32
  | 0 => w
  | i + 1 => if sv / 2 ^ i % 2 = 1 then pAdd (pSet g sv w i) (g i).toInt32 else pSet g sv w i
section PS
variable {g : Nat → Int64} {sv N : Nat} {w w' : Nat → Int32}
theorem okN_w {k : Nat} (h : okN w g k) (hw : ∀ j, j < 810 → w' j = w j) (h12 : pNp w ≤ 12) : okN w' g k := by
  obtain ⟨h1, h2, h3, h4⟩ := h
  obtain ⟨c, hc, e1, -⟩ := i64_c h1
  refine ⟨h1, fun p hp => ?_, ?_, h4⟩
  · rw [pNp_eq (hw 2 (by omega))] at hp
    rw [hw _ (by omega)]; exact h2 p hp
  · rw [e1] at h3 ⊢
    unfold pDug at h3 ⊢
    rw [hw _ (by omega)]; exact h3
theorem pSet_ok (hok : ∀ k, k < N → okN w g k) (hg : pGood w) (hN : N ≤ 6) (h12 : pNp w ≤ 12) (h0 : 0 < pNp w) : ∀ i, i ≤ N → pGood (pSet g sv w i) ∧ pNp w ≤ pNp (pSet g sv w i) ∧ pNp (pSet g sv w i) ≤ pNp w + i ∧ (pSet g sv w i 625 = w 625 ∧ pSet g sv w i 626 = w 626) ∧ ∀ p, p < pNp (pSet g sv w i) → (p < pNp w ∧ pSet g sv w i (624 + 6 * p) = w (624 + 6 * p)) ∨ ∃ k, k < i ∧ pSet g sv w i (624 + 6 * p) = (g k).toInt32 := by
  intro i
  induction i with
  | zero => exact fun _ => ⟨hg, Nat.le_refl _, by show pNp w ≤ pNp w + 0; omega, ⟨rfl, rfl⟩, fun p hp => Or.inl ⟨hp, rfl⟩⟩
  | succ i ih =>
    intro hi
    obtain ⟨a1, a2, a3, ⟨a4, a5⟩, a6⟩ := ih (by omega)
    by_cases hb : sv / 2 ^ i % 2 = 1
    · have e : pSet g sv w (i + 1) = pAdd (pSet g sv w i) (g i).toInt32 := if_pos hb
      obtain ⟨o1, o2, o3, o4⟩ := hok i (by omega)
      obtain ⟨c, hc, e1, e2⟩ := i64_c o1
      have np := pAdd_np (w := pSet g sv w i) (c := (g i).toInt32) (by omega)
      rw [e]
      refine ⟨pAdd_good a1 (by omega) (by omega) hc e2 (fun p hp z => ?_), by omega, by omega, ⟨?_, ?_⟩, fun p hp => ?_⟩
      · rcases a6 p hp with ⟨b1, b2⟩ | ⟨k, b1, b2⟩
        · exact o2 p b1 (b2.symm.trans z)
        · have hk := (hok k (by omega)).1
          obtain ⟨c', hc', e1', e2'⟩ := i64_c hk
          have z2 : (g k).toInt32 = (g i).toInt32 := b2.symm.trans z
          rw [e2, e2'] at z2
          have z3 := (nI_eq (by omega) (by omega)).mp z2
          refine o4 k b1 (Int64.toInt_inj.mp ?_)
          have p1 : 0 ≤ (g k).toInt := by have := Int64.le_iff_toInt_le.mp hk.1; exact this
          have p2 : 0 ≤ (g i).toInt := by have := Int64.le_iff_toInt_le.mp o1.1; exact this
          omega
      · rw [pAdd_j (by omega) (by omega)]; exact a4
      · rw [pAdd_j (by omega) (by omega)]; exact a5
      · rw [np] at hp
        by_cases ep : p = pNp (pSet g sv w i)
        · right
          refine ⟨i, by omega, ?_⟩
          rw [ep]
          exact pAdd_k 0 (by omega)
        · rw [pAdd_j (by omega) (by omega)]
          rcases a6 p (by omega) with b | ⟨k, b1, b2⟩
          · exact Or.inl b
          · exact Or.inr ⟨k, by omega, b2⟩
    · have e : pSet g sv w (i + 1) = pSet g sv w i := if_neg hb
      rw [e]
      refine ⟨a1, a2, by omega, ⟨a4, a5⟩, fun p hp => ?_⟩
      rcases a6 p hp with b | ⟨k, b1, b2⟩
      · exact Or.inl b
      · exact Or.inr ⟨k, by omega, b2⟩
end PS
section SC
variable {Sh Sh' : g_Sh} {V V' V0 : g_V} {L L' : g_L} {n n' x : Nat} {m u mt mt' q ρ : Nat → Nat} {V2 V2' : g_V} {L2 : g_L} {w : Nat → Int32} {gp : Nat → Nat} {s N sv T : Nat} {nn' : Int32}
theorem Tc_self (h : Tc Sh V0 L n ρ mt u V w) : Tc Sh V L n ρ mt u V w := ⟨h.1, h.2.1, fun _ _ => rfl, h.2.2.2⟩
/-- the component's loop over the set's bits -/
theorem cm_bits (hG : GG (Sh, V, L, n) x ρ m u mt q V2 L2) (hT : Tc Sh V L n ρ mt u V (V2 1)) (hs : s < 4) (hN : N ≤ 6) (h36 : V2 36 s = nI N) (h0 : 0 < pNp (V2 1)) (hok : ∀ k, k < N → okN (V2 1) (fun i => L2 38 (60 * s + i)) k) (hsv : sv < 64) : ∃ Sh' V' n' ρ' mt', cm_X0_shutsBy_L32 gp x (q (5 + s)) (nI sv) nn' (m 13) 7 0 (Sh, V, L, n) = some (Sh', V', L, n') ∧ GG (Sh', V', L, n') x ρ' m u mt' q V2 L2 ∧ mt' 0 = mt 0 ∧ Tc Sh' V' L n' ρ' mt' u V' (pSet (fun i => L2 38 (60 * s + i)) sv (V2 1) N) := by
  have h12 := hG.inv.2.1
  have hP := pSet_ok (sv := sv) hok hG.inv.1 hN h12 h0
  have hr := lp_rel (F := cm_X0_shutsBy_F32 gp x (q (5 + s)) (nI sv) nn' (m 13)) (N := N) (P := fun out => ∃ Sh' V' n' ρ' mt', out = (Sh', V', L, n') ∧ GG (Sh', V', L, n') x ρ' m u mt' q V2 L2 ∧ mt' 0 = mt 0 ∧ Tc Sh' V' L n' ρ' mt' u V' (pSet (fun i => L2 38 (60 * s + i)) sv (V2 1) N)) (fun i z => ∃ Sh' V' n' ρ' mt', z = (nI i, (Sh', V', L, n')) ∧ GG (Sh', V', L, n') x ρ' m u mt' q V2 L2 ∧ mt' 0 = mt 0 ∧ Tc Sh' V' L n' ρ' mt' u V' (pSet (fun i => L2 38 (60 * s + i)) sv (V2 1) i)) ?_ ?_ 7 0 (nI 0, (Sh, V, L, n)) (by omega) (by omega) ⟨Sh, V, n, ρ, mt, rfl, hG, rfl, hT⟩
  · obtain ⟨out, e1, Sh', V', n', ρ', mt', rfl, e2⟩ := hr
    exact ⟨Sh', V', n', ρ', mt', e1, e2⟩
  · intro i z hi hz
    obtain ⟨Sh', V', n', ρ', mt', rfl, g1, g2, g3⟩ := hz
    have hb := bit_64 ⟨sv, hsv⟩ ⟨i, by omega⟩
    dsimp only at hb
    obtain ⟨a1, a2, a3, a4, a5⟩ := hP i (by omega)
    by_cases c : sv / 2 ^ i % 2 = 1
    · have e : pSet (fun i => L2 38 (60 * s + i)) sv (V2 1) (i + 1) = pAdd (pSet (fun i => L2 38 (60 * s + i)) sv (V2 1) i) (L2 38 (60 * s + i)).toInt32 := if_pos c
      have hgood := (hP (i + 1) (by omega)).1
      rw [e] at hgood
      rw [if_pos c] at hb
      obtain ⟨Sa, Va, na, ρa, ma, b1, b2, b3, b4⟩ := cm_add_1 (gp := gp) (nn' := nn') g1 g3 hs (by omega) h36 hi (by omega) h0 a4 hgood hb
      exact ⟨_, b1, Sa, Va, na, ρa, ma, rfl, b2, b3.trans g2, by rw [e]; exact b4⟩
    · have e : pSet (fun i => L2 38 (60 * s + i)) sv (V2 1) (i + 1) = pSet (fun i => L2 38 (60 * s + i)) sv (V2 1) i := if_neg c
      rw [if_neg c] at hb
      have hb1 : ¬ ((nI sv >>> (nI i &&& 31)) &&& 1) = 1 := by rw [hb]; decide
      obtain ⟨wd, b, rf, s1, s2, s3, s4⟩ := x_slot g1 hs (by omega) h36
      have sm := s_many (n := n') s1 s2 (by omega) s4
      refine ⟨(nI (i + 1), (Sh', V', L, n')), fun rec => ?_, Sh', V', n', ρ', mt', rfl, g1, g2, by rw [e]; exact g3⟩
      unfold cm_X0_shutsBy_F32
      simp (disch := omega) only [cm_X0_shutsBy_B32, zK_T s1, sm, zSh_T, zV_T, zL_T, zn_T, L_add, L_addR, L_mul, L_mulR, L_div, N_div, N_rem, L_sub, L_subN, nI_add, nI_mul, L_le, L_leR, L_lt, L_ltR, L_eq, N_leT, N_leF, N_ltT, N_ltF, N_eqT, N_eqF, N_m1, bnd_S, un2_S, un3_S, nmI_S, nmL_S, ptI_S, cs2_L, cs2_R, okI_b, okI_1, okI_0, rdI_in, wrI_in, rdI_L, wrI_L, rdL_in, wrL_in, if_true, if_false, hb1, if_false]
  · intro z hz
    obtain ⟨Sh', V', n', ρ', mt', rfl, g1, g2, g3⟩ := hz
    obtain ⟨wd, b, rf, s1, s2, s3, s4⟩ := x_slot g1 hs (by omega) h36
    have sm := s_many (n := n') s1 s2 (by omega) s4
    refine ⟨(Sh', V', L, n'), fun rec => ?_, Sh', V', n', ρ', mt', rfl, g1, g2, g3⟩
    unfold cm_X0_shutsBy_F32
    simp (disch := omega) only [cm_X0_shutsBy_B32, zK_T s1, sm, zSh_T, zV_T, zL_T, zn_T, L_add, L_addR, L_mul, L_mulR, L_div, N_div, N_rem, L_sub, L_subN, nI_add, nI_mul, L_le, L_leR, L_lt, L_ltR, L_eq, N_leT, N_leF, N_ltT, N_ltF, N_eqT, N_eqF, N_m1, bnd_S, un2_S, un3_S, nmI_S, nmL_S, ptI_S, cs2_L, cs2_R, okI_b, okI_1, okI_0, rdI_in, wrI_in, rdI_L, wrI_L, rdL_in, wrL_in, if_true, if_false]
/-- the component's ticks -/
theorem cm_run {m0 : Nat} (hM : GM Sh x m0 (mt 0) q) (h : Tc Sh V0 L n ρ mt u V w) (hT : T ≤ 30) : ∃ V', cm_X0_shutsBy_L97 gp x (nI T) 31 0 (Sh, V, L, n) = some (Sh, V', L, n) ∧ Tc Sh V0 L n ρ mt u V' (pTk w T) := by
  have hF : FS0 Sh mt (u 0) := h.1.1.1.1
  have hr := lp_rel (F := cm_X0_shutsBy_F97 gp x (nI T)) (N := T) (P := fun out => ∃ V', out = (Sh, V', L, n) ∧ Tc Sh V0 L n ρ mt u V' (pTk w T)) (fun i s => ∃ Vi, s = (nI i, (Sh, Vi, L, n)) ∧ Tc Sh V0 L n ρ mt u Vi (pTk w i)) ?_ ?_ 31 0 (nI 0, (Sh, V, L, n)) (by omega) (by omega) ⟨V, rfl, h⟩
  · obtain ⟨out, e1, V', rfl, e2⟩ := hr
    exact ⟨V', e1, e2⟩
  · intro i s hi hs
    obtain ⟨Vi, rfl, hT⟩ := hs
    obtain ⟨Vb, b1, b2⟩ := Tc_tick hT
    refine ⟨(nI (i + 1), (Sh, Vb, L, n)), fun rec => ?_, Vb, rfl, b2⟩
    unfold cm_X0_shutsBy_F97
    simp (disch := omega) only [cm_X0_shutsBy_B97, zSh_T, zV_T, zL_T, zn_T, L_add, L_addR, L_mul, L_mulR, L_div, N_div, N_rem, L_sub, L_subN, nI_add, nI_mul, L_le, L_leR, L_lt, L_ltR, L_eq, N_leT, N_leF, N_ltT, N_ltF, N_eqT, N_eqF, N_m1, bnd_S, un2_S, un3_S, nmI_S, nmL_S, ptI_S, cs2_L, cs2_R, okI_b, okI_1, okI_0, rdI_in, wrI_in, rdI_L, wrI_L, rdL_in, wrL_in, if_true, if_false, x_tri hM, f_KT hF, b1]
  · intro s hs
    obtain ⟨Vi, rfl, hT⟩ := hs
    refine ⟨_, fun rec => ?_, Vi, rfl, hT⟩
    unfold cm_X0_shutsBy_F97
    simp (disch := omega) only [cm_X0_shutsBy_B97, L_add, L_addR, L_mul, L_mulR, L_div, N_div, N_rem, L_sub, L_subN, nI_add, nI_mul, L_le, L_leR, L_lt, L_ltR, L_eq, N_leT, N_leF, N_ltT, N_ltF, N_eqT, N_eqF, N_m1, bnd_S, un2_S, un3_S, nmI_S, nmL_S, ptI_S, cs2_L, cs2_R, okI_b, okI_1, okI_0, rdI_in, wrI_in, rdI_L, wrI_L, rdL_in, wrL_in, if_true, if_false]
/-- the component: whether the set shuts the ring -/
theorem cm_by (hG : GG (Sh, V, L, n) x ρ m u mt q V2 L2) (hs : s < 4) (hN : N ≤ 6) (h36 : V2 36 s = nI N) (h0 : 0 < pNp (V2 1)) (hok : ∀ k, k < N → okN (V2 1) (fun i => L2 38 (60 * s + i)) k) (hsv : sv < 64) (hT : T ≤ 30) : ∃ Sh' V' n' ρ' mt', cm_X0_shutsBy gp (Sh, V, L, n) x (q (5 + s)) (nI sv) (nI T) = some (b2i (pShut (pTk (pSet (fun i => L2 38 (60 * s + i)) sv (V2 1) N) T)), (Sh', V', L, n')) ∧ GG (Sh', V', L, n') x ρ' m u mt' q V2 L2 := by
  have hM : GM Sh x (m 0) (mt 0) q := hG.gm
  obtain ⟨tt, np, nh, hX, -⟩ := hG.2.1
  have hFt : FS0 Sh mt tt := hX.1
  obtain ⟨Sh1, V1, n1, ρ1, mt1, e1, g1, e2, t1⟩ := x_try (gp := gp) hG
  have hM1 : GM Sh1 x (m 0) (mt1 0) q := g1.gm
  have hF1 : FS0 Sh1 m (u 0) := g1.f0
  have hL1 : LSt Sh1 (m 5) (m 11) (pNp (V2 1)) (fun p => m (13 + p)) := g1.fr.2.1.1
  have hv1 : V1 (m 5) 2 = nI (pNp (V2 1)) := by
    have : V1 (m 5) 2 = V2 1 2 := g1.fr.2.2.2.1.1
    rw [this]; exact g1.inv.1.2.1.1
  have hget := l_get (V := V1) (L := L) (n := n1) hL1 hv1 h0
  obtain ⟨rp, p1, p2⟩ := g1.fr.2.1.2.2.1 0 h0
  have p1 : Sh1 (m 13) = some (d_obj 5 6 rp) := p1
  obtain ⟨Sh2, Vb, n2, ρ2, mt2, b1, g2, b2, t2⟩ := cm_bits (gp := gp) (nn' := nI T) g1 t1 hs hN h36 h0 hok hsv
  have hM2 : GM Sh2 x (m 0) (mt2 0) q := g2.gm
  obtain ⟨Vc, c1, t3⟩ := cm_run (gp := gp) hM2 t2 hT
  obtain ⟨Vd, d1, t4⟩ := Tc_shut t3
  have hF2 : FS0 Sh2 mt2 (u 0) := t2.1.1.1.1
  refine ⟨Sh2, Vd, n2, ρ2, mt2, ?_, GG_end g2 t4 TwK_rf (fun _ _ => rfl)⟩
  have lK : ∀ (α : Type) (k : Option α), zK (Sh1, V1, L, n1) (m 5) 14 3 k = k := fun α k => l_K hL1
  have hget : cm_J2_get (Sh1, V1, L, n1) (m 5) 0 = some (some (m 13)) := hget
  have ck : ∀ (α : Type) (k : Option α), zCk (Sh1, V1, L, n1) (some (m 13)) 5 6 k = k := fun α k => by
    show zK (Sh1, V1, L, n1) (m 13) 5 6 _ = _
    exact zK_T p1
  unfold cm_X0_shutsBy
  simp (disch := omega) only [zSh_T, zV_T, zL_T, zn_T, x_tri hM, x_now hM, f_KT hFt, e1, bnd_S, x_now hM1, f_A hF1, lK, hget, ck, nn_eq, b1, c1, x_tri hM2, f_KT hF2, d1, un2_S, okI_b]
end SC
