/-! PURE: a set of places is tried: the reference; all sets -/
set_option maxRecDepth 100000
section SW
variable {V V0 : g_V} {V2 V2' : g_V} {L2 : g_L} {w : Nat → Int32} {s N sv T : Nat} {nn' : Int32}
theorem tw_bits (h : Tt V0 V w) (hs : s < 4) (hN : N ≤ 6) (h36 : V0 36 s = nI N) (h12 : pNp w ≤ 12) (h0 : 0 < pNp w) (hok : ∀ k, k < N → okN w (fun i => L2 38 (60 * s + i)) k) (hsv : sv < 64) : ∃ V', tw_shutsBy_L7 (nI s) (nI sv) nn' L2 1000 0 V = some V' ∧ Tt V0 V' (pSet (fun i => L2 38 (60 * s + i)) sv w N) := by
  have hP := pSet_ok (sv := sv) hok h.2.1 hN h12 h0
  have hr := lp_rel (F := tw_shutsBy_F7 (nI s) (nI sv) nn' L2) (N := N) (P := fun out => Tt V0 out (pSet (fun i => L2 38 (60 * s + i)) sv w N)) (fun i z => ∃ Vi, z = (nI i, Vi) ∧ Tt V0 Vi (pSet (fun i => L2 38 (60 * s + i)) sv w i)) ?_ ?_ 1000 0 (nI 0, V) (by omega) (by omega) ⟨V, rfl, h⟩
  · obtain ⟨out, e1, e2⟩ := hr
    exact ⟨out, e1, e2⟩
  · intro i z hi hz
    obtain ⟨Vi, rfl, g1, g2, g3⟩ := hz
    have hb := bit_64 ⟨sv, hsv⟩ ⟨i, by omega⟩
    dsimp only at hb
    obtain ⟨a1, a2, a3, a4, a5⟩ := hP i (by omega)
    have h36i : Vi 36 s = nI N := by rw [g3 36 (by omega) (by omega) (by omega) (by omega)]; exact h36
    by_cases c : sv / 2 ^ i % 2 = 1
    · have e : pSet (fun i => L2 38 (60 * s + i)) sv w (i + 1) = pAdd (pSet (fun i => L2 38 (60 * s + i)) sv w i) (L2 38 (60 * s + i)).toInt32 := if_pos c
      have hgood := (hP (i + 1) (by omega)).1
      rw [if_pos c] at hb
      refine ⟨_, fun rec => tw_add_1 hs (by omega) h36i hi g1 a1 (by omega) (by omega) (by rw [hb]; decide) rec, _, rfl, ?_, hgood, fun a b1 b24 b25 b26 => ?_⟩
      · rw [rowV_eq, e]
      · rw [rowV_ne b1]; exact g3 a b1 b24 b25 b26
    · have e : pSet (fun i => L2 38 (60 * s + i)) sv w (i + 1) = pSet (fun i => L2 38 (60 * s + i)) sv w i := if_neg c
      rw [if_neg c] at hb
      refine ⟨(nI (i + 1), Vi), fun rec => ?_, Vi, rfl, by rw [e]; exact ⟨g1, g2, g3⟩⟩
      unfold tw_shutsBy_F7
      simp (disch := omega) only [tw_shutsBy_B7, L_add, L_addR, L_mul, L_mulR, L_div, N_div, N_rem, L_sub, L_subN, nI_add, nI_mul, L_le, L_leR, L_lt, L_ltR, L_eq, N_leT, N_leF, N_ltT, N_ltF, N_eqT, N_eqF, N_m1, bnd_S, un2_S, un3_S, nmI_S, nmL_S, ptI_S, cs2_L, cs2_R, okI_b, okI_1, okI_0, rdI_in, wrI_in, rdI_L, wrI_L, rdL_in, wrL_in, if_true, if_false, h36i, hb]
  · intro z hz
    obtain ⟨Vi, rfl, g1, g2, g3⟩ := hz
    have h36i : Vi 36 s = nI N := by rw [g3 36 (by omega) (by omega) (by omega) (by omega)]; exact h36
    refine ⟨Vi, fun rec => ?_, g1, g2, g3⟩
    unfold tw_shutsBy_F7
    simp (disch := omega) only [tw_shutsBy_B7, L_add, L_addR, L_mul, L_mulR, L_div, N_div, N_rem, L_sub, L_subN, nI_add, nI_mul, L_le, L_leR, L_lt, L_ltR, L_eq, N_leT, N_leF, N_ltT, N_ltF, N_eqT, N_eqF, N_m1, bnd_S, un2_S, un3_S, nmI_S, nmL_S, ptI_S, cs2_L, cs2_R, okI_b, okI_1, okI_0, rdI_in, wrI_in, rdI_L, wrI_L, rdL_in, wrL_in, if_true, if_false, h36i]
theorem tw_runs (h : Tt V0 V w) (hT : T ≤ 30) : ∃ V', tw_shutsBy_L155 (nI T) L2 1000 0 V = some V' ∧ Tt V0 V' (pTk w T) := by
  have hr := lp_rel (F := tw_shutsBy_F155 (nI T) L2) (N := T) (P := fun out => Tt V0 out (pTk w T)) (fun i z => ∃ Vi, z = (nI i, Vi) ∧ Tt V0 Vi (pTk w i)) ?_ ?_ 1000 0 (nI 0, V) (by omega) (by omega) ⟨V, rfl, h⟩
  · obtain ⟨out, e1, e2⟩ := hr
    exact ⟨out, e1, e2⟩
  · intro i z hi hz
    obtain ⟨Vi, rfl, hT⟩ := hz
    obtain ⟨Vb, b1, b2⟩ := Tt_tick hT
    refine ⟨(nI (i + 1), Vb), fun rec => ?_, Vb, rfl, b2⟩
    unfold tw_shutsBy_F155
    simp (disch := omega) only [tw_shutsBy_B155, L_add, L_addR, L_mul, L_mulR, L_div, N_div, N_rem, L_sub, L_subN, nI_add, nI_mul, L_le, L_leR, L_lt, L_ltR, L_eq, N_leT, N_leF, N_ltT, N_ltF, N_eqT, N_eqF, N_m1, bnd_S, un2_S, un3_S, nmI_S, nmL_S, ptI_S, cs2_L, cs2_R, okI_b, okI_1, okI_0, rdI_in, wrI_in, rdI_L, wrI_L, rdL_in, wrL_in, if_true, if_false, b1]
  · intro z hz
    obtain ⟨Vi, rfl, hT⟩ := hz
    refine ⟨_, fun rec => ?_, hT⟩
    unfold tw_shutsBy_F155
    simp (disch := omega) only [tw_shutsBy_B155, L_add, L_addR, L_mul, L_mulR, L_div, N_div, N_rem, L_sub, L_subN, nI_add, nI_mul, L_le, L_leR, L_lt, L_ltR, L_eq, N_leT, N_leF, N_ltT, N_ltF, N_eqT, N_eqF, N_m1, bnd_S, un2_S, un3_S, nmI_S, nmL_S, ptI_S, cs2_L, cs2_R, okI_b, okI_1, okI_0, rdI_in, wrI_in, rdI_L, wrI_L, rdL_in, wrL_in, if_true, if_false]
theorem tw_by (hg : pGood (V2 1)) (hs : s < 4) (hN : N ≤ 6) (h36 : V2 36 s = nI N) (h12 : pNp (V2 1) ≤ 12) (h0 : 0 < pNp (V2 1)) (hok : ∀ k, k < N → okN (V2 1) (fun i => L2 38 (60 * s + i)) k) (hsv : sv < 64) (hT : T ≤ 30) : ∃ V2', tw_shutsBy V2 L2 (nI s) (nI sv) (nI T) = some (b2i (pShut (pTk (pSet (fun i => L2 38 (60 * s + i)) sv (V2 1) N) T)), V2') ∧ TwK V2 V2' ∧ ∀ j, j < 810 → V2' 1 j = V2 1 j := by
  have hTt : Tt (rowV V2 2 (fun i => if i < 810 then V2 1 i else V2 2 i)) (rowV V2 2 (fun i => if i < 810 then V2 1 i else V2 2 i)) (V2 1) := ⟨rowV_ne (by omega), hg, fun _ _ _ _ _ => rfl⟩
  obtain ⟨Va, a1, a2⟩ := tw_bits (L2 := L2) (sv := sv) (nn' := nI T) hTt hs hN (by rw [rowV_ne (by omega)]; exact h36) h12 h0 hok hsv
  obtain ⟨Vc, c1, c2⟩ := tw_runs (L2 := L2) a2 hT
  obtain ⟨Vb, b1, b2⟩ := Tt_shut c2
  have b3 := b2.2.2
  have bb : ∀ a, a ≠ 1 → a ≠ 2 → a ≠ 24 → a ≠ 25 → a ≠ 26 → rowV Vb 1 (fun i => if i < 810 then Vb 2 i else Vb 1 i) a = V2 a := fun a h1 h2 h24 h25 h26 => by rw [rowV_ne h1, b3 a h1 h24 h25 h26, rowV_ne h2]
  refine ⟨rowV Vb 1 (fun i => if i < 810 then Vb 2 i else Vb 1 i), ?_, ⟨bb 3 (by omega) (by omega) (by omega) (by omega) (by omega), bb 4 (by omega) (by omega) (by omega) (by omega) (by omega), bb 5 (by omega) (by omega) (by omega) (by omega) (by omega), bb 33 (by omega) (by omega) (by omega) (by omega) (by omega), bb 36 (by omega) (by omega) (by omega) (by omega) (by omega), bb 37 (by omega) (by omega) (by omega) (by omega) (by omega), ?_, ?_, ?_, ?_, ?_⟩, fun j hj => ?_⟩
  · unfold tw_shutsBy
    simp only [tw_saves_eq, bnd_S, a1, c1, b1, un2_S, tw_putsBack_eq, okI_b]
  · rw [bb 0 (by omega) (by omega) (by omega) (by omega) (by omega)]
  · rw [bb 0 (by omega) (by omega) (by omega) (by omega) (by omega)]
  · rw [bb 0 (by omega) (by omega) (by omega) (by omega) (by omega)]
  · rw [bb 0 (by omega) (by omega) (by omega) (by omega) (by omega)]
  · rw [bb 0 (by omega) (by omega) (by omega) (by omega) (by omega)]
  · rw [rowV_eq, if_pos hj, b3 2 (by omega) (by omega) (by omega) (by omega), rowV_eq, if_pos hj]
end SW
section MO
variable {Sh Sh' : g_Sh} {V V' V0 : g_V} {L L' : g_L} {n n' x : Nat} {m u mt mt' q ρ : Nat → Nat} {V2 V2' : g_V} {L2 : g_L} {w : Nat → Int32} {gp : Nat → Nat} {s N sv T : Nat} {nn' : Int32}
/-- what holds between two sets -/
def Mr (x : Nat) (m u q : Nat → Nat) (L2 : g_L) (s N : Nat) (Z : c_S) (V2 : g_V) : Prop := ∃ ρ mt, GG Z x ρ m u mt q V2 L2 ∧ V2 36 s = nI N ∧ 0 < pNp (V2 1) ∧ ∀ k, k < N → okN (V2 1) (fun i => L2 38 (60 * s + i)) k
theorem more_try {bst : Int32} (hs : s < 4) (hN : N ≤ 6) (hT : T ≤ 30) (hsv : sv < 64) (h : Mr x m u q L2 s N (Sh, V, L, n) V2) : ∃ (Sh' : g_Sh) (V' : g_V) (n' : Nat) (V2' : g_V) (b' : Int32), (∀ rec, cm_X0_more_J154 gp rec x (nI T) (q (5 + s)) bst (nI sv) (Sh, V, L, n) = rec b' (nI (sv + 1)) (Sh', V', L, n')) ∧ (∀ rec, tw_more_J134 rec (nI s) (nI T) bst (nI sv) 1 V2 L2 = rec b' (nI (sv + 1)) V2') ∧ (b' = bst ∨ b' = nI sv) ∧ Mr x m u q L2 s N (Sh', V', L, n') V2' := by
  obtain ⟨ρ, mt, hG, h36, h0, hok⟩ := h
  have hM : GM Sh x (m 0) (mt 0) q := hG.gm
  have h12 := hG.inv.2.1
  have hi := hG.inv.1
  obtain ⟨Sh', V', n', ρ', mt', a1, a2⟩ := cm_by (gp := gp) hG hs hN h36 h0 hok hsv hT
  obtain ⟨V2', b1, b2, b3⟩ := tw_by hi hs hN h36 h12 h0 hok hsv hT
  have g3 : GG (Sh', V', L, n') x ρ' m u mt' q V2' L2 := GG_scr a2 (Nat.le_refl n') (fun _ _ => rfl) (fun _ _ _ _ _ => rfl) (fun _ _ => rfl) b2 b3
  have z1 : ¬ (1 : Int32) = 0 := by decide
  refine ⟨Sh', V', n', V2', if pShut (pTk (pSet (fun i => L2 38 (60 * s + i)) sv (V2 1) N) T) = false then bst else nI sv, fun rec => ?_, fun rec => ?_, ?_, ρ', mt', g3, by rw [b2.2.2.2.2.1]; exact h36, by rw [pNp_eq (b3 2 (by omega))]; exact h0, fun k hk => okN_w (hok k hk) b3 h12⟩
  · unfold cm_X0_more_J154
    simp (disch := omega) only [x_K hM, a1, bnd_S, un2_S, b2iF, L_add, L_addR, L_mul, L_mulR, L_div, N_div, N_rem, L_sub, L_subN, nI_add, nI_mul, L_le, L_leR, L_lt, L_ltR, L_eq, N_leT, N_leF, N_ltT, N_ltF, N_eqT, N_eqF, N_m1, bnd_S, un2_S, un3_S, nmI_S, nmL_S, ptI_S, cs2_L, cs2_R, okI_b, okI_1, okI_0, rdI_in, wrI_in, rdI_L, wrI_L, rdL_in, wrL_in, if_true, if_false]
    split <;> rfl
  · unfold tw_more_J134
    simp (disch := omega) only [z1, if_false, b1, bnd_S, un2_S, b2iF, L_add, L_addR, L_mul, L_mulR, L_div, N_div, N_rem, L_sub, L_subN, nI_add, nI_mul, L_le, L_leR, L_lt, L_ltR, L_eq, N_leT, N_leF, N_ltT, N_ltF, N_eqT, N_eqF, N_m1, bnd_S, un2_S, un3_S, nmI_S, nmL_S, ptI_S, cs2_L, cs2_R, okI_b, okI_1, okI_0, rdI_in, wrI_in, rdI_L, wrI_L, rdL_in, wrL_in, if_true, if_false]
    split <;> rfl
  · split
    · exact Or.inl rfl
    · exact Or.inr rfl
theorem shl_7 : ∀ N : Fin 7, ((1 : Int32) <<< (nI N.val &&& 31)) = nI (2 ^ N.val) := by decide +kernel
theorem pow_7 : ∀ N : Fin 7, 2 ^ N.val ≤ 64 := by decide +kernel
theorem more_loop (hs : s < 4) (hN : N ≤ 6) (hT : T ≤ 30) (h : Mr x m u q L2 s N (Sh, V, L, n) V2) : ∃ o o', cm_X0_more_L97 gp x (nI T) (q (5 + s)) 65 (-1) 0 (Sh, V, L, n) = some o ∧ tw_more_L78 (nI s) (nI T) L2 1000 (-1) 0 V2 = some o' ∧ ∃ (Sh' : g_Sh) (V' : g_V) (n' : Nat) (V2' : g_V) (b' : Int32), o = (b', (Sh', V', L, n')) ∧ o' = (b', V2') ∧ (b' = -1 ∨ ∃ b, b < 64 ∧ b' = nI b) ∧ Mr x m u q L2 s N (Sh', V', L, n') V2' := by
  have p64 := pow_7 ⟨N, by omega⟩
  have sh := shl_7 ⟨N, by omega⟩
  dsimp only at p64 sh
  refine lp_sim (F := cm_X0_more_F97 gp x (nI T) (q (5 + s))) (F' := tw_more_F78 (nI s) (nI T) L2) (N := 2 ^ N) (P := fun o o' => ∃ (Sh' : g_Sh) (V' : g_V) (n' : Nat) (V2' : g_V) (b' : Int32), o = (b', (Sh', V', L, n')) ∧ o' = (b', V2') ∧ (b' = -1 ∨ ∃ b, b < 64 ∧ b' = nI b) ∧ Mr x m u q L2 s N (Sh', V', L, n') V2') (fun i z z' => ∃ (Sh' : g_Sh) (V' : g_V) (n' : Nat) (V2' : g_V) (b' : Int32), z = (b', nI i, (Sh', V', L, n')) ∧ z' = (b', nI i, V2') ∧ (b' = -1 ∨ ∃ b, b < 64 ∧ b' = nI b) ∧ Mr x m u q L2 s N (Sh', V', L, n') V2') ?_ 65 1000 0 (-1, nI 0, (Sh, V, L, n)) (-1, nI 0, V2) (Nat.zero_le _) (by omega) (by omega) ⟨Sh, V, n, V2, -1, rfl, rfl, Or.inl rfl, h⟩
  intro i z z' hi hR
  obtain ⟨Sh', V', n', V2', b', rfl, rfl, hb, hm⟩ := hR
  have hm' := hm
  obtain ⟨ρ, mt, hG, h36, h0, hok⟩ := hm'
  obtain ⟨wd, b, rf, s1, s2, s3, s4⟩ := x_slot hG hs (by omega) h36
  have sm := s_many (n := n') s1 s2 (by omega) s4
  by_cases hlt : i < 2 ^ N
  · right
    refine ⟨hlt, ?_⟩
    have hnl : ¬ nI (2 ^ N) ≤ nI i := by
      intro z
      rw [N_le (by omega) (by omega)] at z
      omega
    obtain ⟨Sa, Va, na, Vb, b2, t1, t2, t3, t4⟩ := more_try (gp := gp) (bst := b') hs hN hT (sv := i) (by omega) hm
    obtain ⟨ki, ei⟩ := ones_lt ⟨i, by omega⟩
    have ci := ones_64 ⟨i, by omega⟩
    dsimp only at ei ci
    rw [ei] at ci
    have hb2 : b2 = -1 ∨ ∃ b, b < 64 ∧ b2 = nI b := by
      rcases t3 with e | e
      · rw [e]; exact hb
      · exact Or.inr ⟨i, by omega, e⟩
    unfold cm_X0_more_F97 tw_more_F78
    rcases hb with rfl | ⟨bb, hbb, rfl⟩
    · refine ⟨_, _, fun rec => ?_, fun rec => ?_, Sa, Va, na, Vb, b2, rfl, rfl, hb2, t4⟩
      · simp (disch := omega) only [cm_X0_more_B97, zK_T s1, sm, bnd_S, sh, hnl, if_false, ci, if_true, t1]
      · simp (disch := omega) only [tw_more_B78, bnd_S, un2_S, un3_S, nmI_S, nmL_S, ptI_S, cs2_L, cs2_R, okI_b, okI_1, okI_0, rdI_in, wrI_in, rdI_L, wrI_L, rdL_in, wrL_in, if_true, if_false, h36, sh, hnl, if_false, if_true, tw_more_J129, t2]
    · obtain ⟨kb, eb⟩ := ones_lt ⟨bb, hbb⟩
      have cb := ones_64 ⟨bb, hbb⟩
      dsimp only at eb cb
      rw [eb] at cb
      have nb : ¬ nI bb = -1 := by rw [N_m1 (by omega)]; exact id
      have k1 : ∀ rec : Int32 → Int32 → c_S → Option (Int32 × c_S), nmI (nI i + 1) (fun x_56 => rec (nI bb) x_56 (Sh', V', L, n')) = rec (nI bb) (nI (i + 1)) (Sh', V', L, n') := fun rec => by simp (disch := omega) only [L_add, L_addR, L_mul, L_mulR, L_div, N_div, N_rem, L_sub, L_subN, nI_add, nI_mul, L_le, L_leR, L_lt, L_ltR, L_eq, N_leT, N_leF, N_ltT, N_ltF, N_eqT, N_eqF, N_m1, bnd_S, un2_S, un3_S, nmI_S, nmL_S, ptI_S, cs2_L, cs2_R, okI_b, okI_1, okI_0, rdI_in, wrI_in, rdI_L, wrI_L, rdL_in, wrL_in, if_true, if_false]
      have k2 : ∀ rec : Int32 → Int32 → g_V → Option (Int32 × g_V), tw_more_J133 rec (nI s) (nI T) (nI bb) (nI i) V2' L2 = rec (nI bb) (nI (i + 1)) V2' := fun rec => by
        unfold tw_more_J133 tw_more_J134
        simp (disch := omega) only [if_true, L_add, L_addR, L_mul, L_mulR, L_div, N_div, N_rem, L_sub, L_subN, nI_add, nI_mul, L_le, L_leR, L_lt, L_ltR, L_eq, N_leT, N_leF, N_ltT, N_ltF, N_eqT, N_eqF, N_m1, bnd_S, un2_S, un3_S, nmI_S, nmL_S, ptI_S, cs2_L, cs2_R, okI_b, okI_1, okI_0, rdI_in, wrI_in, rdI_L, wrI_L, rdL_in, wrL_in, if_true, if_false]
      have k3 : ∃ (Sh'' : g_Sh) (V'' : g_V) (n'' : Nat) (V2'' : g_V) (b' : Int32), (nI bb, nI (i + 1), (Sh', V', L, n')) = (b', nI (i + 1), (Sh'', V'', L, n'')) ∧ (nI bb, nI (i + 1), V2') = (b', nI (i + 1), V2'') ∧ (b' = -1 ∨ ∃ b, b < 64 ∧ b' = nI b) ∧ Mr x m u q L2 s N (Sh'', V'', L, n'') V2'' := ⟨Sh', V', n', V2', nI bb, rfl, rfl, Or.inr ⟨bb, hbb, rfl⟩, hm⟩
      have ik := ki.isLt
      have kk := kb.isLt
      have L1 : (nI kb.val < nI ki.val) = (kb.val < ki.val) := N_lt (by omega) (by omega)
      have L2' : (nI ki.val < nI kb.val) = (ki.val < kb.val) := N_lt (by omega) (by omega)
      have L3 : (nI ki.val = nI kb.val) = (ki.val = kb.val) := propext (nI_eq (by omega) (by omega))
      have tr : ∃ (Sh' : g_Sh) (V' : g_V) (n' : Nat) (V2' : g_V) (b' : Int32), (b2, nI (i + 1), (Sa, Va, L, na)) = (b', nI (i + 1), (Sh', V', L, n')) ∧ (b2, nI (i + 1), Vb) = (b', nI (i + 1), V2') ∧ (b' = -1 ∨ ∃ b, b < 64 ∧ b' = nI b) ∧ Mr x m u q L2 s N (Sh', V', L, n') V2' := ⟨Sa, Va, na, Vb, b2, rfl, rfl, hb2, t4⟩
      by_cases c1 : kb.val < ki.val
      · refine ⟨_, _, fun rec => ?_, fun rec => ?_, k3⟩
        · simp (disch := omega) only [cm_X0_more_B97, zK_T s1, sm, bnd_S, sh, hnl, if_false, ci, cb, nb, L1, c1, if_true, nmI_S, L_addR, nI_add]
        · simp (disch := omega) only [tw_more_B78, bnd_S, un2_S, un3_S, nmI_S, nmL_S, ptI_S, cs2_L, cs2_R, okI_b, okI_1, okI_0, rdI_in, wrI_in, rdI_L, wrI_L, rdL_in, wrL_in, if_true, if_false, h36, sh, hnl, if_false, nb, ei, eb, bnd_S, L2', show ¬ ki.val < kb.val by omega, L3, show ¬ ki.val = kb.val by omega, k2]
      · by_cases c2 : ki.val = kb.val
        · have ek : ki = kb := Fin.ext c2
          subst ek
          have f1 : ¬ nI ki.val < nI ki.val := by rw [L1]; omega
          by_cases c3 : tw_isAhead (nI i) (nI bb) = some 0
          · refine ⟨_, _, fun rec => ?_, fun rec => ?_, k3⟩
            · simp (disch := omega) only [cm_X0_more_B97, zK_T s1, sm, bnd_S, sh, hnl, if_false, ci, cb, nb, f1, eq_self, if_true, cm_ahead, c3, nmI_S, L_addR, nI_add]
            · simp (disch := omega) only [tw_more_B78, bnd_S, un2_S, un3_S, nmI_S, nmL_S, ptI_S, cs2_L, cs2_R, okI_b, okI_1, okI_0, rdI_in, wrI_in, rdI_L, wrI_L, rdL_in, wrL_in, if_true, if_false, h36, sh, hnl, if_false, nb, ei, eb, bnd_S, f1, eq_self, if_true, c3, k2]
          · have c4 : tw_isAhead (nI i) (nI bb) = some 1 := by
              unfold tw_isAhead nmI at c3 ⊢
              dsimp only at c3 ⊢
              split at c3
              · exact absurd rfl c3
              · rename_i hx
                rw [if_neg hx]
            have z1 : ¬ (1 : Int32) = 0 := by decide
            refine ⟨_, _, fun rec => ?_, fun rec => ?_, tr⟩
            · simp (disch := omega) only [cm_X0_more_B97, zK_T s1, sm, bnd_S, sh, hnl, if_false, ci, cb, nb, f1, eq_self, if_true, cm_ahead, c4, z1, t1]
            · simp (disch := omega) only [tw_more_B78, bnd_S, un2_S, un3_S, nmI_S, nmL_S, ptI_S, cs2_L, cs2_R, okI_b, okI_1, okI_0, rdI_in, wrI_in, rdI_L, wrI_L, rdL_in, wrL_in, if_true, if_false, h36, sh, hnl, if_false, nb, ei, eb, bnd_S, f1, eq_self, if_true, c4, z1, tw_more_J129, t2]
        · refine ⟨_, _, fun rec => ?_, fun rec => ?_, tr⟩
          · simp (disch := omega) only [cm_X0_more_B97, zK_T s1, sm, bnd_S, sh, hnl, if_false, ci, cb, nb, L1, c1, L3, c2, t1]
          · simp (disch := omega) only [tw_more_B78, bnd_S, un2_S, un3_S, nmI_S, nmL_S, ptI_S, cs2_L, cs2_R, okI_b, okI_1, okI_0, rdI_in, wrI_in, rdI_L, wrI_L, rdL_in, wrL_in, if_true, if_false, h36, sh, hnl, if_false, nb, ei, eb, bnd_S, L2', show ki.val < kb.val by omega, if_true, tw_more_J129, t2]
  · left
    have hle : nI (2 ^ N) ≤ nI i := by rw [N_le (by omega) (by omega)]; omega
    refine ⟨_, _, fun rec => ?_, fun rec => ?_, Sh', V', n', V2', b', rfl, rfl, hb, hm⟩
    · unfold cm_X0_more_F97
      simp (disch := omega) only [cm_X0_more_B97, zK_T s1, sm, bnd_S, sh, hle, if_true]
    · unfold tw_more_F78
      simp (disch := omega) only [tw_more_B78, bnd_S, un2_S, un3_S, nmI_S, nmL_S, ptI_S, cs2_L, cs2_R, okI_b, okI_1, okI_0, rdI_in, wrI_in, rdI_L, wrI_L, rdL_in, wrL_in, if_true, if_false, h36, sh, hle, if_true]
end MO
