/-! PURE: back -/
set_option maxRecDepth 100000
section BA
variable {Sh Sh' : g_Sh} {V V' V0 : g_V} {L L' : g_L} {n n' x : Nat} {m u mt mt' q ρ ρ' m' u' : Nat → Nat} {V2 V2' : g_V} {L2 : g_L} {w : Nat → Int32} {gp : Nat → Nat} {m0 : Nat}
/-- the field is another -/
theorem GG_nw (h : GG (Sh, V, L, n) x ρ m u mt q V2 L2) (hn : n ≤ n') (hz : ∀ a, a < n → ρ a ≠ 2 → Sh' a = Sh a ∧ V' a = V a) (hr : ∀ a, ρ a ≠ 0 → ρ' a = ρ a) (hl : ∀ a, ρ' a ≠ 0 → a < n') (hF : Fld (Sh', V', L, n') ρ' 2 m' u' (V2' 1)) (h0 : m' 0 = m 0) (ht : TwK V2 V2') : GG (Sh', V', L, n') x ρ' m' u' mt q V2' L2 := by
  obtain ⟨-, hT, hM, hN, hS, hI, hO⟩ := h
  simp only [zSh_T, zV_T, zL_T, zn_T] at hT hM hN hS hO
  have hO' := hO
  obtain ⟨o1, o2, o3, o4, o5, o6, o7⟩ := hO'
  have zz : ∀ a, ρ a ≠ 0 → ρ a ≠ 2 → Sh' a = Sh a ∧ V' a = V a := fun a ha h3 => hz a (o1 a ha) h3
  refine ⟨hF, Tri_k hT hn (fun a ha => ⟨(zz a (by omega) (by omega)).1, (zz a (by omega) (by omega)).2, hr a (by omega)⟩), ?_, GN_k hN ⟨(zz _ (by omega) (by omega)).1, (zz _ (by omega) (by omega)).1⟩ ⟨(zz _ (by omega) (by omega)).2, (zz _ (by omega) (by omega)).2, (zz _ (by omega) (by omega)).2⟩ ht, GS_k hS hO (fun a ha => ⟨(zz a (by omega) (by omega)).1, hr a (by omega), (zz a (by omega) (by omega)).2, rfl⟩) ⟨ht.2.2.2.2.1, ht.2.2.2.2.2.1⟩, GI_k hI hO (fun a ha => ⟨(zz a (by omega) (by omega)).1, hr a (by omega), (zz a (by omega) (by omega)).2⟩) ⟨ht.1, ht.2.1⟩, ?_⟩
  · show GM Sh' x (m' 0) (mt 0) q
    unfold GM
    rw [(zz x (by omega) (by omega)).1, h0]
    exact hM
  · refine ⟨hl, ?_, ?_, ?_, ?_, ?_, fun s hs => ?_⟩
    · rw [hr x (by omega)]; exact o2
    · rw [hr _ (by omega)]; exact o3
    · rw [hr _ (by omega)]; exact o4
    · rw [hr _ (by omega)]; exact o5
    · rw [hr _ (by omega)]; exact o6
    · have := o7 s hs
      rw [hr _ (by omega)]; exact this
/-- a field becomes as another one is -/
theorem Fld_become {k k' : Nat} {t np nh : Nat} {o : Nat → Nat} (o1 : ∀ a, ρ a ≠ 0 → a < n) (hX : FX Sh V n m t np nh) (ho : ∀ i, (i < 13 + np ∨ (31 ≤ i ∧ i < 31 + nh)) → ρ (m i) = k) (h : Fld (Sh, V, L, n) ρ k' o u w) (hk : k ≠ k') (hk1 : k ≠ 1) (hk0 : k ≠ 0) (hk0' : k' ≠ 0) : ∃ Sh' V' n' m', cm_X1_becomes gp (Sh, V, L, n) (m 0) (o 0) = some (Sh', V', L, n') ∧ n ≤ n' ∧ m' 0 = m 0 ∧ (∀ a, a < n → ρ a ≠ k → Sh' a = Sh a ∧ V' a = V a) ∧ Fld (Sh', V', L, n') (fun a => if n ≤ a ∧ a < n' then k else ρ a) k m' u w := by
  obtain ⟨hFR, how, ⟨tp, th, hTL⟩, hRU, hinv⟩ := h
  simp only [zSh_T, zV_T, zL_T, zn_T] at hTL hRU
  have hg := hinv.1
  have hz : ∀ a, ρ a = 1 → a < n ∧ ∀ i, (i < 13 + np ∨ (31 ≤ i ∧ i < 31 + nh)) → a ≠ m i := fun a ha => ⟨o1 a (by omega), fun i hi e => by have := ho i hi; rw [e] at ha; omega⟩
  obtain ⟨Sh', V', n', m', e1, e2, e3, e4, e5, e6, e7⟩ := cm_becomes_eq (gp := gp) hX hFR hTL hz (fun i hi => o1 _ (by rw [how i hi]; exact hk0')) (fun i j hi hj e => hk (by rw [← ho i hi, ← how j hj, e])) hinv.2.1 hg.2.1 hg.2.2.1 hg.bnd hinv.2.2.2.1 (by
    have : V (u 0) 6 = w 5 := TS_far hFR.1.1.2.2.1
    rw [this]
    exact hinv.2.2.2.2.1.symm)
  have fo : ∀ i, (i < 13 + pNp w ∨ (31 ≤ i ∧ i < 31 + pNh w)) → (if n ≤ m' i ∧ m' i < n' then k else ρ (m' i)) = k := by
    intro i hi
    by_cases h11 : i < 11
    · rw [e3 i h11, if_neg (by have := hX.2.2.2.2.1 i (by omega); omega)]
      exact ho i (by omega)
    · rcases e7 i hi (by omega) with ⟨h13, h14⟩ | h13
      · rw [h14, if_neg (by have := hX.2.2.2.2.1 i (by omega); omega)]
        exact ho i (by omega)
      · rw [if_pos ⟨h13, e5 i hi⟩]
  have r1 : ∀ a, ρ a = 1 → (if n ≤ a ∧ a < n' then k else ρ a) = 1 := fun a ha => by rw [if_neg (by have := o1 a (by omega); omega)]; exact ha
  have zz : ∀ a, a < n → ρ a ≠ k → Sh' a = Sh a ∧ V' a = V a := fun a ha h3 => e6 a ha (fun i hi e => h3 (by rw [e]; exact ho i hi))
  have z1 : ∀ a, ρ a = 1 → Sh' a = Sh a ∧ V' a = V a := fun a ha => zz a (o1 a (by omega)) (by omega)
  exact ⟨Sh', V', n', m', e1, e4, e3 0 (by omega), zz, FR_k e2 (fun _ _ => rfl) (fun _ _ _ _ _ => rfl) (fun _ _ => ⟨rfl, rfl⟩) r1 (fun i hi e => hk1 ((fo i hi).symm.trans e)), fo, ⟨tp, th, TL_z (TL_mono hTL (fun a ha => (z1 a ha).1) (fun a ha => (z1 a ha).2)) r1⟩, RU_k hRU z1 r1, hinv⟩
theorem tw_back_loop {k : Nat} (hk : k < 3) : tw_back_L29 (nI k) 1000 0 V2 = some (rowV V2 1 (fun i => if i < 810 then V2 3 (810 * k + i) else V2 1 i)) := by
  have hr := lp_run (F := tw_back_F29 (nI k)) (N := 810) (st := fun i => (nI i, rowV V2 1 (fun j => if j < i then V2 3 (810 * k + j) else V2 1 j))) (out := rowV V2 1 (fun j => if j < 810 then V2 3 (810 * k + j) else V2 1 j)) ?_ ?_ 1000 0 (by omega) (by omega)
  · simp only [Nat.not_lt_zero, if_false, nI_0] at hr
    rw [show rowV V2 1 (fun c => V2 1 c) = V2 from rowV_self V2 1] at hr
    exact hr
  · intro rec i hi
    have q2 : upd (fun c => if c < i then V2 3 (810 * k + c) else V2 1 c) i (V2 3 (810 * k + i)) = fun c => if c < i + 1 then V2 3 (810 * k + c) else V2 1 c := upd_pre (f := fun c => V2 3 (810 * k + c)) rfl
    unfold tw_back_F29
    simp (disch := omega) only [tw_back_B29, L_add, L_addR, L_mul, L_mulR, L_div, N_div, N_rem, L_sub, L_subN, nI_add, nI_mul, L_le, L_leR, L_lt, L_ltR, L_eq, N_leT, N_leF, N_ltT, N_ltF, N_eqT, N_eqF, N_m1, bnd_S, un2_S, un3_S, nmI_S, nmL_S, ptI_S, cs2_L, cs2_R, okI_b, okI_1, okI_0, rdI_in, wrI_in, rdI_L, wrI_L, rdL_in, wrL_in, if_true, if_false, upd2_row, rowV_eq, rowV_ne, rowV_over, rowV_swap, upd_eq, upd_ne, upd_over, Nat.zero_add, q2]
  · intro rec
    unfold tw_back_F29
    simp (disch := omega) only [tw_back_B29, L_add, L_addR, L_mul, L_mulR, L_div, N_div, N_rem, L_sub, L_subN, nI_add, nI_mul, L_le, L_leR, L_lt, L_ltR, L_eq, N_leT, N_leF, N_ltT, N_ltF, N_eqT, N_eqF, N_m1, bnd_S, un2_S, un3_S, nmI_S, nmL_S, ptI_S, cs2_L, cs2_R, okI_b, okI_1, okI_0, rdI_in, wrI_in, rdI_L, wrI_L, rdL_in, wrL_in, if_true, if_false]
theorem q_back (h : GG (Sh, V, L, n) x ρ m u mt q V2 L2) (a : Int32) : Ans (cm_X0_back gp (Sh, V, L, n) x a) (tw_back V2 a) x L2 := by
  have hM : GM Sh x (m 0) (mt 0) q := h.gm
  have hF : FS0 Sh m (u 0) := h.f0
  obtain ⟨el, i1, i2⟩ := h.2.2.2.2.2.1
  simp only [zSh_T, zV_T, zL_T, zn_T] at i1
  have o1 : ∀ a, ρ a ≠ 0 → a < n := h.2.2.2.2.2.2.1
  have z1 : ¬ (1 : Int32) = 0 := by decide
  unfold cm_X0_back tw_back
  simp only [cm_in_tw]
  rcases in_N (a := a) (hi := 2) (N := 3) (by omega) (by decide) with h1 | ⟨k, hk, rfl, h1⟩
  · rw [h1]; exact ⟨_, _, _, rfl, rfl, h.g⟩
  · rw [h1]
    simp (disch := omega) only [zSh_T, zV_T, zL_T, zn_T, bnd_S, un2_S, un3_S, nmI_S, nmL_S, ptI_S, cs2_L, cs2_R, okI_b, okI_1, okI_0, rdI_in, wrI_in, rdI_L, wrI_L, rdL_in, wrL_in, if_true, if_false, z1, x_img hM, x_now hM, caR_eq i1]
    rcases i2 k hk with ⟨j1, j2⟩ | ⟨j1, mk, uk, j2, j3⟩
    · rw [j1, j2]
      exact ⟨_, _, _, rfl, rfl, h.g⟩
    · rw [j1, j2, if_neg z1]
      have hX := FR_FX h.fr h.inv.1 (fun i hi => o1 _ (by rw [h.ow hi]; omega))
      obtain ⟨Sh', V', n', m', e1, e2, e3, e4, e5⟩ := Fld_become (gp := gp) o1 hX (fun i hi => h.ow hi) j3 (by omega) (by omega) (by omega) (by omega)
      simp (disch := omega) only [zSh_T, zV_T, zL_T, zn_T, bnd_S, un2_S, un3_S, nmI_S, nmL_S, ptI_S, cs2_L, cs2_R, okI_b, okI_1, okI_0, rdI_in, wrI_in, rdI_L, wrI_L, rdL_in, wrL_in, if_true, if_false, zNl, nn_eq, f_KT hF, e1, tw_back_loop hk]
      refine ⟨_, _, _, rfl, rfl, GG.g (GG_nw (ρ' := fun a => if n ≤ a ∧ a < n' then 2 else ρ a) h e2 e4 (fun a ha => if_neg (by have := o1 a ha; omega)) (fun a ha => ?_) (u' := uk) (m' := m') ?_ e3 (TwK_row (by omega)))⟩
      · by_cases hc : n ≤ a ∧ a < n'
        · exact hc.2
        · have ha : (if n ≤ a ∧ a < n' then 2 else ρ a) ≠ 0 := ha
          rw [if_neg hc] at ha
          exact Nat.lt_of_lt_of_le (o1 a ha) e2
      · rw [rowV_eq]
        exact Fld_w e5 (fun j hj => if_pos hj)
end BA
