/-! PURE: what would be: the field that is tried on -/
set_option maxRecDepth 100000
/-- so many ticks later -/
noncomputable def pTk (w : Nat → Int32) : Nat → Nat → Int32
  | 0 => w
  | i + 1 => pTicks (pTk w i)
section TR
variable {Sh Sh' : g_Sh} {V V' V0 : g_V} {L L' : g_L} {n n' x : Nat} {m u mt mt' q ρ : Nat → Nat} {V2 V2' : g_V} {L2 : g_L} {w : Nat → Int32}
theorem pTk_good (h : pGood w) (i : Nat) : pGood (pTk w i) := by
  induction i with
  | zero => exact h
  | succ i ih => exact pTicks_good ih
/-- the component's trial as a row -/
def Tc (Sh : g_Sh) (V0 : g_V) (L : g_L) (n : Nat) (ρ mt u : Nat → Nat) (V : g_V) (w : Nat → Int32) : Prop := FR (Sh, V, L, n) mt u (fun a => ρ a = 1) w ∧ pGood w ∧ (∀ a, ρ a ≠ 3 → V a = V0 a) ∧ ∀ i, (i < 13 + pNp w ∨ (31 ≤ i ∧ i < 31 + pNh w)) → ρ (mt i) = 3
theorem pTicks_np (h : pGood w) : pNp (pTicks w) = pNp w ∧ pNh (pTicks w) = pNh w := ⟨pNp_eq (pTicks_keep h.2.1 h.2.2.1 (by omega) (by omega) (by omega) (by omega) (by omega) (by omega) (by omega) (by omega) (by omega)), pNh_eq (pTicks_keep h.2.1 h.2.2.1 (by omega) (by omega) (by omega) (by omega) (by omega) (by omega) (by omega) (by omega) (by omega))⟩
theorem Tc_tick (h : Tc Sh V0 L n ρ mt u V w) : ∃ V', cm_X1_ticks (Sh, V, L, n) (mt 0) = some (Sh, V', L, n) ∧ Tc Sh V0 L n ρ mt u V' (pTicks w) := by
  obtain ⟨h1, hg, h3, h4⟩ := h
  obtain ⟨V', e1, e2, e3⟩ := cm_ticks_eq h1 hg.2.1 hg.2.2.1 hg.bnd (pStr_n1 hg)
  obtain ⟨n1, n2⟩ := pTicks_np hg
  refine ⟨V', e1, e2, pTicks_good hg, fun a ha => ?_, by rw [n1, n2]; exact h4⟩
  rw [e3 a (fun i hi e => ha (by rw [e]; exact h4 i hi))]
  exact h3 a ha
theorem Tc_shut (h : Tc Sh V0 L n ρ mt u V w) : ∃ V', cm_X1_isShut (Sh, V, L, n) (mt 0) = some (b2i (pShut w), (Sh, V', L, n)) ∧ Tc Sh V0 L n ρ mt u V' w := by
  obtain ⟨h1, hg, h3, h4⟩ := h
  obtain ⟨A, B, e1⟩ := cm_isShut_eq h1.1 (pWayO_lt hg.1)
  have hm := h1.1.2.1
  have m9 := h4 9 (by omega)
  have m10 := h4 10 (by omega)
  refine ⟨_, e1, FR_k h1 (fun _ _ => rfl) (fun i hi _ a9 a10 => ?_) (fun a ha => ⟨rfl, ?_⟩) (fun _ h => h) (fun i hi => h1.1.2.2 i hi), hg, fun a ha => ?_, h4⟩
  · rw [rowV_ne (hm.ne hi (by omega) a10), rowV_ne (hm.ne hi (by omega) a9)]
  · rw [rowV_ne (fun e => by rw [e] at ha; omega), rowV_ne (fun e => by rw [e] at ha; omega)]
  · rw [rowV_ne (fun e => ha (by rw [e]; exact m10)), rowV_ne (fun e => ha (by rw [e]; exact m9))]
    exact h3 a ha
/-- the reference's row that is tried on -/
def Tt (V0 V : g_V) (w : Nat → Int32) : Prop := V 1 = w ∧ pGood w ∧ ∀ a, a ≠ 1 → a ≠ 24 → a ≠ 25 → a ≠ 26 → V a = V0 a
theorem Tt_tick (h : Tt V0 V w) : ∃ V', tw_ticks V = some V' ∧ Tt V0 V' (pTicks w) := by
  obtain ⟨rfl, hg, h3⟩ := h
  obtain ⟨a, b, c, e4⟩ := tw_ticks_eq (V := V) hg.1 hg.2.1 hg.2.2.1
  refine ⟨_, e4, ?_, pTicks_good hg, fun d h1 h24 h25 h26 => ?_⟩
  · rw [rowV_ne (by omega), rowV_ne (by omega), rowV_ne (by omega), rowV_eq]
  · rw [rowV_ne h26, rowV_ne h25, rowV_ne h24, rowV_ne h1]; exact h3 d h1 h24 h25 h26
theorem Tt_shut (h : Tt V0 V w) : ∃ V', tw_isShut V = some (b2i (pShut w), V') ∧ Tt V0 V' w := by
  obtain ⟨rfl, hg, h3⟩ := h
  obtain ⟨g, e2⟩ := tw_isShut_eq (V := V) hg.1
  refine ⟨_, e2, rowV_ne (by omega), hg, fun d h1 h24 h25 h26 => ?_⟩
  rw [rowV_ne h26]; exact h3 d h1 h24 h25 h26
theorem tw_saves_eq (V : g_V) : tw_saves V = some (rowV V 2 (fun i => if i < 810 then V 1 i else V 2 i)) := by
  have hr := lp_run (F := tw_saves_F2) (N := 810) (st := fun i => (nI i, rowV V 2 (fun j => if j < i then V 1 j else V 2 j))) (out := rowV V 2 (fun j => if j < 810 then V 1 j else V 2 j)) ?_ ?_ 1000 0 (by omega) (by omega)
  · simp only [Nat.not_lt_zero, if_false, nI_0] at hr
    rw [show rowV V 2 (fun c => V 2 c) = V from rowV_self V 2] at hr
    unfold tw_saves tw_saves_L2
    rw [hr, bnd_S]
  · intro rec i hi
    have q2 : upd (fun c => if c < i then V 1 c else V 2 c) i (V 1 i) = fun c => if c < i + 1 then V 1 c else V 2 c := upd_pre (f := fun c => V 1 c) rfl
    unfold tw_saves_F2
    simp (disch := omega) only [tw_saves_B2, L_add, L_addR, L_mul, L_mulR, L_div, N_div, N_rem, L_sub, L_subN, nI_add, nI_mul, L_le, L_leR, L_lt, L_ltR, L_eq, N_leT, N_leF, N_ltT, N_ltF, N_eqT, N_eqF, N_m1, bnd_S, un2_S, un3_S, nmI_S, nmL_S, ptI_S, cs2_L, cs2_R, okI_b, okI_1, okI_0, rdI_in, wrI_in, rdI_L, wrI_L, rdL_in, wrL_in, if_true, if_false, upd2_row, rowV_eq, rowV_ne, rowV_over, rowV_swap, upd_eq, upd_ne, upd_over, Nat.zero_add, q2]
  · intro rec
    unfold tw_saves_F2
    simp (disch := omega) only [tw_saves_B2, L_add, L_addR, L_mul, L_mulR, L_div, N_div, N_rem, L_sub, L_subN, nI_add, nI_mul, L_le, L_leR, L_lt, L_ltR, L_eq, N_leT, N_leF, N_ltT, N_ltF, N_eqT, N_eqF, N_m1, bnd_S, un2_S, un3_S, nmI_S, nmL_S, ptI_S, cs2_L, cs2_R, okI_b, okI_1, okI_0, rdI_in, wrI_in, rdI_L, wrI_L, rdL_in, wrL_in, if_true, if_false]
theorem tw_putsBack_eq (V : g_V) : tw_putsBack V = some (rowV V 1 (fun i => if i < 810 then V 2 i else V 1 i)) := by
  have hr := lp_run (F := tw_putsBack_F2) (N := 810) (st := fun i => (nI i, rowV V 1 (fun j => if j < i then V 2 j else V 1 j))) (out := rowV V 1 (fun j => if j < 810 then V 2 j else V 1 j)) ?_ ?_ 1000 0 (by omega) (by omega)
  · simp only [Nat.not_lt_zero, if_false, nI_0] at hr
    rw [show rowV V 1 (fun c => V 1 c) = V from rowV_self V 1] at hr
    unfold tw_putsBack tw_putsBack_L2
    rw [hr, bnd_S]
  · intro rec i hi
    have q2 : upd (fun c => if c < i then V 2 c else V 1 c) i (V 2 i) = fun c => if c < i + 1 then V 2 c else V 1 c := upd_pre (f := fun c => V 2 c) rfl
    unfold tw_putsBack_F2
    simp (disch := omega) only [tw_putsBack_B2, L_add, L_addR, L_mul, L_mulR, L_div, N_div, N_rem, L_sub, L_subN, nI_add, nI_mul, L_le, L_leR, L_lt, L_ltR, L_eq, N_leT, N_leF, N_ltT, N_ltF, N_eqT, N_eqF, N_m1, bnd_S, un2_S, un3_S, nmI_S, nmL_S, ptI_S, cs2_L, cs2_R, okI_b, okI_1, okI_0, rdI_in, wrI_in, rdI_L, wrI_L, rdL_in, wrL_in, if_true, if_false, upd2_row, rowV_eq, rowV_ne, rowV_over, rowV_swap, upd_eq, upd_ne, upd_over, Nat.zero_add, q2]
  · intro rec
    unfold tw_putsBack_F2
    simp (disch := omega) only [tw_putsBack_B2, L_add, L_addR, L_mul, L_mulR, L_div, N_div, N_rem, L_sub, L_subN, nI_add, nI_mul, L_le, L_leR, L_lt, L_ltR, L_eq, N_leT, N_leF, N_ltT, N_ltF, N_eqT, N_eqF, N_m1, bnd_S, un2_S, un3_S, nmI_S, nmL_S, ptI_S, cs2_L, cs2_R, okI_b, okI_1, okI_0, rdI_in, wrI_in, rdI_L, wrI_L, rdL_in, wrL_in, if_true, if_false]
/-- the field that is tried on changed, or was made anew -/
theorem GG_tri (h : GG (Sh, V, L, n) x ρ m u mt q V2 L2) (hn : n ≤ n') (hz : ∀ a, a < n → ρ a ≠ 3 → Sh' a = Sh a ∧ V' a = V a) (h0 : mt' 0 = mt 0) (hT : Tri Sh' V' n' (fun a => if n ≤ a ∧ a < n' then 3 else ρ a) mt') (ht : TwK V2 V2') (h1 : ∀ j, j < 810 → V2' 1 j = V2 1 j) : GG (Sh', V', L, n') x (fun a => if n ≤ a ∧ a < n' then 3 else ρ a) m u mt' q V2' L2 := by
  obtain ⟨hF, -, hM, hN, hS, hI, hO⟩ := h
  simp only [zSh_T, zV_T, zL_T, zn_T] at hM hN hS hO
  have hO' := hO
  obtain ⟨o1, o2, o3, o4, o5, o6, o7⟩ := hO'
  have lt : ∀ a, ρ a ≠ 0 → a < n := o1
  have re : ∀ a, ρ a ≠ 0 → (if n ≤ a ∧ a < n' then 3 else ρ a) = ρ a := fun a ha => if_neg (by have := lt a ha; omega)
  have zz : ∀ a, ρ a ≠ 0 → ρ a ≠ 3 → Sh' a = Sh a ∧ V' a = V a := fun a ha h3 => hz a (lt a ha) h3
  refine ⟨Fld_w (Fld_k hF (by omega) (fun a ha => ⟨(zz a (by omega) (by omega)).1, re a (by omega)⟩) (fun a ha _ _ _ => (zz a (by omega) (by omega)).2)) h1, hT, ?_, GN_k hN ⟨(zz _ (by omega) (by omega)).1, (zz _ (by omega) (by omega)).1⟩ ⟨(zz _ (by omega) (by omega)).2, (zz _ (by omega) (by omega)).2, (zz _ (by omega) (by omega)).2⟩ ht, GS_k hS hO (fun a ha => ⟨(zz a (by omega) (by omega)).1, re a (by omega), (zz a (by omega) (by omega)).2, rfl⟩) ⟨ht.2.2.2.2.1, ht.2.2.2.2.2.1⟩, GI_k hI hO (fun a ha => ⟨(zz a (by omega) (by omega)).1, re a (by omega), (zz a (by omega) (by omega)).2⟩) ⟨ht.1, ht.2.1⟩, ?_⟩
  · show GM Sh' x (m 0) (mt' 0) q
    unfold GM
    rw [(zz x (by omega) (by omega)).1, h0]
    exact hM
  · refine ⟨fun a ha => ?_, ?_, ?_, ?_, ?_, ?_, fun s hs => ?_⟩
    · by_cases hc : n ≤ a ∧ a < n'
      · exact hc.2
      · have ha : (if n ≤ a ∧ a < n' then 3 else ρ a) ≠ 0 := ha
        rw [if_neg hc] at ha
        exact Nat.lt_of_lt_of_le (lt a ha) hn
    · exact (re x (by omega)).trans o2
    · exact (re _ (by omega)).trans o3
    · exact (re _ (by omega)).trans o4
    · exact (re _ (by omega)).trans o5
    · exact (re _ (by omega)).trans o6
    · have := o7 s hs
      exact (re _ (by omega)).trans this
theorem FR_FX (h : FR (Sh, V, L, n) m u (fun a => ρ a = 1) w) (hg : pGood w) (hl : ∀ i, (i < 13 + pNp w ∨ (31 ≤ i ∧ i < 31 + pNh w)) → m i < n) : FX Sh V n m (u 0) (pNp w) (pNh w) := by
  obtain ⟨⟨⟨f0, fa, -⟩, fi, -⟩, fs, -, fl, -⟩ := h
  simp only [zSh_T, zV_T, zL_T, zn_T] at f0 fa fs fl
  exact ⟨f0, fa, fs, fi, hl, by rw [fl.1]; exact hg.2.1.1, by rw [fl.2]; exact hg.2.2.1.1, hg.2.1.2.1, hg.2.2.1.2.1⟩
/-- the field that is tried on becomes as the field is -/
theorem x_try {gp : Nat → Nat} (h : GG (Sh, V, L, n) x ρ m u mt q V2 L2) : ∃ Sh' V' n' ρ' mt', cm_X1_becomes gp (Sh, V, L, n) (mt 0) (m 0) = some (Sh', V', L, n') ∧ GG (Sh', V', L, n') x ρ' m u mt' q V2 L2 ∧ mt' 0 = mt 0 ∧ Tc Sh' V' L n' ρ' mt' u V' (V2 1) := by
  have hO := h.2.2.2.2.2.2
  obtain ⟨o1, o2, o3, o4, o5, o6, o7⟩ := hO
  have o1 : ∀ a, ρ a ≠ 0 → a < n := o1
  obtain ⟨t, np, nh, hX, ho⟩ := h.2.1
  simp only [zSh_T, zV_T, zL_T, zn_T] at hX
  obtain ⟨tp, th, hTL⟩ := h.1.2.2.1
  have hg := h.inv.1
  have hz : ∀ a, ρ a = 1 → a < n ∧ ∀ i, (i < 13 + np ∨ (31 ≤ i ∧ i < 31 + nh)) → a ≠ mt i := fun a ha => ⟨o1 a (by omega), fun i hi e => by have := ho i hi; rw [e] at ha; omega⟩
  obtain ⟨Sh', V', n', m', e1, e2, e3, e4, e5, e6, e7⟩ := cm_becomes_eq (gp := gp) hX h.fr hTL hz (fun i hi => o1 _ (by rw [h.ow hi]; omega)) (fun i j hi hj e => by have a1 := ho i hi; have a2 := h.ow hj; rw [e] at a1; omega) h.inv.2.1 hg.2.1 hg.2.2.1 hg.bnd h.inv.2.2.2.1 (by
    have : V (u 0) 6 = V2 1 5 := TS_far h.ts
    rw [this]
    exact h.inv.2.2.2.2.1.symm)
  have fo : ∀ i, (i < 13 + pNp (V2 1) ∨ (31 ≤ i ∧ i < 31 + pNh (V2 1))) → (if n ≤ m' i ∧ m' i < n' then 3 else ρ (m' i)) = 3 := by
    intro i hi
    by_cases h11 : i < 11
    · rw [e3 i h11, if_neg (by have := hX.2.2.2.2.1 i (by omega); omega)]
      exact ho i (by omega)
    · rcases e7 i hi (by omega) with ⟨h13, h14⟩ | h13
      · rw [h14, if_neg (by have := hX.2.2.2.2.1 i (by omega); omega)]
        exact ho i (by omega)
      · rw [if_pos ⟨h13, e5 i hi⟩]
  have r1 : ∀ a, ρ a = 1 → (if n ≤ a ∧ a < n' then 3 else ρ a) = 1 := fun a ha => by rw [if_neg (by have := o1 a (by omega); omega)]; exact ha
  have hFR : FR (Sh', V', L, n') m' u (fun a => (if n ≤ a ∧ a < n' then 3 else ρ a) = 1) (V2 1) := FR_k e2 (fun _ _ => rfl) (fun _ _ _ _ _ => rfl) (fun _ _ => ⟨rfl, rfl⟩) r1 (fun i hi => by rw [fo i hi]; omega)
  refine ⟨Sh', V', n', fun a => if n ≤ a ∧ a < n' then 3 else ρ a, m', e1, GG_tri h e4 (fun a ha h3 => e6 a ha (fun i hi e => h3 (by rw [e]; exact ho i hi))) (e3 0 (by omega)) ⟨u 0, _, _, FR_FX (ρ := fun a => if n ≤ a ∧ a < n' then 3 else ρ a) hFR hg e5, fo⟩ TwK_rf (fun _ _ => rfl), e3 0 (by omega), hFR, hg, fun _ _ => rfl, fo⟩
/-- back from a trial -/
theorem GG_end (h : GG (Sh, V, L, n) x ρ m u mt q V2 L2) (hT : Tc Sh V L n ρ mt u V' w) (ht : TwK V2 V2') (h1 : ∀ j, j < 810 → V2' 1 j = V2 1 j) : GG (Sh, V', L, n) x ρ m u mt q V2' L2 := by
  obtain ⟨t1, t2, t3, t4⟩ := hT
  have o1 := h.2.2.2.2.2.2.1
  have er : (fun a => if n ≤ a ∧ a < n then 3 else ρ a) = ρ := by funext a; exact if_neg (by omega)
  have := GG_tri (mt' := mt) h (Nat.le_refl n) (fun a _ h3 => ⟨rfl, t3 a h3⟩) rfl (by rw [er]; exact ⟨u 0, _, _, FR_FX t1 t2 (fun i hi => o1 _ (by rw [t4 i hi]; omega)), t4⟩) ht h1
  rw [er] at this
  exact this
end TR
