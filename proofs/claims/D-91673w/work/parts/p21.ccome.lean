/-! PURE: the component: what comes to a cell -/
set_option maxRecDepth 100000
section RMs
variable {V : g_V} {m : Nat → Nat} {np nh i j k : Nat} {f g : Nat → Int32}
theorem inj.ne (hm : inj m np nh) (hi : i < 13 + np ∨ (31 ≤ i ∧ i < 31 + nh)) (hj : j < 13 + np ∨ (31 ≤ j ∧ j < 31 + nh)) (h : i ≠ j) : m i ≠ m j := fun z => h (hm i j hi hj z)
theorem rowM_ne (hm : inj m np nh) (hi : i < 13 + np ∨ (31 ≤ i ∧ i < 31 + nh)) (hj : j < 13 + np ∨ (31 ≤ j ∧ j < 31 + nh)) (h : i ≠ j) : rowV V (m j) f (m i) = V (m i) := rowV_ne (hm.ne hi hj h)
theorem rowM_swap (hm : inj m np nh) (hk : k < 13 + np ∨ (31 ≤ k ∧ k < 31 + nh)) (hj : j < 13 + np ∨ (31 ≤ j ∧ j < 31 + nh)) (h : k < j) : rowV (rowV V (m j) f) (m k) g = rowV (rowV V (m (0 + k)) g) (m j) f := by
  have hn : m k ≠ m j := hm.ne hk hj (by omega)
  rw [Nat.zero_add]
  funext i
  unfold rowV
  by_cases h1 : i = m k
  · subst h1; simp [hn]
  · by_cases h2 : i = m j
    · subst h2; simp [Ne.symm hn]
    · simp [h1, h2]
end RMs
theorem TS_mono {Sh Sh' : g_Sh} {V V' : g_V} {Fz : Nat → Prop} {u : Nat → Nat} {w : Nat → Int32} (h : TS Sh V Fz u w) (hS : ∀ a, Fz a → Sh' a = Sh a) (hV : ∀ a, Fz a → V' a = V a) : TS Sh' V' Fz u w := by
  obtain ⟨h0, h1, h2, h3, h4, h5, h6, h7, h8, h9, hz⟩ := h
  have s : ∀ i, i < 8 → Sh' (u i) = Sh (u i) := fun i hi => hS _ (hz i hi)
  have v : ∀ i, i < 8 → V' (u i) = V (u i) := fun i hi => hV _ (hz i hi)
  unfold TS
  rw [s 0 (by omega), s 1 (by omega), s 2 (by omega), s 3 (by omega), v 0 (by omega), v 2 (by omega), v 3 (by omega)]
  refine ⟨h0, h1, h2, h3, fun g hg => ?_, h5, h6, h7, h8, h9, hz⟩
  rw [s (4 + g) (by omega), v (4 + g) (by omega)]
  exact h4 g hg
/-- what is told of a row stands in these places alone -/
theorem TS_w {Sh : g_Sh} {V : g_V} {Fz : Nat → Prop} {u : Nat → Nat} {w w' : Nat → Int32} (h : TS Sh V Fz u w) (hw : ∀ j, (j = 0 ∨ j = 5 ∨ (7 ≤ j ∧ j < 12) ∨ (20 ≤ j ∧ j < 192)) → w' j = w j) : TS Sh V Fz u w' := by
  obtain ⟨h0, h1, h2, h3, h4, h5, h6, h7, h8, h9, hz⟩ := h
  refine ⟨h0, h1, h2, h3, fun g hg => ⟨(h4 g hg).1, fun i hi => ?_⟩, fun c hc => ?_, fun y hy => ?_, ?_, ?_, ?_, hz⟩
  · rw [hw _ (by omega)]; exact (h4 g hg).2 i hi
  · rw [hw _ (by omega)]; exact h5 c hc
  · rw [hw _ (by omega)]; exact h6 y hy
  · rw [hw _ (by omega)]; exact h7
  · rw [hw _ (by omega)]; exact h8
  · rw [hw 7 (by omega), hw 8 (by omega), hw 9 (by omega), hw 10 (by omega), hw 11 (by omega)]; exact h9
/-- a field that may be changed -/
def FM (Z : c_S) (m u : Nat → Nat) (Fz : Nat → Prop) (np nh : Nat) (w : Nat → Int32) : Prop := RD Z m u Fz w ∧ inj m np nh ∧ ∀ i, (i < 13 + np ∨ (31 ≤ i ∧ i < 31 + nh)) → ¬ Fz (m i)
section FMs
variable {Sh : g_Sh} {V : g_V} {L : g_L} {n : Nat} {m u : Nat → Nat} {Fz : Nat → Prop} {np nh i : Nat} {w : Nat → Int32} {f : Nat → Int32}
theorem FM_row (h : FM ⟨Sh, V, L, n⟩ m u Fz np nh w) (hi : i < 13 + np ∨ (31 ≤ i ∧ i < 31 + nh)) (h1 : i ≠ 1) (h2 : i ≠ 2) (h4 : i ≠ 4) : FM ⟨Sh, rowV V (m i) f, L, n⟩ m u Fz np nh w := by
  obtain ⟨⟨hF, hA, hT, hV, hk⟩, hm, hz⟩ := h
  refine ⟨⟨hF, hA, TS_mono hT (fun _ _ => rfl) (fun a ha => rowV_ne (fun e => hz i hi (e ▸ ha))), fun c hc => ?_, hk⟩, hm, hz⟩
  show rowV V (m i) f (m 1) c = _ ∧ rowV V (m i) f (m 2) c = _ ∧ rowV V (m i) f (m 4) c = _ ∧ _
  rw [rowM_ne hm (by omega) hi (Ne.symm h1), rowM_ne hm (by omega) hi (Ne.symm h2), rowM_ne hm (by omega) hi (Ne.symm h4)]
  exact hV c hc
end FMs
section TU
variable {ρ : Type} {Sh : g_Sh} {V : g_V} {L : g_L} {n : Nat} {m u : Nat → Nat} {Fz : Nat → Prop} {w : Nat → Int32} {t : Nat}
theorem zSh_T : c_S.Sh (Sh, V, L, n) = Sh := rfl
theorem zV_T : c_S.V (Sh, V, L, n) = V := rfl
theorem zL_T : c_S.L (Sh, V, L, n) = L := rfl
theorem zn_T : c_S.n (Sh, V, L, n) = n := rfl
theorem zPI_T {a ci N i : Nat} {x : Int32} {rf : Nat → Option (Option Nat)} {k : c_S → Option ρ} (h : Sh a = some (d_obj ci N rf)) (h2 : rf i = none) : zPI (Sh, V, L, n) a ci N i x k = k (Sh, upd2 V a i x, L, n) := zPI_eq (Z := (Sh, V, L, n)) h h2
theorem zK_T {a ci N : Nat} {rf : Nat → Option (Option Nat)} {k : Option ρ} (h : Sh a = some (d_obj ci N rf)) : zK (Sh, V, L, n) a ci N k = k := zK_eq (Z := (Sh, V, L, n)) h
theorem zsI_T {a t q j : Nat} {x : Int32} {k : c_S → Option ρ} (h : Sh a = some (d_int t q)) (hj : j < q) (hn : q < 2 ^ 31) : zsI (Sh, V, L, n) t a (nI j) x k = k (Sh, upd2 V a j x, L, n) := zsI_eq (Z := (Sh, V, L, n)) h hj hn
theorem f_pT (h : FS0 Sh m t) {i : Nat} (hi : 9 ≤ i) (hi2 : i ≤ 17) {x : Int32} {k : c_S → Option ρ} : zPI (Sh, V, L, n) (m 0) 1 20 i x k = k (Sh, upd2 V (m 0) i x, L, n) := f_pI (Z := (Sh, V, L, n)) h hi hi2
theorem f_KT (h : FS0 Sh m t) {k : Option ρ} : zK (Sh, V, L, n) (m 0) 1 20 k = k := f_K (Z := (Sh, V, L, n)) h
theorem t_KT {V' : g_V} (h : TS Sh V' Fz u w) {k : Option ρ} : zK (Sh, V, L, n) (u 0) 2 13 k = k := t_K (Z := (Sh, V, L, n)) h
end TU
abbrev st2 (Sh : g_Sh) (V : g_V) (L : g_L) (n : Nat) (m : Nat → Nat) (q : (Nat → Int32) × (Nat → Int32)) : c_S := (Sh, rowV (rowV V (m 0) q.1) (m 3) q.2, L, n)
section CM
variable {m u : Nat → Nat} {Fz : Nat → Prop} {np nh : Nat} {w : Nat → Int32} {Z : c_S} {c : Nat} {Sh : g_Sh} {V : g_V} {L : g_L} {n : Nat}
theorem FM_st2 (h : FM (Sh, V, L, n) m u Fz np nh w) (q : (Nat → Int32) × (Nat → Int32)) : FM (st2 Sh V L n m q) m u Fz np nh w := FM_row (FM_row h (by omega) (by omega) (by omega) (by omega)) (by omega) (by omega) (by omega) (by omega)
theorem st2_self : st2 Sh V L n m (V (m 0), V (m 3)) = (Sh, V, L, n) := by
  unfold st2
  rw [rowV_self, rowV_self]
theorem sIn_sw (w : Nat → Int32) (c : Nat) : qIn w c (sw 0) + qIn w c (sw 1) + qIn w c (sw 2) + qIn w c (sw 3) = sIn w c := by
  show qIn w c 0 + qIn w c 1 + qIn w c 3 + qIn w c 2 = qIn w c 0 + qIn w c 1 + qIn w c 2 + qIn w c 3
  rw [Int32.add_assoc (qIn w c 0 + qIn w c 1), Int32.add_comm (qIn w c 3), ← Int32.add_assoc]
theorem sRim_sw (w : Nat → Int32) (c : Nat) : qRim w c (sw 0) + qRim w c (sw 1) + qRim w c (sw 2) + qRim w c (sw 3) = sRim w c := by
  show qRim w c 0 + qRim w c 1 + qRim w c 3 + qRim w c 2 = qRim w c 0 + qRim w c 1 + qRim w c 2 + qRim w c 3
  rw [Int32.add_assoc (qRim w c 0 + qRim w c 1), Int32.add_comm (qRim w c 3), ← Int32.add_assoc]
theorem TS_far (hT : TS Z.Sh Z.V Fz u w) : Z.V (u 0) 6 = w 5 := hT.2.2.2.2.2.2.2.1
theorem cm_leads_eq (h : FM (Sh, V, L, n) m u Fz np nh w) (hc : c < 144) : cm_X1_leads (Sh, V, L, n) (m 0) (nI c) = some (st2 Sh V L n m (upd (V (m 0)) 12 (V (m 0) 12 + sRim w c), upd (V (m 3)) c (V (m 3) c + sIn w c))) := by
  have hm := h.2.1
  have hh := lp_itr (F := cm_X1_leads_F2 (m 0) (nI c)) (N := 4) (mk := fun (q : (Nat → Int32) × (Nat → Int32)) i => (nI i, st2 Sh V L n m q)) (f := fun i q => (upd q.1 12 (q.1 12 + qRim w c (sw i)), upd q.2 c (q.2 c + qIn w c (sw i)))) (out := st2 Sh V L n m) (n := 1000) (a := (V (m 0), V (m 3))) ?_ ?_ (by omega)
  · rw [st2_self, nI_0] at hh
    unfold cm_X1_leads cm_X1_leads_L2
    rw [hh, bnd_S]
    simp only [itr, upd_eq, upd_over]
    rw [← sIn_sw, ← sRim_sw]
    simp only [Int32.add_assoc]
  · intro rec i q hi
    have hR := (FM_st2 h q).1
    have hF : FS0 Sh m (u 0) := hR.1
    have hA : FSa Sh m := hR.2.1
    have hT : TS Sh (rowV (rowV V (m 0) q.1) (m 3) q.2) Fz u w := hR.2.2.1
    have hV : VA (rowV (rowV V (m 0) q.1) (m 3) q.2) m w := hR.2.2.2.1
    have hf5 : rowV (rowV V (m 0) q.1) (m 3) q.2 (u 0) 6 = w 5 := TS_far (Z := st2 Sh V L n m q) hT
    have hdu : ∀ d, d < 144 → rowV (rowV V (m 0) q.1) (m 3) q.2 (m 4) d = b2i (pDug w d) := fun d hd => VA_dug (Z := st2 Sh V L n m q) hV hd
    unfold cm_X1_leads_F2
    simp (disch := omega) only [cm_X1_leads_B2, L_add, L_addR, L_mul, L_mulR, L_div, N_div, N_rem, L_sub, L_subN, nI_add, nI_mul, L_le, L_leR, L_lt, L_ltR, L_eq, N_leT, N_leF, N_ltT, N_ltF, N_eqT, N_eqF, N_m1, bnd_S, un2_S, un3_S, nmI_S, nmL_S, ptI_S, cs2_L, cs2_R, okI_b, okI_1, okI_0, rdI_in, wrI_in, rdI_L, wrI_L, rdL_in, wrL_in, if_true, if_false, cm_beside_eq hc hi]
    cases hb : pBes c (sw i) with
    | none =>
      simp (disch := omega) only [oI0_N, m1m1, if_true, L_add, L_addR, L_mul, L_mulR, L_div, N_div, N_rem, L_sub, L_subN, nI_add, nI_mul, L_le, L_leR, L_lt, L_ltR, L_eq, N_leT, N_leF, N_ltT, N_ltF, N_eqT, N_eqF, N_m1, bnd_S, un2_S, un3_S, nmI_S, nmL_S, ptI_S, cs2_L, cs2_R, okI_b, okI_1, okI_0, rdI_in, wrI_in, rdI_L, wrI_L, rdL_in, wrL_in, if_true, if_false, zSh_T, zV_T, zL_T, zn_T, f_t hF, t_I hT, f_A hF, caI_eq hA.1, f_KT hF, cm_leadOf_eq hR hc, caI_eq hA.2.2.1, zsI_T hA.2.2.1, f_I hF, f_pT hF, hf5, (hV c hc).1]
      simp (disch := omega) only [upd2_row, rowV_eq, rowM_ne hm, rowV_over, rowM_swap hm, upd_eq, upd_ne, upd_over, Nat.zero_add, qRim, qIn, hb, qOut]
    | some d =>
      have hd := pBes_lt hc hb
      simp (disch := omega) only [oI0_S, N_m1, if_false, L_add, L_addR, L_mul, L_mulR, L_div, N_div, N_rem, L_sub, L_subN, nI_add, nI_mul, L_le, L_leR, L_lt, L_ltR, L_eq, N_leT, N_leF, N_ltT, N_ltF, N_eqT, N_eqF, N_m1, bnd_S, un2_S, un3_S, nmI_S, nmL_S, ptI_S, cs2_L, cs2_R, okI_b, okI_1, okI_0, rdI_in, wrI_in, rdI_L, wrI_L, rdL_in, wrL_in, if_true, if_false, zSh_T, zV_T, zL_T, zn_T, f_A hF, caI_eq hA.1, caI_eq hA.2.2.2.1, hdu d hd, b2iF, f_KT hF, cm_leadOf_eq hR hc, cm_leadOf_eq hR hd, caI_eq hA.2.2.1, zsI_T hA.2.2.1, (hV c hc).1, (hV d hd).1]
      simp (disch := omega) only [upd2_row, rowV_eq, rowM_ne hm, rowV_over, rowM_swap hm, upd_eq, upd_ne, upd_over, Nat.zero_add, qRim, qIn, hb, qOut, Int32.add_zero, upd_self]
      cases hdg : pDug w d
      · simp [iMin]
      · simp [upd_self]
  · intro rec q
    unfold cm_X1_leads_F2
    simp (disch := omega) only [cm_X1_leads_B2, L_add, L_addR, L_mul, L_mulR, L_div, N_div, N_rem, L_sub, L_subN, nI_add, nI_mul, L_le, L_leR, L_lt, L_ltR, L_eq, N_leT, N_leF, N_ltT, N_ltF, N_eqT, N_eqF, N_m1, bnd_S, un2_S, un3_S, nmI_S, nmL_S, ptI_S, cs2_L, cs2_R, okI_b, okI_1, okI_0, rdI_in, wrI_in, rdI_L, wrI_L, rdL_in, wrL_in, if_true, if_false]
theorem TS_str (hT : TS Z.Sh Z.V Fz u w) {y : Nat} (hy : y < 12) : Z.V (u 3) y = w (36 + y) ∨ (Z.V (u 3) y = -1 ∧ w (36 + y) = 0) := hT.2.2.2.2.2.2.1 y hy
theorem mul0 (x : Int32) : x * 0 / 100 = 0 := by
  rw [Int32.mul_zero]
  decide
theorem cm_streams_eq (h : FM (Sh, V, L, n) m u Fz np nh w) (hn1 : ∀ y, y < 12 → ¬ w (36 + y) = -1) (hc : c < 144) : cm_X1_streams (Sh, V, L, n) (m 0) (nI c) = some (st2 Sh V L n m (upd (V (m 0)) 13 (V (m 0) 13 + pStr w c), upd (V (m 3)) c (V (m 3) c + pStr w c))) := by
  obtain ⟨hR, hm, hz⟩ := h
  have hR2 := hR
  obtain ⟨hF, hA, hT, hV, hk⟩ := hR2
  simp only [zSh_T, zV_T, zL_T, zn_T] at hF hA hT hV
  have hf5 : V (u 0) 6 = w 5 := TS_far (Z := (Sh, V, L, n)) hT
  have hdu : ∀ d, d < 144 → V (m 4) d = b2i (pDug w d) := fun d hd => VA_dug (Z := (Sh, V, L, n)) hV hd
  have hts : ∀ {y : Nat}, y < 12 → V (u 3) y = w (36 + y) ∨ (V (u 3) y = -1 ∧ w (36 + y) = 0) := fun hy => TS_str (Z := (Sh, V, L, n)) hT hy
  have e : (Sh, V, L, n) = st2 Sh V L n m (upd (V (m 0)) 13 (V (m 0) 13), upd (V (m 3)) c (V (m 3) c)) := by rw [upd_self, upd_self, st2_self]
  have hs3 : Sh (u 3) = some (d_int 0 12) := hT.2.2.2.1
  have hb1 : cm_X0_beside (nI c) 1 = some (oI0 (pBes c 1)) := cm_beside_eq (k := 1) hc (by omega)
  unfold cm_X1_streams
  simp (disch := omega) only [L_add, L_addR, L_mul, L_mulR, L_div, N_div, N_rem, L_sub, L_subN, nI_add, nI_mul, L_le, L_leR, L_lt, L_ltR, L_eq, N_leT, N_leF, N_ltT, N_ltF, N_eqT, N_eqF, N_m1, bnd_S, un2_S, un3_S, nmI_S, nmL_S, ptI_S, cs2_L, cs2_R, okI_b, okI_1, okI_0, rdI_in, wrI_in, rdI_L, wrI_L, rdL_in, wrL_in, if_true, if_false, zSh_T, zV_T, zL_T, zn_T, f_t hF, t_str hT, caI_eq hs3, f_KT hF, cm_isFrozen_eq hR hc, b2iF, hb1]
  have tail : ∀ z x, z = (if w (36 + c / 12) = 0 then (0 : Int32) else w (36 + c / 12)) → cm_X1_streams_J77 (m 0) (nI c) z x (Sh, V, L, n) = some (st2 Sh V L n m (upd (V (m 0)) 13 (V (m 0) 13 + (x - w (192 + c)) * w (36 + c / 12) / 100), upd (V (m 3)) c (V (m 3) c + (x - w (192 + c)) * w (36 + c / 12) / 100))) := by
    intro z x hz2
    have hz3 : z = w (36 + c / 12) := by
      rw [hz2]
      split
      · rename_i h9; rw [h9]
      · rfl
    subst hz3
    unfold cm_X1_streams_J77
    simp (disch := omega) only [bnd_S, un2_S, un3_S, nmI_S, nmL_S, ptI_S, cs2_L, cs2_R, okI_b, okI_1, okI_0, rdI_in, wrI_in, rdI_L, wrI_L, rdL_in, wrL_in, if_true, if_false, zSh_T, zV_T, zL_T, zn_T, f_A hF, caI_eq hA.1, caI_eq hA.2.2.1, zsI_T hA.2.2.1, (hV c hc).1, f_I hF, f_pT hF]
    simp (disch := omega) only [upd2_row, rowV_eq, rowM_ne hm, rowV_over, rowM_swap hm, upd_eq, upd_ne, upd_over, Nat.zero_add]
  by_cases hm1 : V (u 3) (c / 12) = -1
  · have hw0 : w (36 + c / 12) = 0 := by
      rcases hts (show c / 12 < 12 by omega) with h1 | ⟨-, h1⟩
      · rw [h1] at hm1
        exact absurd hm1 (hn1 _ (by omega))
      · exact h1
    simp only [hm1, if_true]
    unfold pStr
    simp only [hw0, true_or, if_true, Int32.add_zero]
    exact congrArg some e
  · have hw : V (u 3) (c / 12) = w (36 + c / 12) := by
      rcases hts (show c / 12 < 12 by omega) with h1 | ⟨h1, -⟩
      · exact h1
      · exact absurd h1 hm1
    rw [hw] at hm1
    simp only [hw, hm1, if_false]
    have hzz : w (36 + c / 12) = (if w (36 + c / 12) = 0 then (0 : Int32) else w (36 + c / 12)) := by
      split
      · rename_i h9; exact h9
      · rfl
    unfold pStr
    cases h2 : pFro w c
    · simp only [if_true, Bool.false_eq_true, or_false]
      cases hb : pBes c 1 with
      | none =>
        simp (disch := omega) only [oI0_N, m1m1, if_true, zSh_T, zV_T, zL_T, zn_T, cm_X1_streams_J56, f_t hF, t_I hT, hf5]
        rw [tail _ _ hzz]
        by_cases h0 : w (36 + c / 12) = 0
        · simp only [h0, if_true, mul0]
        · simp only [h0, if_false]
      | some d =>
        have hd := pBes_lt hc hb
        simp (disch := omega) only [oI0_S, N_m1, if_false, zSh_T, zV_T, zL_T, zn_T, cm_X1_streams_J56, f_A hF, caI_eq hA.2.2.2.1, hdu d hd, b2iF, f_KT hF, cm_isFrozen_eq hR hd, bnd_S, caI_eq hA.1, (hV d hd).1]
        cases h3 : pDug w d
        · cases h4 : pFro w d
          · simp only [if_true]
            rw [tail _ _ hzz]
            by_cases h0 : w (36 + c / 12) = 0
            · simp only [h0, if_true, mul0]
            · simp [h0]
          · simp [← e]
        · simp [← e]
    · simp [← e]
end CM
