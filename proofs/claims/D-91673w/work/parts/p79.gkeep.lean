/-! PURE: keep: an image is made or made anew -/
set_option maxRecDepth 100000
section KP
variable {Sh Sh' : g_Sh} {V V' V0 : g_V} {L L' : g_L} {n n' x : Nat} {m u mt q ρ ρ' mk uk : Nat → Nat} {V2 V2' : g_V} {L2 : g_L} {w : Nat → Int32} {gp : Nat → Nat} {k : Nat}
theorem GG_im {el' : Nat → Option Nat} (h : GG (Sh, V, L, n) x ρ m u mt q V2 L2) (hk : k < 3) (hn : n ≤ n') (hz : ∀ a, a < n → ρ a ≠ 4 + k → a ≠ q 2 → Sh' a = Sh a ∧ V' a = V a) (hr : ∀ a, ρ a ≠ 0 → ρ' a = ρ a) (hl : ∀ a, ρ' a ≠ 0 → a < n') (hS : Sh' (q 2) = some (d_ref 9 3 el')) (hel : ∀ el, Sh (q 2) = some (d_ref 9 3 el) → ∀ j, j < 3 → j ≠ k → el' j = el j) (hF : Fld (Sh', V', L, n') ρ' (4 + k) mk uk w) (he : el' k = some (mk 0)) (t1 : V2' 1 = V2 1) (t5 : V2' 5 = V2 5 ∧ V2' 33 = V2 33 ∧ V2' 36 = V2 36 ∧ V2' 37 = V2 37 ∧ V2' 0 = V2 0) (t4 : V2' 4 k = 1) (t4' : ∀ j, j < 3 → j ≠ k → V2' 4 j = V2 4 j) (t3 : ∀ i, i < 810 → V2' 3 (810 * k + i) = w i) (t3' : ∀ j, j < 3 → j ≠ k → ∀ i, i < 810 → V2' 3 (810 * j + i) = V2 3 (810 * j + i)) : GG (Sh', V', L, n') x ρ' m u mt q V2' L2 := by
  obtain ⟨hFn, hT, hM, hN, hSl, ⟨el, i1, i2⟩, hO⟩ := h
  simp only [zSh_T, zV_T, zL_T, zn_T] at hT hM hN hSl hO i1
  obtain ⟨o1, o2, o3, o4, o5, o6, o7⟩ := hO
  have zz : ∀ a, ρ a ≠ 0 → ρ a ≠ 4 + k → ρ a ≠ 9 → Sh' a = Sh a ∧ V' a = V a := fun a ha h3 h9 => hz a (o1 a ha) h3 (fun e => h9 (by rw [e]; exact o4))
  have fk : ∀ {kk : Nat} {mm uu : Nat → Nat} {ww : Nat → Int32}, kk ≠ 0 → kk ≠ 1 → kk ≠ 4 + k → kk ≠ 9 → Fld (Sh, V, L, n) ρ kk mm uu ww → Fld (Sh', V', L, n') ρ' kk mm uu ww := fun h0 h1 h2 h9 hf => Fld_k hf h1 (fun a ha => ⟨(zz a (by omega) (by omega) (by omega)).1, hr a (by omega)⟩) (fun a ha _ _ _ => (zz a (by omega) (by omega) (by omega)).2)
  refine ⟨?_, Tri_k hT hn (fun a ha => ⟨(zz a (by omega) (by omega) (by omega)).1, (zz a (by omega) (by omega) (by omega)).2, hr a (by omega)⟩), ?_, ?_, ?_, ⟨el', hS, fun j hj => ?_⟩, hl, ?_, ?_, ?_, ?_, ?_, fun s hs => ?_⟩
  · rw [t1]; exact fk (by omega) (by omega) (by omega) (by omega) hFn
  · show GM Sh' x (m 0) (mt 0) q
    unfold GM
    rw [(zz x (by omega) (by omega) (by omega)).1]
    exact hM
  · show GN Sh' V' x q V2'
    unfold GN
    rw [(zz (q 3) (by omega) (by omega) (by omega)).1, (zz (q 3) (by omega) (by omega) (by omega)).2, (zz (q 4) (by omega) (by omega) (by omega)).1, (zz (q 4) (by omega) (by omega) (by omega)).2, (zz x (by omega) (by omega) (by omega)).2, t5.1, t5.2.1, t5.2.2.2.2]
    exact hN
  · obtain ⟨⟨e1, s1, s2⟩, s3⟩ := hSl
    refine ⟨⟨e1, by show Sh' (q 1) = _; rw [(zz (q 1) (by omega) (by omega) (by omega)).1]; exact s1, s2⟩, fun s hs => ?_⟩
    have := o7 s hs
    exact SlR_k (s3 s hs) (zz _ (by omega) (by omega) (by omega)).1 (fun b hb => ⟨(zz b (by omega) (by omega) (by omega)).1, (zz b (by omega) (by omega) (by omega)).2, rfl, hr b (by omega)⟩) (by rw [t5.2.2.1]) (by rw [t5.2.2.2.1])
  · by_cases e : j = k
    · subst e
      exact Or.inr ⟨t4, mk, uk, he, Fld_w hF t3⟩
    · rw [hel el i1 j hj e]
      rcases i2 j hj with ⟨j1, j2⟩ | ⟨j1, mj, uj, j2, j3⟩
      · exact Or.inl ⟨by rw [t4' j hj e]; exact j1, j2⟩
      · exact Or.inr ⟨by rw [t4' j hj e]; exact j1, mj, uj, j2, Fld_w (fk (by omega) (by omega) (by omega) (by omega) j3) (t3' j hj e)⟩
  · rw [hr x (by omega)]; exact o2
  · rw [hr _ (by omega)]; exact o3
  · rw [hr _ (by omega)]; exact o4
  · rw [hr _ (by omega)]; exact o5
  · rw [hr _ (by omega)]; exact o6
  · have := o7 s hs
    rw [hr _ (by omega)]; exact this
theorem tw_keep_loop (hk : k < 3) : tw_keep_L17 (nI k) 1000 0 V2 = some (rowV V2 3 (fun i => if 810 * k ≤ i ∧ i < 810 * k + 810 then V2 1 (i - 810 * k) else V2 3 i)) := by
  have hr := lp_run (F := tw_keep_F17 (nI k)) (N := 810) (st := fun i => (nI i, rowV V2 3 (fun j => if 810 * k ≤ j ∧ j < 810 * k + i then V2 1 (j - 810 * k) else V2 3 j))) (out := rowV V2 3 (fun i => if 810 * k ≤ i ∧ i < 810 * k + 810 then V2 1 (i - 810 * k) else V2 3 i)) ?_ ?_ 1000 0 (by omega) (by omega)
  · have e0 : (fun j => if 810 * k ≤ j ∧ j < 810 * k + 0 then V2 1 (j - 810 * k) else V2 3 j) = V2 3 := by funext j; exact if_neg (by omega)
    rw [e0, rowV_self, nI_0] at hr
    exact hr
  · intro rec i hi
    have q2 : upd (fun j => if 810 * k ≤ j ∧ j < 810 * k + i then V2 1 (j - 810 * k) else V2 3 j) (810 * k + i) (V2 1 i) = fun j => if 810 * k ≤ j ∧ j < 810 * k + (i + 1) then V2 1 (j - 810 * k) else V2 3 j := by
      funext j
      by_cases e : j = 810 * k + i
      · subst e
        rw [upd_eq, if_pos (by omega), show 810 * k + i - 810 * k = i by omega]
      · rw [upd_ne e]
        by_cases c : 810 * k ≤ j ∧ j < 810 * k + i
        · rw [if_pos c, if_pos (by omega)]
        · rw [if_neg c, if_neg (by omega)]
    unfold tw_keep_F17
    simp (disch := omega) only [tw_keep_B17, rowV_ne, rowV_eq, L_add, L_addR, L_mul, L_mulR, L_div, N_div, N_rem, L_sub, L_subN, nI_add, nI_mul, L_le, L_leR, L_lt, L_ltR, L_eq, N_leT, N_leF, N_ltT, N_ltF, N_eqT, N_eqF, N_m1, bnd_S, un2_S, un3_S, nmI_S, nmL_S, ptI_S, cs2_L, cs2_R, okI_b, okI_1, okI_0, rdI_in, wrI_in, rdI_L, wrI_L, rdL_in, wrL_in, if_true, if_false, upd2_row, rowV_over, q2]
  · intro rec
    unfold tw_keep_F17
    simp (disch := omega) only [tw_keep_B17, L_add, L_addR, L_mul, L_mulR, L_div, N_div, N_rem, L_sub, L_subN, nI_add, nI_mul, L_le, L_leR, L_lt, L_ltR, L_eq, N_leT, N_leF, N_ltT, N_ltF, N_eqT, N_eqF, N_m1, bnd_S, un2_S, un3_S, nmI_S, nmL_S, ptI_S, cs2_L, cs2_R, okI_b, okI_1, okI_0, rdI_in, wrI_in, rdI_L, wrI_L, rdL_in, wrL_in, if_true, if_false]
/-- an image that stands already -/
theorem x_keep1 (h : GG (Sh, V, L, n) x ρ m u mt q V2 L2) (hk : k < 3) {el : Nat → Option Nat} (hS : Sh (q 2) = some (d_ref 9 3 el)) {t np nh : Nat} (he : el k = some (mk 0)) (hX : FX Sh V n mk t np nh) (ho : ∀ i, (i < 13 + np ∨ (31 ≤ i ∧ i < 31 + nh)) → ρ (mk i) = 4 + k) : ∃ Z', cm_X0_keep_J44 gp x (nI k) (Sh, V, L, n) = some (0, Z') ∧ G Z' x (rowV (rowV V2 3 (fun i => if 810 * k ≤ i ∧ i < 810 * k + 810 then V2 1 (i - 810 * k) else V2 3 i)) 4 (upd (V2 4) k 1)) L2 := by
  have hM : GM Sh x (m 0) (mt 0) q := h.gm
  have o1 : ∀ a, ρ a ≠ 0 → a < n := h.2.2.2.2.2.2.1
  have o4 : ρ (q 2) = 9 := h.2.2.2.2.2.2.2.2.2.1
  obtain ⟨Sh', V', n', m', e1, e2, e3, e4, e5⟩ := Fld_become (gp := gp) o1 hX ho h.1 (by omega) (by omega) (by omega) (by omega)
  have hF0 : FS0 Sh mk t := hX.1
  unfold cm_X0_keep_J44
  simp (disch := omega) only [zSh_T, zV_T, zL_T, zn_T, x_img hM, caR_eq hS, x_now hM, he, nn_eq, f_KT hF0, e1, bnd_S]
  have hq2 := e4 (q 2) (o1 _ (by omega)) (by omega)
  refine ⟨_, rfl, GG.g (GG_im (ρ' := fun a => if n ≤ a ∧ a < n' then 4 + k else ρ a) (el' := el) h hk e2 (fun a ha h1 _ => e4 a ha h1) (fun a ha => if_neg (by have := o1 a ha; omega)) (fun a ha => ?_) (by rw [hq2.1]; exact hS) (fun el2 hel2 j _ _ => ?_) e5 (by rw [he, e3]) ?_ ⟨?_, ?_, ?_, ?_, ?_⟩ ?_ (fun j hj hjk => ?_) (fun i hi => ?_) (fun j hj hjk i hi => ?_))⟩
  · by_cases hc : n ≤ a ∧ a < n'
    · exact hc.2
    · have ha : (if n ≤ a ∧ a < n' then 4 + k else ρ a) ≠ 0 := ha
      rw [if_neg hc] at ha
      exact Nat.lt_of_lt_of_le (o1 a ha) e2
  · rw [hS] at hel2
    have h2 : (Sum.inr (Sum.inr (Sum.inl (9, 3, el))) : g_D) = Sum.inr (Sum.inr (Sum.inl (9, 3, el2))) := Option.some.inj hel2
    have h3 : el = el2 := by injection h2 with h2; injection h2 with h2; injection h2 with h2; injection h2 with _ h2; injection h2
    rw [h3]
  · simp (disch := omega) only [rowV_ne]
  · simp (disch := omega) only [rowV_ne]
  · simp (disch := omega) only [rowV_ne]
  · simp (disch := omega) only [rowV_ne]
  · simp (disch := omega) only [rowV_ne]
  · simp (disch := omega) only [rowV_ne]
  · rw [rowV_eq, upd_eq]
  · rw [rowV_eq, upd_ne hjk]
  · rw [rowV_ne (by omega), rowV_eq, if_pos (by omega), show 810 * k + i - 810 * k = i by omega]
  · rw [rowV_ne (by omega), rowV_eq, if_neg (by omega)]
end KP
