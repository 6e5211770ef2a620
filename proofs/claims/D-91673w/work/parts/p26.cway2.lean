/-! PURE: the component: the fewest cells of a way, found -/
set_option maxRecDepth 100000
section W2
variable {Sh : g_Sh} {V : g_V} {L : g_L} {n : Nat} {m u : Nat → Nat} {Fz : Nat → Prop} {np nh : Nat} {w : Nat → Int32}
def RW9 (to : Nat) (A B : Nat → Int32) (fo : Nat → Option Nat) (qf : Nat → Nat) : Prop := (∀ j, j < 144 → A j = oI0 (fo j)) ∧ ∀ k, k < to → B k = nI (qf k)
/-- while the sides of the cell at fr are looked at -/
def WIn (w : Nat → Int32) (fr c v i to : Nat) (A B : Nat → Int32) (fo : Nat → Option Nat) (qf : Nat → Nat) : Prop := RW9 to A B fo qf ∧ BQ (bO w) (pBss w) fr to fo qf ∧ fr < to ∧ qf fr = c ∧ fo c = some v ∧ (∀ k v', k < to → fo (qf k) = some v' → v' ≤ v + 1) ∧ ∀ i' d, i' < i → pBes c (sw i') = some d → bO w d = some 1 → ∃ v', fo d = some v' ∧ v' ≤ v + 1
theorem sw_sw {k : Nat} (h : k < 4) : sw (sw k) = k := by
  have h4 : k = 0 ∨ k = 1 ∨ k = 2 ∨ k = 3 := by omega
  rcases h4 with rfl | rfl | rfl | rfl <;> rfl
theorem cm_way_in (h : FM (Sh, V, L, n) m u Fz np nh w) {fr c v to : Nat} {x1 : Int32} {A B : Nat → Int32} {fo : Nat → Option Nat} {qf : Nat → Nat} (hc : c < 144) (hv : v ≤ 1000) (hI : WIn w fr c v 0 to A B fo qf) :
    ∃ to' A' B' fo' qf', cm_X1_way_L105 (m 0) x1 (nI c) 1000 (nI to) 0 (st9 Sh V L n m A B) = some (nI to', st9 Sh V L n m A' B') ∧ WIn w fr c v 4 to' A' B' fo' qf' := by
  have hm := h.2.1
  have hr := lp_rel (F := cm_X1_way_F105 (m 0) x1 (nI c)) (N := 4) (P := fun out => ∃ to' A' B' fo' qf', out = (nI to', st9 Sh V L n m A' B') ∧ WIn w fr c v 4 to' A' B' fo' qf') (fun i q => q.2.1 = nI i ∧ ∃ to A B fo qf, q.1 = nI to ∧ q.2.2 = st9 Sh V L n m A B ∧ WIn w fr c v i to A B fo qf) ?_ ?_ 1000 0 (nI to, 0, st9 Sh V L n m A B) (by omega) (by omega) ⟨nI_0.symm, to, A, B, fo, qf, rfl, rfl, hI⟩
  · obtain ⟨out, h1, to', A', B', fo', qf', rfl, h2⟩ := hr
    exact ⟨to', A', B', fo', qf', h1, h2⟩
  · intro i q hi hq
    obtain ⟨x2, x3, Z'⟩ := q
    obtain ⟨e3, to, A, B, fo, qf, e2, eZ, ⟨w1, w2⟩, w3, w4, w5, w6, w7, w8⟩ := hq
    simp only at e3 e2 eZ
    subst e3 e2 eZ
    have hto : to ≤ 144 := by rw [w3.1]; exact cnt_le _
    have hMA := FM_st9 h A B
    have hF : FS0 Sh m (u 0) := h.1.1
    have hA : FSa Sh m := h.1.2.1
    have hT : TS Sh (rowV (rowV V (m 9) A) (m 10) B) Fz u w := hMA.1.2.2.1
    have keep : (∀ d, pBes c (sw i) = some d → bO w d = some 1 → ∃ v', fo d = some v' ∧ v' ≤ v + 1) → WIn w fr c v (i + 1) to A B fo qf := by
      intro hk
      refine ⟨⟨w1, w2⟩, w3, w4, w5, w6, w7, fun i' d hi' hd hb => ?_⟩
      by_cases hii : i' = i
      · subst hii; exact hk d hd hb
      · exact w8 i' d (by omega) hd hb
    cases hb : pBes c (sw i) with
    | none =>
      refine ⟨(nI to, nI (i + 1), st9 Sh V L n m A B), fun rec => ?_, rfl, to, A, B, fo, qf, rfl, rfl, keep (fun d hd => by rw [hb] at hd; cases hd)⟩
      unfold cm_X1_way_F105
      simp (disch := omega) only [cm_X1_way_B105, L_add, L_addR, L_mul, L_mulR, L_div, N_div, N_rem, L_sub, L_subN, nI_add, nI_mul, L_le, L_leR, L_lt, L_ltR, L_eq, N_leT, N_leF, N_ltT, N_ltF, N_eqT, N_eqF, N_m1, bnd_S, un2_S, un3_S, nmI_S, nmL_S, ptI_S, cs2_L, cs2_R, okI_b, okI_1, okI_0, rdI_in, wrI_in, rdI_L, wrI_L, rdL_in, wrL_in, if_true, if_false, cm_beside_eq hc hi, hb, oI0_N, m1m1]
    | some d =>
      have hd := pBes_lt hc hb
      have hsh : cm_X2_isShaft (st9 Sh V L n m A B) (u 0) (nI d) = some (b2i (pShf w d)) := cm_isShaft_eq hT hd
      have hfr : cm_X1_isFrozen (st9 Sh V L n m A B) (m 0) (nI d) = some (b2i (pFro w d)) := cm_isFrozen_eq hMA.1 hd
      have stay : (bO w d = some 1 → ∃ v', fo d = some v' ∧ v' ≤ v + 1) → (∀ rec : Int32 × Int32 × c_S → Option (Int32 × c_S), cm_X1_way_F105 (m 0) x1 (nI c) rec (nI to, nI i, st9 Sh V L n m A B) = rec (nI to, nI (i + 1), st9 Sh V L n m A B)) → ∃ s', (∀ rec : Int32 × Int32 × c_S → Option (Int32 × c_S), cm_X1_way_F105 (m 0) x1 (nI c) rec (nI to, nI i, st9 Sh V L n m A B) = rec s') ∧ (s'.2.1 = nI (i + 1) ∧ ∃ to A B fo qf, s'.1 = nI to ∧ s'.2.2 = st9 Sh V L n m A B ∧ WIn w fr c v (i + 1) to A B fo qf) := by
        intro hk hrec
        exact ⟨(nI to, nI (i + 1), st9 Sh V L n m A B), hrec, rfl, to, A, B, fo, qf, rfl, rfl, keep (fun d' hd' hb' => by rw [hb] at hd'; cases hd'; exact hk hb')⟩
      cases hf : fo d with
      | some v' =>
        have hv' : v' ≤ v + 1 := by
          obtain ⟨k, hk, hk2⟩ := w3.2.2.1 d v' hd hf
          exact w7 k v' hk (by rw [hk2]; exact hf)
        refine stay (fun _ => ⟨v', hf, hv'⟩) (fun rec => ?_)
        unfold cm_X1_way_F105
        simp (disch := omega) only [cm_X1_way_B105, zSh_T, zV_T, zL_T, zn_T, L_add, L_addR, L_mul, L_mulR, L_div, N_div, N_rem, L_sub, L_subN, nI_add, nI_mul, L_le, L_leR, L_lt, L_ltR, L_eq, N_leT, N_leF, N_ltT, N_ltF, N_eqT, N_eqF, N_m1, bnd_S, un2_S, un3_S, nmI_S, nmL_S, ptI_S, cs2_L, cs2_R, okI_b, okI_1, okI_0, rdI_in, wrI_in, rdI_L, wrI_L, rdL_in, wrL_in, if_true, if_false, cm_beside_eq hc hi, hb, oI0_S, f_far hF, caI_eq hA.2.2.2.2.2.2.1, rowM_ne hm, rowV_eq, w1 d hd, hf]
      | none =>
        cases hs1 : pShf w d with
        | true =>
          refine stay (fun hb' => by rw [((bO_iff w d).mp hb').1] at hs1; cases hs1) (fun rec => ?_)
          unfold cm_X1_way_F105
          simp (disch := omega) only [cm_X1_way_B105, zSh_T, zV_T, zL_T, zn_T, L_add, L_addR, L_mul, L_mulR, L_div, N_div, N_rem, L_sub, L_subN, nI_add, nI_mul, L_le, L_leR, L_lt, L_ltR, L_eq, N_leT, N_leF, N_ltT, N_ltF, N_eqT, N_eqF, N_m1, bnd_S, un2_S, un3_S, nmI_S, nmL_S, ptI_S, cs2_L, cs2_R, okI_b, okI_1, okI_0, rdI_in, wrI_in, rdI_L, wrI_L, rdL_in, wrL_in, if_true, if_false, cm_beside_eq hc hi, hb, oI0_S, oI0_N, m1m1, f_far hF, caI_eq hA.2.2.2.2.2.2.1, rowM_ne hm, rowV_eq, w1 d hd, hf, f_t hF, t_KT hT, hsh, hs1, b2iF, Bool.true_eq_false]
        | false =>
          cases hs2 : pFro w d with
          | true =>
            refine stay (fun hb' => by rw [((bO_iff w d).mp hb').2] at hs2; cases hs2) (fun rec => ?_)
            unfold cm_X1_way_F105
            simp (disch := omega) only [cm_X1_way_B105, zSh_T, zV_T, zL_T, zn_T, L_add, L_addR, L_mul, L_mulR, L_div, N_div, N_rem, L_sub, L_subN, nI_add, nI_mul, L_le, L_leR, L_lt, L_ltR, L_eq, N_leT, N_leF, N_ltT, N_ltF, N_eqT, N_eqF, N_m1, bnd_S, un2_S, un3_S, nmI_S, nmL_S, ptI_S, cs2_L, cs2_R, okI_b, okI_1, okI_0, rdI_in, wrI_in, rdI_L, wrI_L, rdL_in, wrL_in, if_true, if_false, cm_beside_eq hc hi, hb, oI0_S, oI0_N, m1m1, f_far hF, caI_eq hA.2.2.2.2.2.2.1, rowM_ne hm, rowV_eq, w1 d hd, hf, f_t hF, t_KT hT, hsh, hs1, b2iF, f_KT hF, hfr, hs2, Bool.true_eq_false]
          | false =>
            have hbO := (bO_iff w d).mpr ⟨hs1, hs2⟩
            obtain ⟨q1, q2, q3, q4⟩ := BQ_mark w3 w4 w5 w6 w7 (sw_lt hi) hb hf hbO
            refine ⟨(nI (to + 1), nI (i + 1), st9 Sh V L n m (upd A d (nI (v + 1))) (upd B to (nI d))), fun rec => ?_, rfl, to + 1, _, _, _, _, rfl, rfl, ⟨fun j hj => ?_, fun k hk => ?_⟩, q1, by omega, q2, q3, q4, fun i' d' hi' hd' hb' => ?_⟩
            · unfold cm_X1_way_F105
              simp (disch := omega) only [cm_X1_way_B105, zSh_T, zV_T, zL_T, zn_T, L_add, L_addR, L_mul, L_mulR, L_div, N_div, N_rem, L_sub, L_subN, nI_add, nI_mul, L_le, L_leR, L_lt, L_ltR, L_eq, N_leT, N_leF, N_ltT, N_ltF, N_eqT, N_eqF, N_m1, bnd_S, un2_S, un3_S, nmI_S, nmL_S, ptI_S, cs2_L, cs2_R, okI_b, okI_1, okI_0, rdI_in, wrI_in, rdI_L, wrI_L, rdL_in, wrL_in, if_true, if_false, cm_beside_eq hc hi, hb, oI0_S, oI0_N, m1m1, f_far hF, f_que hF, caI_eq hA.2.2.2.2.2.2.1, zsI_T hA.2.2.2.2.2.2.1, zsI_T hA.2.2.2.2.2.2.2, rowM_ne hm, rowV_eq, w1 d hd, w1 c hc, hf, w6, f_t hF, t_KT hT, hsh, hs1, b2iF, f_KT hF, hfr, hs2]
              simp (disch := omega) only [upd2_row, rowV_eq, rowM_ne hm, rowV_over, rowM_swap hm, upd_eq, upd_ne, upd_over, Nat.zero_add]
            · by_cases hjd : j = d
              · subst hjd
                rw [upd_eq]
                unfold updO
                rw [if_pos rfl]
                rfl
              · rw [upd_ne hjd]
                unfold updO
                rw [if_neg hjd]
                exact w1 j hj
            · unfold updN
              by_cases hkt : k = to
              · rw [if_pos hkt, hkt, upd_eq]
              · rw [if_neg hkt, upd_ne hkt]; exact w2 k (by omega)
            · by_cases hdd : d' = d
              · exact ⟨v + 1, by unfold updO; rw [if_pos hdd], Nat.le_refl _⟩
              · by_cases hii : i' = i
                · subst hii; rw [hb] at hd'; cases hd'; exact absurd rfl hdd
                · obtain ⟨v', h8, h9⟩ := w8 i' d' (by omega) hd' hb'
                  exact ⟨v', by unfold updO; rw [if_neg hdd]; exact h8, h9⟩
  · intro q hq
    obtain ⟨x2, x3, Z'⟩ := q
    obtain ⟨e3, to, A, B, fo, qf, e2, eZ, hw⟩ := hq
    simp only at e3 e2 eZ
    subst e3 e2 eZ
    refine ⟨_, fun rec => ?_, to, A, B, fo, qf, rfl, hw⟩
    unfold cm_X1_way_F105
    simp (disch := omega) only [cm_X1_way_B105, L_add, L_addR, L_mul, L_mulR, L_div, N_div, N_rem, L_sub, L_subN, nI_add, nI_mul, L_le, L_leR, L_lt, L_ltR, L_eq, N_leT, N_leF, N_ltT, N_ltF, N_eqT, N_eqF, N_m1, bnd_S, un2_S, un3_S, nmI_S, nmL_S, ptI_S, cs2_L, cs2_R, okI_b, okI_1, okI_0, rdI_in, wrI_in, rdI_L, wrI_L, rdL_in, wrL_in, if_true, if_false]
/-- between cells -/
def WOut (w : Nat → Int32) (fr to : Nat) (A B : Nat → Int32) (fo : Nat → Option Nat) (qf : Nat → Nat) : Prop := RW9 to A B fo qf ∧ BQ (bO w) (pBss w) fr to fo qf ∧ fr ≤ to ∧ ∀ k k' v v', fr ≤ k → k < to → k' < to → fo (qf k) = some v → fo (qf k') = some v' → v' ≤ v + 1
/-- values are at most the number of what is queued -/
theorem cm_way_all (h : FM (Sh, V, L, n) m u Fz np nh w) {to : Nat} {A B : Nat → Int32} {fo : Nat → Option Nat} {qf : Nat → Nat} (hO : WOut w 0 to A B fo qf) (hv0 : ∀ c v, fo c = some v → v ≤ 1) :
    ∃ out A' B', cm_X1_way_L73 (m 0) 1000 0 (nI to) (st9 Sh V L n m A B) = some out ∧ ((out = .inl (st9 Sh V L n m A' B') ∧ isL (bO w) (pBss w) none) ∨ ∃ c v, c < 144 ∧ v ≤ 1000 ∧ A' c = nI v ∧ out = .inr (nI c, st9 Sh V L n m A' B') ∧ isL (bO w) (pBss w) (some v)) := by
  have hm := h.2.1
  have hF : FS0 Sh m (u 0) := h.1.1
  have hA : FSa Sh m := h.1.2.1
  have hr := lp_wf (F := cm_X1_way_F73 (m 0)) (I := fun q => ∃ fr to A B fo qf, q = (nI fr, nI to, st9 Sh V L n m A B) ∧ WOut w fr to A B fo qf ∧ ∀ c v, c < 144 → fo c = some v → v ≤ fr + 1)
    (P := fun out => ∃ A' B', (out = .inl (st9 Sh V L n m A' B') ∧ isL (bO w) (pBss w) none) ∨ ∃ c v, c < 144 ∧ v ≤ 1000 ∧ A' c = nI v ∧ out = .inr (nI c, st9 Sh V L n m A' B') ∧ isL (bO w) (pBss w) (some v))
    (fun q => 200 - q.1.toNatClampNeg) ?_ 1000 (0, nI to, st9 Sh V L n m A B) ⟨0, to, A, B, fo, qf, by rw [nI_0], hO, fun c v _ hcv => Nat.le_trans (hv0 c v hcv) (by omega)⟩ (by omega)
  · obtain ⟨out, h1, A', B', h2⟩ := hr
    exact ⟨out, A', B', h1, h2⟩
  · intro rec q hq
    obtain ⟨fr, to, A, B, fo, qf, rfl, ⟨⟨w1, w2⟩, w3, w4, w5⟩, w6⟩ := hq
    have hto : to ≤ 144 := by rw [w3.1]; exact cnt_le _
    unfold cm_X1_way_F73
    by_cases hft : to ≤ fr
    · left
      have e : fr = to := by omega
      subst e
      refine ⟨.inl (st9 Sh V L n m A B), ?_, A, B, Or.inl ⟨rfl, BQ_none w3 (bO_1 w)⟩⟩
      simp (disch := omega) only [cm_X1_way_B73, L_add, L_addR, L_mul, L_mulR, L_div, N_div, N_rem, L_sub, L_subN, nI_add, nI_mul, L_le, L_leR, L_lt, L_ltR, L_eq, N_leT, N_leF, N_ltT, N_ltF, N_eqT, N_eqF, N_m1, bnd_S, un2_S, un3_S, nmI_S, nmL_S, ptI_S, cs2_L, cs2_R, okI_b, okI_1, okI_0, rdI_in, wrI_in, rdI_L, wrI_L, rdL_in, wrL_in, if_true, if_false]
    · obtain ⟨hc, v, hv⟩ := w3.2.1 fr (by omega)
      have hv9 := w6 _ v hc hv
      have b1 := w2 fr (by omega)
      cases hri : pRim (qf fr)
      · right
        have hin : WIn w fr (qf fr) v 0 to A B fo qf := ⟨⟨w1, w2⟩, w3, by omega, rfl, hv, fun k v' hk hkv => w5 fr k v v' (Nat.le_refl _) (by omega) hk hv hkv, fun i' d hi' => by omega⟩
        obtain ⟨to', A', B', fo', qf', h1, ⟨r1, r2⟩, h3, h4, h5, h6, h7, h8⟩ := cm_way_in (x1 := nI (fr + 1)) h hc (by omega) hin
        have hto' : to' ≤ 144 := by rw [h3.1]; exact cnt_le _
        refine ⟨(nI (fr + 1), nI to', st9 Sh V L n m A' B'), ?_, ⟨fr + 1, to', A', B', fo', qf', rfl, ⟨⟨r1, r2⟩, ?_, by omega, fun k k' v1 v2 hk hkt hk' hv1 hv2 => ?_⟩, fun c' v' hc' hcv => ?_⟩, ?_⟩
        · simp (disch := omega) only [cm_X1_way_B73, zSh_T, zV_T, zL_T, zn_T, L_add, L_addR, L_mul, L_mulR, L_div, N_div, N_rem, L_sub, L_subN, nI_add, nI_mul, L_le, L_leR, L_lt, L_ltR, L_eq, N_leT, N_leF, N_ltT, N_ltF, N_eqT, N_eqF, N_m1, bnd_S, un2_S, un3_S, nmI_S, nmL_S, ptI_S, cs2_L, cs2_R, okI_b, okI_1, okI_0, rdI_in, wrI_in, rdI_L, wrI_L, rdL_in, wrL_in, if_true, if_false, f_que hF, caI_eq hA.2.2.2.2.2.2.2, rowV_eq, b1, cm_isRim_eq hc, hri, b2iF]
          have h1' := h1
          unfold st9 at h1'
          rw [h1']
          rfl
        · obtain ⟨g1, g2, g3, g4, g5, g6, g7⟩ := h3
          refine ⟨g1, g2, g3, g4, g5, g6, fun k hk => ?_⟩
          by_cases hkf : k = fr
          · subst hkf
            rw [h5]
            refine ⟨hri, fun v1 hv1 i d hi hd hb => ?_⟩
            rw [h6] at hv1
            cases hv1
            exact h8 (sw i) d (sw_lt hi) (by rw [sw_sw hi]; exact hd) hb
          · exact g7 k (by omega)
        · have a1 := h7 k' v2 hk' hv2
          have a2 := h3.2.2.2.2.1 fr k v v1 (by omega) hkt (by rw [h5]; exact h6) hv1
          omega
        · obtain ⟨k, hk, hk2⟩ := h3.2.2.1 c' v' hc' hcv
          have := h7 k v' hk (by rw [hk2]; exact hcv)
          omega
        · show 200 - (nI (fr + 1)).toNatClampNeg < 200 - (nI fr).toNatClampNeg
          rw [nI_clamp (by omega), nI_clamp (by omega)]
          omega
      · left
        refine ⟨.inr (nI (qf fr), st9 Sh V L n m A B), ?_, A, B, Or.inr ⟨qf fr, v, hc, by omega, by rw [w1 _ hc, hv]; rfl, rfl, BQ_rim w3 (bO_1 w) (by omega) hv hri⟩⟩
        simp (disch := omega) only [cm_X1_way_B73, zSh_T, zV_T, zL_T, zn_T, L_add, L_addR, L_mul, L_mulR, L_div, N_div, N_rem, L_sub, L_subN, nI_add, nI_mul, L_le, L_leR, L_lt, L_ltR, L_eq, N_leT, N_leF, N_ltT, N_ltF, N_eqT, N_eqF, N_m1, bnd_S, un2_S, un3_S, nmI_S, nmL_S, ptI_S, cs2_L, cs2_R, okI_b, okI_1, okI_0, rdI_in, wrI_in, rdI_L, wrI_L, rdL_in, wrL_in, if_true, if_false, f_que hF, caI_eq hA.2.2.2.2.2.2.2, rowV_eq, b1, cm_isRim_eq hc, hri, b2iF, Bool.true_eq_false]
theorem cm_way_eq (h : FM (Sh, V, L, n) m u Fz np nh w) : ∃ A B, cm_X1_way (Sh, V, L, n) (m 0) = some (oI0 (pWayO w), st9 Sh V L n m A B) := by
  have hm := h.2.1
  have hF : FS0 Sh m (u 0) := h.1.1
  have hA : FSa Sh m := h.1.2.1
  obtain ⟨to, A, B, qf, h1, h2⟩ := cm_way_1 h
  have hBQ := W1_BQ h2
  have hv1 : ∀ c v, fo0 w 144 c = some v → v = 1 := by
    intro c v hc
    unfold fo0 at hc
    split at hc
    · cases hc; rfl
    · cases hc
  have hO : WOut w 0 to A B (fo0 w 144) qf := ⟨⟨h2.1, h2.2.1⟩, hBQ, by omega, fun k k' v v' _ _ _ hv hv' => by rw [hv1 _ v hv, hv1 _ v' hv']; omega⟩
  obtain ⟨out, A', B', h3, h4⟩ := cm_way_all h hO (fun c v hc => by rw [hv1 c v hc]; exact Nat.le_refl 1)
  unfold cm_X1_way
  rw [h1, bnd_S, un2_S, h3, bnd_S]
  rcases h4 with ⟨rfl, hL⟩ | ⟨c, v, hc, hv, hAc, rfl, hL⟩
  · have e : pWayO w = none := pL_eq hL
    refine ⟨A', B', ?_⟩
    rw [e]
    rfl
  · have e : pWayO w = some v := pL_eq hL
    refine ⟨A', B', ?_⟩
    rw [e]
    simp (disch := omega) only [cs2_R, un2_S, zSh_T, zV_T, zL_T, zn_T, f_far hF, caI_eq hA.2.2.2.2.2.2.1, rowM_ne hm, rowV_eq, hAc]
    rfl
theorem cm_isShut_eq (h : FM (Sh, V, L, n) m u Fz np nh w) (hw : ∀ v, pWayO w = some v → v < 2 ^ 31) : ∃ A B, cm_X1_isShut (Sh, V, L, n) (m 0) = some (b2i (pShut w), st9 Sh V L n m A B) := by
  obtain ⟨A, B, h1⟩ := cm_way_eq h
  have hF : FS0 Sh m (u 0) := h.1.1
  refine ⟨A, B, ?_⟩
  unfold cm_X1_isShut
  rw [f_KT hF, h1, bnd_S, un2_S]
  unfold pShut
  cases hwo : pWayO w with
  | none => simp only [oI0_N, m1m1, if_true]; rfl
  | some v =>
    have := hw v hwo
    simp (disch := omega) only [oI0_S, N_m1, if_false]; rfl
end W2
