/-! PURE: the reference: what comes to a cell -/
set_option maxRecDepth 100000
section TC
variable {V : g_V} {c : Nat}
theorem tw_leadOf_q (hk : pKok (V 1)) (hc : c < 144) : tw_leadOf V (nI c) = some (pLead (V 1) c) := by
  rw [tw_leadOf_eq hk hc]
  rfl
abbrev s124 (V : g_V) (q : (Nat → Int32) × (Nat → Int32)) : g_V := rowV (rowV V 1 q.1) 24 q.2
theorem tw_comesBeside_eq (hk : pKok (V 1)) (hc : c < 144) : tw_comesBeside V (nI c) = some (s124 V (upd (V 1) 15 (V 1 15 + sRim (V 1) c), upd (V 24) c (V 24 c + sIn (V 1) c))) := by
  have h := lp_itrI (F := tw_comesBeside_F2 (nI c)) (N := 4) (mk := fun (q : (Nat → Int32) × (Nat → Int32)) i => (nI i, s124 V q)) (f := fun i q => (upd q.1 15 (q.1 15 + qRim q.1 c i), upd q.2 c (q.2 c + qIn q.1 c i))) (out := s124 V) (fun _ q => pKok q.1) (n := 1000) (a := (V 1, V 24)) ?_ ?_ (by omega) hk
  · have e : s124 V (V 1, V 24) = V := by
      unfold s124
      rw [rowV_self, rowV_self]
    simp only [e, nI_0] at h
    unfold tw_comesBeside tw_comesBeside_L2
    rw [h.1, bnd_S]
    simp (disch := omega) only [itr, upd_eq, upd_over, qIn_u, qRim_u]
    simp only [sIn, sRim, Int32.add_assoc]
  · intro rec i q hi hq
    refine ⟨?_, pKok_u (by omega) hq⟩
    obtain ⟨w, h⟩ := q
    simp only at hq
    have e1 : (s124 V (w, h)) 1 = w := by unfold s124; rw [rowV_ne (by omega), rowV_eq]
    have hk1 : pKok ((s124 V (w, h)) 1) := by rw [e1]; exact hq
    have e2 : (s124 V (w, h)) 24 = h := by unfold s124; rw [rowV_eq]
    unfold tw_comesBeside_F2
    simp (disch := omega) only [tw_comesBeside_B2, L_add, L_addR, L_mul, L_mulR, L_div, N_div, N_rem, L_sub, L_subN, nI_add, nI_mul, L_le, L_leR, L_lt, L_ltR, L_eq, N_leT, N_leF, N_ltT, N_ltF, N_eqT, N_eqF, N_m1, bnd_S, un2_S, un3_S, nmI_S, nmL_S, ptI_S, cs2_L, cs2_R, okI_b, okI_1, okI_0, rdI_in, wrI_in, rdI_L, wrI_L, rdL_in, wrL_in, if_true, if_false, tw_beside_eq hc hi]
    cases hb : pBes c i with
    | none =>
      simp (disch := omega) only [oI0, if_true, L_add, L_addR, L_mul, L_mulR, L_div, N_div, N_rem, L_sub, L_subN, nI_add, nI_mul, L_le, L_leR, L_lt, L_ltR, L_eq, N_leT, N_leF, N_ltT, N_ltF, N_eqT, N_eqF, N_m1, bnd_S, un2_S, un3_S, nmI_S, nmL_S, ptI_S, cs2_L, cs2_R, okI_b, okI_1, okI_0, rdI_in, wrI_in, rdI_L, wrI_L, rdL_in, wrL_in, if_true, if_false, tw_leadOf_q hk1 hc, e1, e2]
      simp (disch := omega) only [s124, upd2_row, rowV_eq, rowV_ne, rowV_over, rowV_swap, upd_eq, upd_ne, upd_over, Nat.zero_add, qRim, qIn, hb, qOut]
    | some d =>
      have hd := pBes_lt hc hb
      simp (disch := omega) only [oI0, N_m1, if_false, L_add, L_addR, L_mul, L_mulR, L_div, N_div, N_rem, L_sub, L_subN, nI_add, nI_mul, L_le, L_leR, L_lt, L_ltR, L_eq, N_leT, N_leF, N_ltT, N_ltF, N_eqT, N_eqF, N_m1, bnd_S, un2_S, un3_S, nmI_S, nmL_S, ptI_S, cs2_L, cs2_R, okI_b, okI_1, okI_0, rdI_in, wrI_in, rdI_L, wrI_L, rdL_in, wrL_in, if_true, if_false, tw_isDug_eq hd, tw_leadOf_q hk1 hc, tw_leadOf_q hk1 hd, e1, e2, b2iF]
      simp (disch := omega) only [s124, upd2_row, rowV_eq, rowV_ne, rowV_over, rowV_swap, upd_eq, upd_ne, upd_over, Nat.zero_add, qRim, qIn, hb, qOut, Int32.add_zero, upd_self]
      cases hdg : pDug w d
      · simp [iMin]
      · simp [upd_self]
  · intro rec q hq
    unfold tw_comesBeside_F2
    simp (disch := omega) only [tw_comesBeside_B2, L_add, L_addR, L_mul, L_mulR, L_div, N_div, N_rem, L_sub, L_subN, nI_add, nI_mul, L_le, L_leR, L_lt, L_ltR, L_eq, N_leT, N_leF, N_ltT, N_ltF, N_eqT, N_eqF, N_m1, bnd_S, un2_S, un3_S, nmI_S, nmL_S, ptI_S, cs2_L, cs2_R, okI_b, okI_1, okI_0, rdI_in, wrI_in, rdI_L, wrI_L, rdL_in, wrL_in, if_true, if_false]
theorem tw_streams_eq (hk : pKok (V 1)) (hc : c < 144) : tw_streams V (nI c) = some (s124 V (upd (V 1) 16 (V 1 16 + pStr (V 1) c), upd (V 24) c (V 24 c + pStr (V 1) c))) := by
  have e : V = s124 V (upd (V 1) 16 (V 1 16), upd (V 24) c (V 24 c)) := by
    unfold s124
    simp only [upd_self, rowV_self]
  have hb1 : tw_beside (nI c) 1 = some (oI0 (pBes c 1)) := tw_beside_eq (k := 1) hc (by omega)
  unfold tw_streams
  simp (disch := omega) only [L_add, L_addR, L_mul, L_mulR, L_div, N_div, N_rem, L_sub, L_subN, nI_add, nI_mul, L_le, L_leR, L_lt, L_ltR, L_eq, N_leT, N_leF, N_ltT, N_ltF, N_eqT, N_eqF, N_m1, bnd_S, un2_S, un3_S, nmI_S, nmL_S, ptI_S, cs2_L, cs2_R, okI_b, okI_1, okI_0, rdI_in, wrI_in, rdI_L, wrI_L, rdL_in, wrL_in, if_true, if_false, tw_isFrozen_eq hk hc, b2iF]
  unfold pStr
  by_cases h1 : V 1 (36 + c / 12) = 0
  · simp only [h1, if_true, true_or, Int32.add_zero]
    exact congrArg some e
  · cases h2 : pFro (V 1) c
    · simp only [h1, if_false, if_true, false_or, Bool.false_eq_true]
      rw [hb1, bnd_S]
      cases hb : pBes c 1 with
      | none =>
        simp (disch := omega) only [oI0, if_true, tw_streams_J54, tw_streams_J78, L_add, L_addR, L_mul, L_mulR, L_div, N_div, N_rem, L_sub, L_subN, nI_add, nI_mul, L_le, L_leR, L_lt, L_ltR, L_eq, N_leT, N_leF, N_ltT, N_ltF, N_eqT, N_eqF, N_m1, bnd_S, un2_S, un3_S, nmI_S, nmL_S, ptI_S, cs2_L, cs2_R, okI_b, okI_1, okI_0, rdI_in, wrI_in, rdI_L, wrI_L, rdL_in, wrL_in, if_true, if_false]
        simp (disch := omega) only [s124, upd2_row, rowV_eq, rowV_ne, rowV_over, rowV_swap, upd_eq, upd_ne, upd_over, Nat.zero_add]
      | some d =>
        have hd := pBes_lt hc hb
        simp (disch := omega) only [oI0, N_m1, if_false, L_add, L_addR, L_mul, L_mulR, L_div, N_div, N_rem, L_sub, L_subN, nI_add, nI_mul, L_le, L_leR, L_lt, L_ltR, L_eq, N_leT, N_leF, N_ltT, N_ltF, N_eqT, N_eqF, N_m1, bnd_S, un2_S, un3_S, nmI_S, nmL_S, ptI_S, cs2_L, cs2_R, okI_b, okI_1, okI_0, rdI_in, wrI_in, rdI_L, wrI_L, rdL_in, wrL_in, if_true, if_false, tw_isDug_eq hd, tw_isFrozen_eq hk hd, b2iF]
        cases h3 : pFro (V 1) d
        · cases h4 : pDug (V 1) d
          · simp (disch := omega) only [if_true, tw_streams_J54, tw_streams_J78, L_add, L_addR, L_mul, L_mulR, L_div, N_div, N_rem, L_sub, L_subN, nI_add, nI_mul, L_le, L_leR, L_lt, L_ltR, L_eq, N_leT, N_leF, N_ltT, N_ltF, N_eqT, N_eqF, N_m1, bnd_S, un2_S, un3_S, nmI_S, nmL_S, ptI_S, cs2_L, cs2_R, okI_b, okI_1, okI_0, rdI_in, wrI_in, rdI_L, wrI_L, rdL_in, wrL_in, if_true, if_false]
            simp (disch := omega) [s124, upd2_row, rowV_eq, rowV_ne, rowV_over, rowV_swap, upd_eq, upd_ne, upd_over, Nat.zero_add]
          · simp
            exact e
        · simp
          exact e
    · simp [h1]
      exact e
end TC
