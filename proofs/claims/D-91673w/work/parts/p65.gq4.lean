/-! PURE: more calls that ask: cell, count -/
set_option maxRecDepth 100000
theorem t_laid {ρ : Type} {Sh : g_Sh} {V : g_V} {Fz : Nat → Prop} {u : Nat → Nat} {w : Nat → Int32} (h : TS Sh V Fz u w) {k : Nat → Option ρ} : cA Sh (u 0) 2 13 1 k = k (u 2) := by obtain ⟨⟨rf, h1, -, h2, -⟩, -⟩ := h; exact cA_eq h1 h2
section Q4
variable {Sh : g_Sh} {V : g_V} {L : g_L} {n x : Nat} {m u mt q ρ : Nat → Nat} {V2 : g_V} {L2 : g_L}
theorem q_cell (h : GG (Sh, V, L, n) x ρ m u mt q V2 L2) (a b k : Int32) : AnQ (cm_X0_cell (Sh, V, L, n) x a b k) (tw_cell V2 a b k) := by
  have hM : GM Sh x (m 0) (mt 0) q := h.gm
  have hF : FS0 Sh m (u 0) := h.f0
  have hA : FSa Sh m := h.fa
  have hT : TS Sh V (fun a => ρ a = 1) u (V2 1) := h.ts
  have hV : VA V m (V2 1) := h.va
  have z1 : ¬ (1 : Int32) = 0 := by decide
  unfold cm_X0_cell tw_cell
  rcases in_pl a b with ⟨e1, e2⟩ | ⟨X, Y, hX, hY, rfl, rfl, e1, e2⟩
  · rw [e1, e2]; exact ⟨_, rfl, rfl⟩
  · have hc : 12 * Y + X < 144 := by omega
    have el := hT.2.2.2.2.2.1 _ hc
    have eA : Sh (u 2) = some (d_int 0 144) := hT.2.2.1
    have d1 : V (m 4) (12 * Y + X) = b2i (pDug (V2 1) (12 * Y + X)) := VA_dug (Z := (Sh, V, L, n)) hV hc
    have f1 := cm_isFrozen_eq h.rd hc
    have f2 := tw_isFrozen_eq (V := V2) h.kok hc
    have s1 : cm_X2_isShaft (Sh, V, L, n) (u 0) (nI (12 * Y + X)) = some (b2i (pShf (V2 1) (12 * Y + X))) := cm_isShaft_eq (Z := (Sh, V, L, n)) hT hc
    have s2 := tw_isShaft_eq (V := V2) hc
    obtain ⟨r, -, -, r1, r2⟩ := q_pipeAt h (nI (12 * Y + X))
    have v1 := (hV _ hc).1
    have v2 := (hV _ hc).2.1
    rw [e1, e2]
    simp (disch := omega) only [zSh_T, zV_T, zL_T, zn_T, L_add, L_addR, L_mul, L_mulR, L_div, N_div, N_rem, L_sub, L_subN, nI_add, nI_mul, L_le, L_leR, L_lt, L_ltR, L_eq, N_leT, N_leF, N_ltT, N_ltF, N_eqT, N_eqF, N_m1, bnd_S, un2_S, un3_S, nmI_S, nmL_S, ptI_S, cs2_L, cs2_R, okI_b, okI_1, okI_0, rdI_in, wrI_in, rdI_L, wrI_L, rdL_in, wrL_in, if_true, if_false, z1, x_K hM, x_now hM, f_t hF, f_A hF, f_KT hF, t_KT hT, t_laid hT, caI_eq eA, caI_eq hA.1, caI_eq hA.2.1, caI_eq hA.2.2.2.1, el, v1, v2, d1, b2iF, f1, f2, s1, s2, r1, r2, tw_isDug_eq hc]
    split
    · exact ⟨_, rfl, rfl⟩
    · split
      · exact ⟨_, rfl, rfl⟩
      · split
        · exact ⟨_, rfl, rfl⟩
        · split
          · cases pDug (V2 1) (12 * Y + X) with
            | false =>
              cases pFro (V2 1) (12 * Y + X) with
              | false => exact ⟨_, rfl, rfl⟩
              | true => exact ⟨_, rfl, rfl⟩
            | true => exact ⟨_, rfl, rfl⟩
          · split
            · exact ⟨_, rfl, rfl⟩
            · split
              · cases pShf (V2 1) (12 * Y + X) with
                | false => exact ⟨_, rfl, rfl⟩
                | true => exact ⟨_, rfl, rfl⟩
              · exact ⟨_, rfl, rfl⟩
theorem q_count (h : GG (Sh, V, L, n) x ρ m u mt q V2 L2) (a : Int32) : AnQ (cm_X0_count (Sh, V, L, n) x a) (tw_count V2 a) := by
  have hM : GM Sh x (m 0) (mt 0) q := h.gm
  have hF : FS0 Sh m (u 0) := h.f0
  have hA : FSa Sh m := h.fa
  have hT : TS Sh V (fun a => ρ a = 1) u (V2 1) := h.ts
  have hV : VA V m (V2 1) := h.va
  obtain ⟨i9, i10, i11, i12, i13, i14, i15, i16, i17⟩ := h.fr.2.2.1
  simp only [zSh_T, zV_T, zL_T, zn_T] at i9 i10 i16 i17
  obtain ⟨-, ⟨p1, p2, p3, p4⟩, -, hL, -, -, -⟩ := h.fr
  simp only [zSh_T, zV_T, zL_T, zn_T] at p1 p2 hL
  obtain ⟨nr, r1, r2, ⟨rf, r3, r4⟩, r5, r6, -⟩ := h.1.2.2.2.1
  simp only [zSh_T, zV_T, zL_T, zn_T] at r3 r5 r6
  obtain ⟨-, ⟨t, t1, t2, t3⟩, -⟩ := h.2.2.2.1
  simp only [zSh_T, zV_T, zL_T, zn_T] at t2
  have hfl := h.inv.2.2.2.1
  have e12 : V (u 0) 12 = V2 1 0 := hT.2.2.2.2.2.2.2.2.1
  have e6 : V (u 0) 6 = V2 1 5 := hT.2.2.2.2.2.2.2.1
  have c3 : ∀ z, z = (3 : Int32) → AnQ (cm_X0_count_L102 x (Sh, V, L, n) 1000 0 0) (tw_count_L91 z V2 1000 0 0) := by
    intro z hz
    refine AnQ_lp (N := 144) (by omega) (by omega) (fun i a hi => ?_) (fun a => ⟨fun rec => ?_, fun rec => ?_⟩)
    · have e1 := cm_isFrozen_eq h.rd hi
      have e2 := tw_isFrozen_eq (V := V2) h.kok hi
      refine ⟨if pFro (V2 1) i = false then a + 0 else a + 1, fun rec => ?_, fun rec => ?_⟩
      · unfold cm_X0_count_F102
        simp (disch := omega) only [cm_X0_count_B102, zSh_T, zV_T, zL_T, zn_T, L_leR, L_le, N_leF, N_leT, L_addR, bnd_S, un2_S, un3_S, nmI_S, nmL_S, ptI_S, cs2_L, cs2_R, okI_b, okI_1, okI_0, rdI_in, wrI_in, rdI_L, wrI_L, rdL_in, wrL_in, if_true, if_false, x_now hM, f_KT hF, e1, b2iF]
        split <;> rfl
      · unfold tw_count_F91
        simp (disch := omega) only [tw_count_B91, L_leR, L_le, N_leF, N_leT, L_addR, bnd_S, un2_S, un3_S, nmI_S, nmL_S, ptI_S, cs2_L, cs2_R, okI_b, okI_1, okI_0, rdI_in, wrI_in, rdI_L, wrI_L, rdL_in, wrL_in, if_true, if_false, e2, b2iF, hz]
        split <;> rfl
    · unfold cm_X0_count_F102
      simp (disch := omega) only [cm_X0_count_B102, L_add, L_addR, L_mul, L_mulR, L_div, N_div, N_rem, L_sub, L_subN, nI_add, nI_mul, L_le, L_leR, L_lt, L_ltR, L_eq, N_leT, N_leF, N_ltT, N_ltF, N_eqT, N_eqF, N_m1, bnd_S, un2_S, un3_S, nmI_S, nmL_S, ptI_S, cs2_L, cs2_R, okI_b, okI_1, okI_0, rdI_in, wrI_in, rdI_L, wrI_L, rdL_in, wrL_in, if_true, if_false]
    · unfold tw_count_F91
      simp (disch := omega) only [tw_count_B91, L_add, L_addR, L_mul, L_mulR, L_div, N_div, N_rem, L_sub, L_subN, nI_add, nI_mul, L_le, L_leR, L_lt, L_ltR, L_eq, N_leT, N_leF, N_ltT, N_ltF, N_eqT, N_eqF, N_m1, bnd_S, un2_S, un3_S, nmI_S, nmL_S, ptI_S, cs2_L, cs2_R, okI_b, okI_1, okI_0, rdI_in, wrI_in, rdI_L, wrI_L, rdL_in, wrL_in, if_true, if_false]
  have c4 : ∀ z, ¬ z = (3 : Int32) → AnQ (cm_X0_count_L138 x (Sh, V, L, n) 1000 0 0) (tw_count_L91 z V2 1000 0 0) := by
    intro z hz
    refine AnQ_lp (N := 144) (by omega) (by omega) (fun i a hi => ?_) (fun a => ⟨fun rec => ?_, fun rec => ?_⟩)
    · have e1 : V (m 4) i = b2i (pDug (V2 1) i) := VA_dug (Z := (Sh, V, L, n)) hV hi
      refine ⟨if pDug (V2 1) i = false then a + 0 else a + 1, fun rec => ?_, fun rec => ?_⟩
      · unfold cm_X0_count_F138
        simp (disch := omega) only [cm_X0_count_B138, zSh_T, zV_T, zL_T, zn_T, L_leR, L_le, N_leF, N_leT, L_addR, bnd_S, un2_S, un3_S, nmI_S, nmL_S, ptI_S, cs2_L, cs2_R, okI_b, okI_1, okI_0, rdI_in, wrI_in, rdI_L, wrI_L, rdL_in, wrL_in, if_true, if_false, x_now hM, f_A hF, caI_eq hA.2.2.2.1, e1, b2iF]
        split <;> rfl
      · unfold tw_count_F91
        simp (disch := omega) only [tw_count_B91, L_leR, L_le, N_leF, N_leT, L_addR, bnd_S, un2_S, un3_S, nmI_S, nmL_S, ptI_S, cs2_L, cs2_R, okI_b, okI_1, okI_0, rdI_in, wrI_in, rdI_L, wrI_L, rdL_in, wrL_in, if_true, if_false, tw_isDug_eq hi, b2iF, hz]
        split <;> rfl
    · unfold cm_X0_count_F138
      simp (disch := omega) only [cm_X0_count_B138, L_add, L_addR, L_mul, L_mulR, L_div, N_div, N_rem, L_sub, L_subN, nI_add, nI_mul, L_le, L_leR, L_lt, L_ltR, L_eq, N_leT, N_leF, N_ltT, N_ltF, N_eqT, N_eqF, N_m1, bnd_S, un2_S, un3_S, nmI_S, nmL_S, ptI_S, cs2_L, cs2_R, okI_b, okI_1, okI_0, rdI_in, wrI_in, rdI_L, wrI_L, rdL_in, wrL_in, if_true, if_false]
    · unfold tw_count_F91
      simp (disch := omega) only [tw_count_B91, L_add, L_addR, L_mul, L_mulR, L_div, N_div, N_rem, L_sub, L_subN, nI_add, nI_mul, L_le, L_leR, L_lt, L_ltR, L_eq, N_leT, N_leF, N_ltT, N_ltF, N_eqT, N_eqF, N_m1, bnd_S, un2_S, un3_S, nmI_S, nmL_S, ptI_S, cs2_L, cs2_R, okI_b, okI_1, okI_0, rdI_in, wrI_in, rdI_L, wrI_L, rdL_in, wrL_in, if_true, if_false]
  have c10 : AnQ (cm_X0_count_L233 x (Sh, V, L, n) 1000 0 0) (tw_count_L175 V2 1000 0 0) := by
    obtain ⟨⟨el, s1, s2⟩, s3⟩ := h.2.2.2.2.1
    simp only [zSh_T, zV_T, zL_T, zn_T] at s1 s3
    refine AnQ_lp (N := 4) (by omega) (by omega) (fun i a hi => ?_) (fun a => ⟨fun rec => ?_, fun rec => ?_⟩)
    · rcases s3 i hi with ⟨v1, rf, v2, v3⟩ | ⟨N, wd, b, rf, v0, v1, -, -, v2, v3, -⟩
      · have cr : ∀ (k : Option Nat → Option Int32), cR Sh (q (5 + i)) 7 1 0 k = k none := by
          intro k; unfold cR; simp only [v2, d_obj, and_self, if_true, v3]
        refine ⟨a + 0, fun rec => ?_, fun rec => ?_⟩
        · unfold cm_X0_count_F233
          simp (disch := omega) only [cm_X0_count_B233, zSh_T, zV_T, zL_T, zn_T, L_leR, L_le, N_leF, N_leT, L_addR, bnd_S, un2_S, un3_S, nmI_S, nmL_S, ptI_S, cs2_L, cs2_R, okI_b, okI_1, okI_0, rdI_in, wrI_in, rdI_L, wrI_L, rdL_in, wrL_in, if_true, if_false, x_sl hM, caR_eq s1, s2, nn_eq, cr, zNl]
        · unfold tw_count_F175
          simp (disch := omega) only [tw_count_B175, L_leR, L_le, N_leF, N_leT, L_addR, bnd_S, un2_S, un3_S, nmI_S, nmL_S, ptI_S, cs2_L, cs2_R, okI_b, okI_1, okI_0, rdI_in, wrI_in, rdI_L, wrI_L, rdL_in, wrL_in, if_true, if_false, v1]
      · have cr : ∀ (k : Option Nat → Option Int32), cR Sh (q (5 + i)) 7 1 0 k = k (some b) := by
          intro k; unfold cR; simp only [v2, d_obj, and_self, if_true, v3]
        refine ⟨a + 1, fun rec => ?_, fun rec => ?_⟩
        · unfold cm_X0_count_F233
          simp (disch := omega) only [cm_X0_count_B233, zSh_T, zV_T, zL_T, zn_T, L_leR, L_le, N_leF, N_leT, L_addR, bnd_S, un2_S, un3_S, nmI_S, nmL_S, ptI_S, cs2_L, cs2_R, okI_b, okI_1, okI_0, rdI_in, wrI_in, rdI_L, wrI_L, rdL_in, wrL_in, if_true, if_false, x_sl hM, caR_eq s1, s2, nn_eq, cr, zNl]
        · unfold tw_count_F175
          simp (disch := omega) only [tw_count_B175, L_leR, L_le, N_leF, N_leT, L_addR, bnd_S, un2_S, un3_S, nmI_S, nmL_S, ptI_S, cs2_L, cs2_R, okI_b, okI_1, okI_0, rdI_in, wrI_in, rdI_L, wrI_L, rdL_in, wrL_in, if_true, if_false, v1, N_m1]
    · unfold cm_X0_count_F233
      simp (disch := omega) only [cm_X0_count_B233, L_add, L_addR, L_mul, L_mulR, L_div, N_div, N_rem, L_sub, L_subN, nI_add, nI_mul, L_le, L_leR, L_lt, L_ltR, L_eq, N_leT, N_leF, N_ltT, N_ltF, N_eqT, N_eqF, N_m1, bnd_S, un2_S, un3_S, nmI_S, nmL_S, ptI_S, cs2_L, cs2_R, okI_b, okI_1, okI_0, rdI_in, wrI_in, rdI_L, wrI_L, rdL_in, wrL_in, if_true, if_false]
    · unfold tw_count_F175
      simp (disch := omega) only [tw_count_B175, L_add, L_addR, L_mul, L_mulR, L_div, N_div, N_rem, L_sub, L_subN, nI_add, nI_mul, L_le, L_leR, L_lt, L_ltR, L_eq, N_leT, N_leF, N_ltT, N_ltF, N_eqT, N_eqF, N_m1, bnd_S, un2_S, un3_S, nmI_S, nmL_S, ptI_S, cs2_L, cs2_R, okI_b, okI_1, okI_0, rdI_in, wrI_in, rdI_L, wrI_L, rdL_in, wrL_in, if_true, if_false]
  unfold cm_X0_count tw_count
  by_cases k0 : a = 0
  · rw [if_pos k0, if_pos k0]
    simp (disch := omega) only [zSh_T, zV_T, zL_T, zn_T, bnd_S, un2_S, un3_S, nmI_S, nmL_S, ptI_S, cs2_L, cs2_R, okI_b, okI_1, okI_0, rdI_in, wrI_in, rdI_L, wrI_L, rdL_in, wrL_in, if_true, if_false, x_now hM, f_t hF, f_A hF, f_I hF, f_KT hF, t_I hT, l_K p1, l_size p1, l_K p2, l_size p2, cA_eq r3 r4, l_K r5, l_size r5, r6, x_I hM, e12, e6, hL.1, hL.2, i9, i10, i16, i17, r2, t2, t3]
    exact ⟨_, rfl, rfl⟩
  rw [if_neg k0, if_neg k0]
  by_cases k1 : a = 1
  · rw [if_pos k1, if_pos k1]
    simp (disch := omega) only [zSh_T, zV_T, zL_T, zn_T, bnd_S, un2_S, un3_S, nmI_S, nmL_S, ptI_S, cs2_L, cs2_R, okI_b, okI_1, okI_0, rdI_in, wrI_in, rdI_L, wrI_L, rdL_in, wrL_in, if_true, if_false, x_now hM, f_t hF, f_A hF, f_I hF, f_KT hF, t_I hT, l_K p1, l_size p1, l_K p2, l_size p2, cA_eq r3 r4, l_K r5, l_size r5, r6, x_I hM, e12, e6, hL.1, hL.2, i9, i10, i16, i17, r2, t2, t3]
    exact ⟨_, rfl, rfl⟩
  rw [if_neg k1, if_neg k1]
  by_cases k2 : a = 2
  · rw [if_pos k2, if_pos k2]
    simp (disch := omega) only [zSh_T, zV_T, zL_T, zn_T, bnd_S, un2_S, un3_S, nmI_S, nmL_S, ptI_S, cs2_L, cs2_R, okI_b, okI_1, okI_0, rdI_in, wrI_in, rdI_L, wrI_L, rdL_in, wrL_in, if_true, if_false, x_now hM, f_t hF, f_A hF, f_I hF, f_KT hF, t_I hT, l_K p1, l_size p1, l_K p2, l_size p2, cA_eq r3 r4, l_K r5, l_size r5, r6, x_I hM, e12, e6, hL.1, hL.2, i9, i10, i16, i17, r2, t2, t3]
    exact ⟨_, rfl, rfl⟩
  rw [if_neg k2, if_neg k2]
  by_cases k3 : a = 3
  · rw [if_pos k3, if_pos k3]
    exact AnQ_b (c3 a k3)
  rw [if_neg k3, if_neg k3]
  by_cases k4 : a = 4
  · rw [if_pos k4, if_pos k4]
    exact AnQ_b (c4 a k3)
  rw [if_neg k4, if_neg k4]
  by_cases k5 : a = 5
  · rw [if_pos k5, if_pos k5]
    simp (disch := omega) only [zSh_T, zV_T, zL_T, zn_T, bnd_S, un2_S, un3_S, nmI_S, nmL_S, ptI_S, cs2_L, cs2_R, okI_b, okI_1, okI_0, rdI_in, wrI_in, rdI_L, wrI_L, rdL_in, wrL_in, if_true, if_false, x_now hM, f_t hF, f_A hF, f_I hF, f_KT hF, t_I hT, l_K p1, l_size p1, l_K p2, l_size p2, cA_eq r3 r4, l_K r5, l_size r5, r6, x_I hM, e12, e6, hL.1, hL.2, i9, i10, i16, i17, r2, t2, t3]
    exact ⟨_, rfl, rfl⟩
  rw [if_neg k5, if_neg k5]
  by_cases k6 : a = 6
  · rw [if_pos k6, if_pos k6]
    simp (disch := omega) only [zSh_T, zV_T, zL_T, zn_T, bnd_S, un2_S, un3_S, nmI_S, nmL_S, ptI_S, cs2_L, cs2_R, okI_b, okI_1, okI_0, rdI_in, wrI_in, rdI_L, wrI_L, rdL_in, wrL_in, if_true, if_false, x_now hM, f_t hF, f_A hF, f_I hF, f_KT hF, t_I hT, l_K p1, l_size p1, l_K p2, l_size p2, cA_eq r3 r4, l_K r5, l_size r5, r6, x_I hM, e12, e6, hL.1, hL.2, i9, i10, i16, i17, r2, t2, t3]
    exact ⟨_, rfl, rfl⟩
  rw [if_neg k6, if_neg k6]
  by_cases k7 : a = 7
  · rw [if_pos k7, if_pos k7]
    simp (disch := omega) only [zSh_T, zV_T, zL_T, zn_T, bnd_S, un2_S, un3_S, nmI_S, nmL_S, ptI_S, cs2_L, cs2_R, okI_b, okI_1, okI_0, rdI_in, wrI_in, rdI_L, wrI_L, rdL_in, wrL_in, if_true, if_false, x_now hM, f_t hF, f_A hF, f_I hF, f_KT hF, t_I hT, l_K p1, l_size p1, l_K p2, l_size p2, cA_eq r3 r4, l_K r5, l_size r5, r6, x_I hM, e12, e6, hL.1, hL.2, i9, i10, i16, i17, r2, t2, t3]
    exact ⟨_, rfl, rfl⟩
  rw [if_neg k7, if_neg k7]
  by_cases k8 : a = 8
  · rw [if_pos k8, if_pos k8]
    simp (disch := omega) only [zSh_T, zV_T, zL_T, zn_T, bnd_S, un2_S, un3_S, nmI_S, nmL_S, ptI_S, cs2_L, cs2_R, okI_b, okI_1, okI_0, rdI_in, wrI_in, rdI_L, wrI_L, rdL_in, wrL_in, if_true, if_false, x_now hM, f_t hF, f_A hF, f_I hF, f_KT hF, t_I hT, l_K p1, l_size p1, l_K p2, l_size p2, cA_eq r3 r4, l_K r5, l_size r5, r6, x_I hM, e12, e6, hL.1, hL.2, i9, i10, i16, i17, r2, t2, t3]
    rcases hfl with hb | hb
    · rw [hb]; exact ⟨_, rfl, rfl⟩
    · rw [hb]; exact ⟨_, rfl, rfl⟩
  rw [if_neg k8, if_neg k8]
  by_cases k9 : a = 9
  · rw [if_pos k9, if_pos k9]
    simp (disch := omega) only [zSh_T, zV_T, zL_T, zn_T, bnd_S, un2_S, un3_S, nmI_S, nmL_S, ptI_S, cs2_L, cs2_R, okI_b, okI_1, okI_0, rdI_in, wrI_in, rdI_L, wrI_L, rdL_in, wrL_in, if_true, if_false, x_now hM, f_t hF, f_A hF, f_I hF, f_KT hF, t_I hT, l_K p1, l_size p1, l_K p2, l_size p2, cA_eq r3 r4, l_K r5, l_size r5, r6, x_I hM, e12, e6, hL.1, hL.2, i9, i10, i16, i17, r2, t2, t3]
    exact ⟨_, rfl, rfl⟩
  rw [if_neg k9, if_neg k9]
  by_cases k10 : a = 10
  · rw [if_pos k10, if_pos k10]
    exact AnQ_b c10
  rw [if_neg k10, if_neg k10]
  by_cases k11 : a = 11
  · rw [if_pos k11, if_pos k11]
    simp (disch := omega) only [zSh_T, zV_T, zL_T, zn_T, bnd_S, un2_S, un3_S, nmI_S, nmL_S, ptI_S, cs2_L, cs2_R, okI_b, okI_1, okI_0, rdI_in, wrI_in, rdI_L, wrI_L, rdL_in, wrL_in, if_true, if_false, x_now hM, f_t hF, f_A hF, f_I hF, f_KT hF, t_I hT, l_K p1, l_size p1, l_K p2, l_size p2, cA_eq r3 r4, l_K r5, l_size r5, r6, x_I hM, e12, e6, hL.1, hL.2, i9, i10, i16, i17, r2, t2, t3]
    exact ⟨_, rfl, rfl⟩
  rw [if_neg k11, if_neg k11]
  by_cases k12 : a = 12
  · rw [if_pos k12, if_pos k12]
    simp (disch := omega) only [zSh_T, zV_T, zL_T, zn_T, bnd_S, un2_S, un3_S, nmI_S, nmL_S, ptI_S, cs2_L, cs2_R, okI_b, okI_1, okI_0, rdI_in, wrI_in, rdI_L, wrI_L, rdL_in, wrL_in, if_true, if_false, x_now hM, f_t hF, f_A hF, f_I hF, f_KT hF, t_I hT, l_K p1, l_size p1, l_K p2, l_size p2, cA_eq r3 r4, l_K r5, l_size r5, r6, x_I hM, e12, e6, hL.1, hL.2, i9, i10, i16, i17, r2, t2, t3]
    exact ⟨_, rfl, rfl⟩
  rw [if_neg k12, if_neg k12]
  exact ⟨_, rfl, rfl⟩
end Q4
