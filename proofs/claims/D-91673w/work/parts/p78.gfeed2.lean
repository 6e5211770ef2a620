/-! PURE: feed on both sides -/
set_option maxRecDepth 100000
section FE2
variable {Sh Sh' : g_Sh} {V V' V0 : g_V} {L L' : g_L} {n n' x : Nat} {m u mt q ρ : Nat → Nat} {V2 V2' : g_V} {L2 : g_L}
theorem tw_feed_loop {t : Nat} (ht : t + 20 ≤ 700) (h6 : V 0 6 = nI t) : tw_feed_L55 1000 0 V = some (rowV V 5 (fun j => if t ≤ j ∧ j < t + 20 then bt (V 7 ((j - t) / 4)) (24 - 8 * ((j - t) % 4)) else V 5 j)) := by
  have e24 : ∀ k, k ≤ 24 → (24 : Int32) - nI k = nI (24 - k) := fun k hk => (show nI 24 - nI k = _ from L_subN hk)
  have hr := lp_run (F := tw_feed_F55) (N := 20) (st := fun i => (nI i, rowV V 5 (fun j => if t ≤ j ∧ j < t + i then bt (V 7 ((j - t) / 4)) (24 - 8 * ((j - t) % 4)) else V 5 j))) (out := rowV V 5 (fun j => if t ≤ j ∧ j < t + 20 then bt (V 7 ((j - t) / 4)) (24 - 8 * ((j - t) % 4)) else V 5 j)) ?_ ?_ 1000 0 (by omega) (by omega)
  · have e0 : (fun j => if t ≤ j ∧ j < t + 0 then bt (V 7 ((j - t) / 4)) (24 - 8 * ((j - t) % 4)) else V 5 j) = V 5 := by funext j; exact if_neg (by omega)
    rw [e0, rowV_self, nI_0] at hr
    exact hr
  · intro rec i hi
    have q2 : ∀ y, y = bt (V 7 (i / 4)) (24 - 8 * (i % 4)) → upd (fun j => if t ≤ j ∧ j < t + i then bt (V 7 ((j - t) / 4)) (24 - 8 * ((j - t) % 4)) else V 5 j) (t + i) y = fun j => if t ≤ j ∧ j < t + (i + 1) then bt (V 7 ((j - t) / 4)) (24 - 8 * ((j - t) % 4)) else V 5 j := by
      intro y hy
      funext j
      by_cases e : j = t + i
      · subst e
        rw [upd_eq, if_pos (by omega), show t + i - t = i by omega]
        exact hy
      · rw [upd_ne e]
        by_cases c : t ≤ j ∧ j < t + i
        · rw [if_pos c, if_pos (by omega)]
        · rw [if_neg c, if_neg (by omega)]
    unfold tw_feed_F55
    simp (disch := omega) only [tw_feed_B55, rowV_ne, rowV_eq, L_add, L_addR, L_mul, L_mulR, L_div, N_div, N_rem, L_sub, L_subN, nI_add, nI_mul, L_le, L_leR, L_lt, L_ltR, L_eq, N_leT, N_leF, N_ltT, N_ltF, N_eqT, N_eqF, N_m1, bnd_S, un2_S, un3_S, nmI_S, nmL_S, ptI_S, cs2_L, cs2_R, okI_b, okI_1, okI_0, rdI_in, wrI_in, rdI_L, wrI_L, rdL_in, wrL_in, if_true, if_false, h6, e24, upd2_row, rowV_over]
    rw [q2 ((V 7 (i / 4) >>> (nI (24 - 8 * (i % 4)) &&& 31)).toInt8.toInt32) rfl]
  · intro rec
    unfold tw_feed_F55
    simp (disch := omega) only [tw_feed_B55, L_add, L_addR, L_mul, L_mulR, L_div, N_div, N_rem, L_sub, L_subN, nI_add, nI_mul, L_le, L_leR, L_lt, L_ltR, L_eq, N_leT, N_leF, N_ltT, N_ltF, N_eqT, N_eqF, N_m1, bnd_S, un2_S, un3_S, nmI_S, nmL_S, ptI_S, cs2_L, cs2_R, okI_b, okI_1, okI_0, rdI_in, wrI_in, rdI_L, wrI_L, rdL_in, wrL_in, if_true, if_false]
theorem q_feed (h : GG (Sh, V, L, n) x ρ m u mt q V2 L2) (a b c d e : Int32) : Ans (cm_X0_feed (Sh, V, L, n) x a b c d e) (tw_feed V2 a b c d e) x L2 := by
  have hM : GM Sh x (m 0) (mt 0) q := h.gm
  obtain ⟨o1, o2, o3, o4, o5, o6, o7⟩ := h.2.2.2.2.2.2
  obtain ⟨n1, ⟨t, t1, t2, t3⟩, n3, n4, g, g1, g2, g3, g4⟩ := h.2.2.2.1
  simp only [zSh_T, zV_T, zL_T, zn_T] at n1 t2 n3 n4 g2 g4
  have q3 : q 3 ≠ x := fun e => by rw [e] at o5; omega
  have q4 : q 4 ≠ x := fun e => by rw [e] at o6; omega
  have q34 : q 4 ≠ q 3 := fun e => by rw [e] at o6; omega
  unfold cm_X0_feed tw_feed
  simp (disch := omega) only [zSh_T, zV_T, zL_T, zn_T, x_I hM, t2, t3, L_addR]
  by_cases hl : t + 20 ≤ 700
  · have hle : nI (t + 20) ≤ 700 := nI_le (b := 700) hl (by omega)
    rw [if_pos hle, if_pos hle]
    obtain ⟨Va, pa, ea⟩ := cm_puts_eq (L := L) (n := n) hM n3.1 q3 a (t := t) (by omega) t2
    obtain ⟨Vb, pb, eb⟩ := cm_puts_eq (L := L) (n := n) hM n3.1 q3 b (t := t + 4) (by omega) pa.2.2.1
    obtain ⟨Vc, pc, ec⟩ := cm_puts_eq (L := L) (n := n) hM n3.1 q3 c (t := t + 4 + 4) (by omega) pb.2.2.1
    obtain ⟨Vd, pd, ed⟩ := cm_puts_eq (L := L) (n := n) hM n3.1 q3 d (t := t + 4 + 4 + 4) (by omega) pc.2.2.1
    obtain ⟨Ve, pe, ee⟩ := cm_puts_eq (L := L) (n := n) hM n3.1 q3 e (t := t + 4 + 4 + 4 + 4) (by omega) pd.2.2.1
    have v5 : Ve x 5 = nI (t + 20) := pe.2.2.1
    simp (disch := omega) only [zSh_T, zV_T, zL_T, zn_T, bnd_S, un2_S, un3_S, nmI_S, nmL_S, ptI_S, cs2_L, cs2_R, okI_b, okI_1, okI_0, rdI_in, wrI_in, rdI_L, wrI_L, rdL_in, wrL_in, if_true, if_false, x_K hM, ea, eb, ec, ed, ee, x_I hM, v5, upd2_row, rowV_eq, rowV_over]
    have f0 : ∀ g, rowV V2 7 g 0 6 = nI t := fun g => by rw [rowV_ne (by omega)]; exact t3
    rw [tw_feed_loop hl (f0 _)]
    simp (disch := omega) only [bnd_S, rowV_ne, rowV_eq, upd_eq, t3, L_addR]
    have fx : ∀ b', b' ≠ x → b' ≠ q 3 → Ve b' = V b' := fun b' h1 h2 => by rw [pe.1 b' h1 h2, pd.1 b' h1 h2, pc.1 b' h1 h2, pb.1 b' h1 h2, pa.1 b' h1 h2]
    have fi : ∀ j, j ≠ 5 → Ve x j = V x j := fun j h1 => by rw [pe.2.1 j h1, pd.2.1 j h1, pc.2.1 j h1, pb.2.1 j h1, pa.2.1 j h1]
    have ft : ∀ j, Ve (q 3) j = if t ≤ j ∧ j < t + 20 then bt (upd (upd (upd (upd (upd (V2 7) 0 a) 1 b) 2 c) 3 d) 4 e ((j - t) / 4)) (24 - 8 * ((j - t) % 4)) else V (q 3) j := by
      intro j
      rw [pe.2.2.2 j, pd.2.2.2 j, pc.2.2.2 j, pb.2.2.2 j, pa.2.2.2 j]
      by_cases c1 : t ≤ j ∧ j < t + 20
      · rw [if_pos c1]
        have d5 : (j - t) / 4 = 0 ∨ (j - t) / 4 = 1 ∨ (j - t) / 4 = 2 ∨ (j - t) / 4 = 3 ∨ (j - t) / 4 = 4 := by omega
        rcases d5 with d5 | d5 | d5 | d5 | d5
        · rw [if_neg (by omega), if_neg (by omega), if_neg (by omega), if_neg (by omega), if_pos (by omega), d5, upd_ne (by omega), upd_ne (by omega), upd_ne (by omega), upd_ne (by omega), upd_eq]
          congr 1; omega
        · rw [if_neg (by omega), if_neg (by omega), if_neg (by omega), if_pos (by omega), d5, upd_ne (by omega), upd_ne (by omega), upd_ne (by omega), upd_eq]
          congr 1; omega
        · rw [if_neg (by omega), if_neg (by omega), if_pos (by omega), d5, upd_ne (by omega), upd_ne (by omega), upd_eq]
          congr 1; omega
        · rw [if_neg (by omega), if_pos (by omega), d5, upd_ne (by omega), upd_eq]
          congr 1; omega
        · rw [if_pos (by omega), d5, upd_eq]
          congr 1; omega
      · rw [if_neg c1, if_neg (by omega), if_neg (by omega), if_neg (by omega), if_neg (by omega), if_neg (by omega)]
    refine ⟨_, _, _, rfl, rfl, GG.g (GG_gn h (fun a' h7 h10 _ => fx a' (fun e' => h7 (by rw [e']; exact o2)) (fun e' => h10 (by rw [e']; exact o5))) ⟨?_, ⟨t + 20, hl, v5, ?_⟩, ⟨n3.1, fun i hi => ?_⟩, n4, g, g1, ?_, ?_, ?_⟩ ?_ ⟨?_, ?_, ?_, ?_⟩)⟩
    · rw [fi 6 (by omega), fi 7 (by omega), fi 10 (by omega)]
      simp (disch := omega) only [rowV_eq, rowV_ne, upd_ne]; exact n1
    · simp (disch := omega) only [rowV_eq, rowV_ne, upd_eq]
    · simp (disch := omega) only [rowV_eq, rowV_ne]
      rw [ft i]
      by_cases c1 : t ≤ i ∧ i < t + 20
      · rw [if_pos c1, if_pos c1]
        exact ⟨rfl, bt_r _ _⟩
      · rw [if_neg c1, if_neg c1]
        exact n3.2 i hi
    · rw [fi 9 (by omega)]; exact g2
    · simp (disch := omega) only [rowV_eq, rowV_ne, upd_ne]; exact g3
    · rw [fx (q 4) q4 q34]
      simp (disch := omega) only [rowV_ne]; exact g4
    · simp (disch := omega) only [rowV_ne]
    · simp (disch := omega) only [rowV_ne]
    · simp (disch := omega) only [rowV_ne]
    · simp (disch := omega) only [rowV_ne]
    · simp (disch := omega) only [rowV_ne]
  · have hle : ¬ nI (t + 20) ≤ 700 := nI_ge (a := 700) (b := t + 20) (by omega) (by omega)
    rw [if_neg hle, if_neg hle]
    exact ⟨_, _, _, rfl, rfl, h.g⟩
end FE2
