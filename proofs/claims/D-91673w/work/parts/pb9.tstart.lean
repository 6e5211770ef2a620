/-! PURE: a text is read: nothing is told yet; the start -/
set_option maxRecDepth 100000
/-- the addresses of what is told when nothing is told yet -/
def uN (a k : Nat) : Nat → Nat := fun j => if j = 0 then a else if j < 4 then k + j - 1 else if j < 8 then k else k + j - 5
/-- the groups of its cells -/
def κN (a k : Nat) : Nat → Nat := fun b => if b = a then 1 else if b < k ∨ k + 9 ≤ b then 0 else if b = k then 2 else if b = k + 1 then 3 else if b = k + 2 then 4 else if b < k + 5 then 5 else if b < k + 7 then 6 else 7
section TD0
variable {S : g_Sh} {W : g_V} {L : g_L} {a k : Nat} {V2 : g_V} {κ : Nat → Nat}
theorem Td_new (h : TN S W a k) (h15 : ∀ j, j < 810 → V2 15 j = plR j) (h16 : ∀ g, g < 4 → V2 16 g = 0) (h17 : ∀ y, y < 12 → V2 17 y = 0) (hk : ∀ b, κN a k b ≠ 0 → κ b = κN a k b) (hak : a < k) : Td S W κ (uN a k) V2 0 0 0 := by
  obtain ⟨⟨rf, q0, q1, q2, q3, q4, q5, q6, q7⟩, s0, s1, s2, sl, ⟨v6, v7, v11, v12⟩, w1, w2, w3, w5, w7⟩ := h
  have u0 : uN a k 0 = a := rfl
  have u1 : uN a k 1 = k := by unfold uN; (repeat' split) <;> omega
  have u2 : uN a k 2 = k + 1 := by unfold uN; (repeat' split) <;> omega
  have u3 : uN a k 3 = k + 2 := by unfold uN; (repeat' split) <;> omega
  have u8 : uN a k 8 = k + 3 := by unfold uN; (repeat' split) <;> omega
  have u9 : uN a k 9 = k + 4 := by unfold uN; (repeat' split) <;> omega
  have u10 : uN a k 10 = k + 5 := by unfold uN; (repeat' split) <;> omega
  have u11 : uN a k 11 = k + 6 := by unfold uN; (repeat' split) <;> omega
  have u12 : uN a k 12 = k + 7 := by unfold uN; (repeat' split) <;> omega
  have u13 : uN a k 13 = k + 8 := by unfold uN; (repeat' split) <;> omega
  have kv : ∀ b c, κN a k b = c → c ≠ 0 → κ b = c := fun b c e hc => by rw [hk b (by omega)]; exact e
  have k0 : κ a = 1 := kv _ _ (by unfold κN; rw [if_pos rfl]) (by omega)
  have k1 : κ k = 2 := kv _ _ (by unfold κN; rw [if_neg (by omega), if_neg (by omega), if_pos rfl]) (by omega)
  have k2 : κ (k + 1) = 3 := kv _ _ (by unfold κN; rw [if_neg (by omega), if_neg (by omega), if_neg (by omega), if_pos rfl]) (by omega)
  have k3 : κ (k + 2) = 4 := kv _ _ (by unfold κN; rw [if_neg (by omega), if_neg (by omega), if_neg (by omega), if_neg (by omega), if_pos rfl]) (by omega)
  have k5 : ∀ i, i = 3 ∨ i = 4 → κ (k + i) = 5 := fun i hi => kv _ _ (by unfold κN; rw [if_neg (by omega), if_neg (by omega), if_neg (by omega), if_neg (by omega), if_neg (by omega), if_pos (by omega)]) (by omega)
  have k6 : ∀ i, i = 5 ∨ i = 6 → κ (k + i) = 6 := fun i hi => kv _ _ (by unfold κN; rw [if_neg (by omega), if_neg (by omega), if_neg (by omega), if_neg (by omega), if_neg (by omega), if_neg (by omega), if_pos (by omega)]) (by omega)
  have k7 : ∀ i, i = 7 ∨ i = 8 → κ (k + i) = 7 := fun i hi => kv _ _ (by unfold κN; rw [if_neg (by omega), if_neg (by omega), if_neg (by omega), if_neg (by omega), if_neg (by omega), if_neg (by omega), if_neg (by omega)]) (by omega)
  have p5 : plR 5 = 100 := rfl
  have p6 : plR 6 = 99999 := rfl
  refine ⟨⟨⟨rf, ?_, ?_, ?_, ?_, ?_, ?_, ?_, q7⟩, ?_, ?_, ?_, Or.inl ⟨?_, ?_⟩, ⟨100, ?_, by omega, by omega⟩, ⟨99999, ?_, by omega⟩⟩, ⟨?_, fun _ => none, ?_, fun g hg => Or.inl ⟨h16 g hg, rfl, ?_, ?_, ?_, ?_⟩⟩, ⟨?_, ?_, fun c hc => ⟨?_, 0, by omega, ?_⟩⟩, ⟨?_, ?_, fun y hy => Or.inl ⟨h17 y hy, ?_, ?_⟩⟩, ⟨by omega, ?_, ?_, ?_, ?_, ?_, fun p hp => by omega, fun p q hp => by omega, fun j j1 j2 => ?_⟩, ⟨by omega, ?_, ?_, ?_, ?_, ?_, fun p hp => by omega⟩, ⟨by omega, ?_, ?_, ?_, ?_, ?_, fun p hp => by omega, fun j j1 j2 => ?_⟩, fun j hj => ?_⟩
  · rw [u0]; exact q0
  · rw [u1]; exact q1
  · rw [u2]; exact q2
  · rw [u3]; exact q3
  · rw [u8]; exact q4
  · rw [u10]; exact q5
  · rw [u12]; exact q6
  · rw [u0]; exact k0
  · rw [u0, v6, h15 5 (by omega)]; rfl
  · rw [u0, v11, h15 6 (by omega)]; rfl
  · rw [h15 7 (by omega)]; rfl
  · rw [u0]; exact v7
  · rw [h15 5 (by omega)]; rfl
  · rw [h15 6 (by omega)]; rfl
  · rw [u1]; exact k1
  · rw [u1]; exact s0
  · rw [h15 _ (by omega)]; have := plR_g (g := g) (i := 0) hg (by omega); exact this
  · rw [h15 _ (by omega), plR_g hg (by omega)]; rfl
  · rw [h15 _ (by omega), plR_g hg (by omega)]; rfl
  · rw [h15 _ (by omega), plR_g hg (by omega)]; rfl
  · rw [u2]; exact k2
  · rw [u2]; exact s1
  · rw [u2, w1, h15 _ (by omega), plR_0 (by omega) (by omega) (by omega)]
  · rw [h15 _ (by omega), plR_0 (by omega) (by omega) (by omega)]; rfl
  · rw [u3]; exact k3
  · rw [u3]; exact s2
  · rw [u3]; exact w2 y hy
  · rw [h15 _ (by omega), plR_0 (by omega) (by omega) (by omega)]
  · rw [h15 2 (by omega)]; rfl
  · rw [u8, u9]; exact (sl _).1
  · rw [u8]; exact w3
  · rw [u8]; exact k5 3 (by omega)
  · rw [u9]; exact k5 4 (by omega)
  · rw [h15 _ (by omega), plR_0 (by omega) (by omega) (by omega)]
  · rw [h15 3 (by omega)]; rfl
  · rw [u10, u11]; exact (sl _).2.1
  · rw [u10]; exact w5
  · rw [u10]; exact k6 5 (by omega)
  · rw [u11]; exact k6 6 (by omega)
  · rw [h15 4 (by omega)]; rfl
  · rw [u12, u13]; exact (sl _).2.2
  · rw [u12]; exact w7
  · rw [u12]; exact k7 7 (by omega)
  · rw [u13]; exact k7 8 (by omega)
  · rw [h15 _ (by omega), plR_0 (by omega) (by omega) (by omega)]
  · rw [h15 _ (by omega), plR_0 (by omega) (by omega) (by omega)]
end TD0
section ST
variable {Sh : g_Sh} {V : g_V} {L : g_L} {n r tp ms bg sz : Nat} {V2 : g_V} {gp : Nat → Nat}
theorem t_next0 {a : Nat} (h1 : RdO Sh r tp ms bg) (h2 : RdT Sh V r tp (V2 5)) (h3 : V r 3 = nI sz) (h4 : V2 0 8 = nI sz) (h5 : sz ≤ 700) (h6 : V2 0 13 = 0) (k4 : V r 4 = nI a) (k9 : V2 0 9 = nI a) (k2 : a ≤ sz) : ∃ V' V2', cm_X3_next (Sh, V, L, n) r = some (Sh, V', L, n) ∧ tw_step V2 = some V2' ∧ Tst r V V' V2 V2' ∧ RW Sh V' r tp ms bg V2' sz := by
  obtain ⟨R, R2, e1, e2, e3, e4, e5⟩ := tok_next (L := L) (n := n) h1 h2 h3 h4 k4 k9 k2 h5
  rw [rowV_self] at e1 e2
  refine ⟨rowV V r R, rowV V2 0 R2, e1, e2, ⟨fun a ha => rowV_ne ha, fun j hj => by rw [rowV_eq]; exact e4 j hj, fun a ha => rowV_ne ha, fun j hj => by rw [rowV_eq]; exact e5 j hj⟩, h1, ?_, by rw [rowV_eq, e4 3 (by omega)]; exact h3, by rw [rowV_eq, e5 8 (by omega)]; exact h4, h5, by rw [rowV_eq, e5 13 (by omega)]; exact h6, by rw [rowV_eq, rowV_eq]; exact e3⟩
  obtain ⟨b1, b2, b3, b4⟩ := h2
  exact ⟨b1, fun i hi => by rw [rowV_ne b3, rowV_ne (by omega)]; exact b2 i hi, b3, by rw [rowV_ne (by omega)]; exact b4⟩
/-- the reference's world as a text begins -/
def tx0 (V2 : g_V) : g_V := rowV (rowV (rowV (rowV V2 0 (upd (upd (upd (upd (upd (upd (upd (V2 0) 8 (V2 0 6)) 6 0) 9 0) 13 0) 14 (-1)) 18 0) 19 0)) 15 (fun i => if i < 810 then plR i else V2 15 i)) 16 (fun g => if g < 4 then 0 else V2 16 g)) 17 (fun y => if y < 12 then 0 else V2 17 y)
theorem tw_text_0 : tw_text V2 = bnd (tw_step (tx0 V2)) (fun V_38 => bnd (tw_text_L90 1000 V_38) (fun V_49 => tw_text_J111 V_49)) := by
  have l1 : ∀ W : g_V, tw_text_L47 1000 0 W = some (rowV W 16 (fun g => if g < 4 then 0 else W 16 g)) := by
    intro W
    have hr := lp_run (F := tw_text_F47) (N := 4) (st := fun i => (nI i, rowV W 16 (fun y => if y < i then 0 else W 16 y))) (out := rowV W 16 (fun y => if y < 4 then 0 else W 16 y)) ?_ ?_ 1000 0 (by omega) (by omega)
    · have e0 : (fun y => if y < 0 then 0 else W 16 y) = W 16 := by funext y; exact if_neg (by omega)
      rw [e0, rowV_self, nI_0] at hr
      exact hr
    · intro rec i hi
      have q2 : upd (fun y => if y < i then 0 else W 16 y) i 0 = fun y => if y < i + 1 then 0 else W 16 y := by
        funext y
        by_cases e : y = i
        · subst e; rw [upd_eq, if_pos (by omega)]
        · rw [upd_ne e]
          by_cases c : y < i
          · rw [if_pos c, if_pos (by omega)]
          · rw [if_neg c, if_neg (by omega)]
      unfold tw_text_F47
      simp (disch := omega) only [tw_text_B47, L_add, L_addR, L_mul, L_mulR, L_div, N_div, N_rem, L_sub, L_subN, nI_add, nI_mul, L_le, L_leR, L_lt, L_ltR, L_eq, N_leT, N_leF, N_ltT, N_ltF, N_eqT, N_eqF, N_m1, bnd_S, un2_S, un3_S, nmI_S, nmL_S, ptI_S, cs2_L, cs2_R, okI_b, okI_1, okI_0, rdI_in, wrI_in, rdI_L, wrI_L, rdL_in, wrL_in, if_true, if_false, upd2_row, rowV_eq, rowV_over, q2]
    · intro rec
      unfold tw_text_F47
      simp (disch := omega) only [tw_text_B47, L_add, L_addR, L_mul, L_mulR, L_div, N_div, N_rem, L_sub, L_subN, nI_add, nI_mul, L_le, L_leR, L_lt, L_ltR, L_eq, N_leT, N_leF, N_ltT, N_ltF, N_eqT, N_eqF, N_m1, bnd_S, un2_S, un3_S, nmI_S, nmL_S, ptI_S, cs2_L, cs2_R, okI_b, okI_1, okI_0, rdI_in, wrI_in, rdI_L, wrI_L, rdL_in, wrL_in, if_true, if_false]
  have l2 : ∀ W : g_V, tw_text_L67 1000 0 W = some (rowV W 17 (fun g => if g < 12 then 0 else W 17 g)) := by
    intro W
    have hr := lp_run (F := tw_text_F67) (N := 12) (st := fun i => (nI i, rowV W 17 (fun y => if y < i then 0 else W 17 y))) (out := rowV W 17 (fun y => if y < 12 then 0 else W 17 y)) ?_ ?_ 1000 0 (by omega) (by omega)
    · have e0 : (fun y => if y < 0 then 0 else W 17 y) = W 17 := by funext y; exact if_neg (by omega)
      rw [e0, rowV_self, nI_0] at hr
      exact hr
    · intro rec i hi
      have q2 : upd (fun y => if y < i then 0 else W 17 y) i 0 = fun y => if y < i + 1 then 0 else W 17 y := by
        funext y
        by_cases e : y = i
        · subst e; rw [upd_eq, if_pos (by omega)]
        · rw [upd_ne e]
          by_cases c : y < i
          · rw [if_pos c, if_pos (by omega)]
          · rw [if_neg c, if_neg (by omega)]
      unfold tw_text_F67
      simp (disch := omega) only [tw_text_B67, L_add, L_addR, L_mul, L_mulR, L_div, N_div, N_rem, L_sub, L_subN, nI_add, nI_mul, L_le, L_leR, L_lt, L_ltR, L_eq, N_leT, N_leF, N_ltT, N_ltF, N_eqT, N_eqF, N_m1, bnd_S, un2_S, un3_S, nmI_S, nmL_S, ptI_S, cs2_L, cs2_R, okI_b, okI_1, okI_0, rdI_in, wrI_in, rdI_L, wrI_L, rdL_in, wrL_in, if_true, if_false, upd2_row, rowV_eq, rowV_over, q2]
    · intro rec
      unfold tw_text_F67
      simp (disch := omega) only [tw_text_B67, L_add, L_addR, L_mul, L_mulR, L_div, N_div, N_rem, L_sub, L_subN, nI_add, nI_mul, L_le, L_leR, L_lt, L_ltR, L_eq, N_leT, N_leF, N_ltT, N_ltF, N_eqT, N_eqF, N_m1, bnd_S, un2_S, un3_S, nmI_S, nmL_S, ptI_S, cs2_L, cs2_R, okI_b, okI_1, okI_0, rdI_in, wrI_in, rdI_L, wrI_L, rdL_in, wrL_in, if_true, if_false]
  unfold tw_text
  simp only [ptI_S, tw_plain_eq, bnd_S, l1, l2]
  have e : ∀ W W' : g_V, W = W' → bnd (tw_step W) (fun V_38 => bnd (tw_text_L90 1000 V_38) (fun V_49 => tw_text_J111 V_49)) = bnd (tw_step W') (fun V_38 => bnd (tw_text_L90 1000 V_38) (fun V_49 => tw_text_J111 V_49)) := fun W W' h => by rw [h]
  apply e
  unfold tx0
  funext b j
  by_cases c17 : b = 17
  · subst c17
    simp (disch := omega) only [rowV_eq, rowV_ne, upd2_ne]
  by_cases c16 : b = 16
  · subst c16
    simp (disch := omega) only [rowV_eq, rowV_ne, upd2_ne]
  by_cases c15 : b = 15
  · subst c15
    simp (disch := omega) only [rowV_eq, rowV_ne, upd2_ne]
  by_cases c0 : b = 0
  · subst c0
    simp (disch := omega) only [rowV_eq, rowV_ne, upd2_eq]
  · simp (disch := omega) only [rowV_ne, upd2_ne]
end ST
