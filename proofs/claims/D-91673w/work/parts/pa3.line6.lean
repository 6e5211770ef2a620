/-! PURE: a text is read: line lay -/
set_option maxRecDepth 100000
def layO (o : Nat) (f : Nat → Int32) (a c b : Nat) (g : Int32) : Nat → Nat → Int32
  | 0 => f
  | i + 1 => fun j => if o + 12 * (b + i) + a ≤ j ∧ j < o + 12 * (b + i) + c + 1 then g else layO o f a c b g i j
theorem layO_two {f w : Nat → Int32} {a c b : Nat} {g : Int32} {x : Nat} (h : f x = w (48 + x)) (i : Nat) : layO 0 f a c b g i x = layO 48 w a c b g i (48 + x) ∧ (layO 0 f a c b g i x = g ∨ layO 0 f a c b g i x = f x) := by
  induction i with
  | zero => exact ⟨h, Or.inr rfl⟩
  | succ i ih =>
    unfold layO
    by_cases e : 0 + 12 * (b + i) + a ≤ x ∧ x < 0 + 12 * (b + i) + c + 1
    · rw [if_pos e, if_pos (by omega)]
      exact ⟨rfl, Or.inl rfl⟩
    · rw [if_neg e, if_neg (by omega)]
      exact ih
theorem layO_out {w : Nat → Int32} {a c b d : Nat} {g : Int32} {x : Nat} (h : x < 48 ∨ 192 ≤ x) (hc : c ≤ 11) (hd : d ≤ 11) (i : Nat) (hi : b + i ≤ d + 1) : layO 48 w a c b g i x = w x := by
  induction i with
  | zero => rfl
  | succ i ih =>
    unfold layO
    rw [if_neg (by omega)]
    exact ih (by omega)
section LY
variable {Sh : g_Sh} {V V' : g_V} {L : g_L} {n : Nat} {u κ : Nat → Nat} {W : g_V} {gp : Nat → Nat} {a b c d y : Nat} {g x5 : Int32} {f w' : Nat → Int32}
theorem cm_lay_in (g1 : G1 Sh V κ u w') (hS : Sh (u 2) = some (d_int 0 144)) (hac : a ≤ c) (hc : c ≤ 11) (hy : y < 12) : cm_X3_lay_L59 gp (u 0) (nI a) (nI c) x5 g (nI y) 1000 (nI a) (Sh, rowV V' (u 2) f, L, n) = some (Sh, rowV V' (u 2) (fun j => if 12 * y + a ≤ j ∧ j < 12 * y + c + 1 then g else f j), L, n) := by
  have hr := lp_run (F := cm_X3_lay_F59 gp (u 0) (nI a) (nI c) x5 g (nI y)) (N := c + 1 - a) (st := fun i => (nI (a + i), (Sh, rowV V' (u 2) (fun j => if 12 * y + a ≤ j ∧ j < 12 * y + a + i then g else f j), L, n))) (out := (Sh, rowV V' (u 2) (fun j => if 12 * y + a ≤ j ∧ j < 12 * y + c + 1 then g else f j), L, n)) ?_ ?_ 1000 0 (by omega) (by omega)
  · have e : (fun j => if 12 * y + a ≤ j ∧ j < 12 * y + a + 0 then g else f j) = f := by funext j; exact if_neg (by omega)
    rw [e] at hr
    exact hr
  · intro rec i hi
    have q : upd (fun j => if 12 * y + a ≤ j ∧ j < 12 * y + a + i then g else f j) (12 * y + (a + i)) g = fun j => if 12 * y + a ≤ j ∧ j < 12 * y + a + (i + 1) then g else f j := by
      funext j
      by_cases e : j = 12 * y + (a + i)
      · rw [e, upd_eq, if_pos (by omega)]
      · rw [upd_ne e]
        by_cases c : 12 * y + a ≤ j ∧ j < 12 * y + a + i
        · rw [if_pos c, if_pos (by omega)]
        · rw [if_neg c, if_neg (by omega)]
    unfold cm_X3_lay_F59
    simp (disch := omega) only [cm_X3_lay_B59, N_ltF, if_false, zSh_T, zV_T, zL_T, zn_T, td_A g1 (i := 1) (j := 2) (by omega), L_mul, nI_add, zsI_T hS, upd2_row, rowV_eq, rowV_over, q, nmI_S, L_addR]
    rfl
  · intro rec
    unfold cm_X3_lay_F59
    simp (disch := omega) only [cm_X3_lay_B59, N_ltT, if_true]
    rw [show 12 * y + a + (c + 1 - a) = 12 * y + c + 1 by omega]
theorem cm_lay_out (g1 : G1 Sh V κ u w') (hS : Sh (u 2) = some (d_int 0 144)) (hac : a ≤ c) (hc : c ≤ 11) (hbd : b ≤ d) (hd : d ≤ 11) : cm_X3_lay_L49 gp (u 0) (nI a) (nI c) (nI d) g 1000 (nI b) (Sh, V', L, n) = some (Sh, rowV V' (u 2) (layO 0 (V' (u 2)) a c b g (d + 1 - b)), L, n) := by
  have hr := lp_run (F := cm_X3_lay_F49 gp (u 0) (nI a) (nI c) (nI d) g) (N := d + 1 - b) (st := fun i => (nI (b + i), (Sh, rowV V' (u 2) (layO 0 (V' (u 2)) a c b g i), L, n))) (out := (Sh, rowV V' (u 2) (layO 0 (V' (u 2)) a c b g (d + 1 - b)), L, n)) ?_ ?_ 1000 0 (by omega) (by omega)
  · have e : layO 0 (V' (u 2)) a c b g 0 = V' (u 2) := rfl
    rw [e, rowV_self] at hr
    exact hr
  · intro rec i hi
    have q : (fun j => if 12 * (b + i) + a ≤ j ∧ j < 12 * (b + i) + c + 1 then g else layO 0 (V' (u 2)) a c b g i j) = layO 0 (V' (u 2)) a c b g (i + 1) := by
      funext j
      show _ = if 0 + 12 * (b + i) + a ≤ j ∧ j < 0 + 12 * (b + i) + c + 1 then g else layO 0 (V' (u 2)) a c b g i j
      rw [Nat.zero_add]
    unfold cm_X3_lay_F49
    simp (disch := omega) only [cm_X3_lay_B49, N_ltF, if_false, cm_lay_in g1 hS hac hc, bnd_S, q, nmI_S, L_addR]
    rfl
  · intro rec
    unfold cm_X3_lay_F49
    simp (disch := omega) only [cm_X3_lay_B49, N_ltT, if_true]
theorem tw_lay_in (h22 : W 0 22 = nI c) (hac : a ≤ c) (hc : c ≤ 11) (hy : y < 12) : tw_readLay_L42 g (nI y) 1000 (nI a) (rowV W 15 f) = some (rowV W 15 (fun j => if 48 + 12 * y + a ≤ j ∧ j < 48 + 12 * y + c + 1 then g else f j)) := by
  have hr := lp_run (F := tw_readLay_F42 g (nI y)) (N := c + 1 - a) (st := fun i => (nI (a + i), rowV W 15 (fun j => if 48 + 12 * y + a ≤ j ∧ j < 48 + 12 * y + a + i then g else f j))) (out := rowV W 15 (fun j => if 48 + 12 * y + a ≤ j ∧ j < 48 + 12 * y + c + 1 then g else f j)) ?_ ?_ 1000 0 (by omega) (by omega)
  · have e : (fun j => if 48 + 12 * y + a ≤ j ∧ j < 48 + 12 * y + a + 0 then g else f j) = f := by funext j; exact if_neg (by omega)
    rw [e] at hr
    exact hr
  · intro rec i hi
    have q : upd (fun j => if 48 + 12 * y + a ≤ j ∧ j < 48 + 12 * y + a + i then g else f j) (48 + 12 * y + (a + i)) g = fun j => if 48 + 12 * y + a ≤ j ∧ j < 48 + 12 * y + a + (i + 1) then g else f j := by
      funext j
      by_cases e : j = 48 + 12 * y + (a + i)
      · rw [e, upd_eq, if_pos (by omega)]
      · rw [upd_ne e]
        by_cases c : 48 + 12 * y + a ≤ j ∧ j < 48 + 12 * y + a + i
        · rw [if_pos c, if_pos (by omega)]
        · rw [if_neg c, if_neg (by omega)]
    unfold tw_readLay_F42
    simp (disch := omega) only [tw_readLay_B42, rowV_ne, h22, N_ltF, if_false, L_mul, L_add, nI_add, wrI_in, upd2_row, rowV_eq, rowV_over, q, nmI_S, L_addR]
    rfl
  · intro rec
    unfold tw_readLay_F42
    simp (disch := omega) only [tw_readLay_B42, rowV_ne, h22, N_ltT, if_true]
    rw [show 48 + 12 * y + a + (c + 1 - a) = 48 + 12 * y + c + 1 by omega]
theorem tw_lay_out (h20 : W 0 20 = nI a) (h22 : W 0 22 = nI c) (h23 : W 0 23 = nI d) (hac : a ≤ c) (hc : c ≤ 11) (hbd : b ≤ d) (hd : d ≤ 11) : tw_readLay_L29 g 1000 (nI b) W = some (rowV W 15 (layO 48 (W 15) a c b g (d + 1 - b))) := by
  have hr := lp_run (F := tw_readLay_F29 g) (N := d + 1 - b) (st := fun i => (nI (b + i), rowV W 15 (layO 48 (W 15) a c b g i))) (out := rowV W 15 (layO 48 (W 15) a c b g (d + 1 - b))) ?_ ?_ 1000 0 (by omega) (by omega)
  · have e : layO 48 (W 15) a c b g 0 = W 15 := rfl
    rw [e, rowV_self] at hr
    exact hr
  · intro rec i hi
    have q : (fun j => if 48 + 12 * (b + i) + a ≤ j ∧ j < 48 + 12 * (b + i) + c + 1 then g else layO 48 (W 15) a c b g i j) = layO 48 (W 15) a c b g (i + 1) := rfl
    unfold tw_readLay_F29
    simp (disch := omega) only [tw_readLay_B29, rowV_ne, h20, h23, N_ltF, if_false, nmI_S, tw_lay_in h22 hac hc, bnd_S, q, L_addR]
    rfl
  · intro rec
    unfold tw_readLay_F29
    simp (disch := omega) only [tw_readLay_B29, rowV_ne, h23, N_ltT, if_true]
end LY
