/-! PURE: feed -/
set_option maxRecDepth 100000
/-- a byte of a number -/
def bt (a : Int32) (s : Nat) : Int32 := (a >>> (nI s &&& 31)).toInt8.toInt32
theorem bt_r (a : Int32) (s : Nat) : -128 ≤ (bt a s).toInt ∧ (bt a s).toInt ≤ 127 := by
  unfold bt
  rw [Int8.toInt_toInt32]
  have h1 := Int8.toInt_lt (a >>> (nI s &&& 31)).toInt8
  have h2 := Int8.le_toInt (a >>> (nI s &&& 31)).toInt8
  omega
section FE
variable {Sh Sh' : g_Sh} {V V' V0 : g_V} {L L' : g_L} {n n' x : Nat} {m u mt q ρ : Nat → Nat} {V2 V2' : g_V} {L2 : g_L} {m0 mt0 : Nat}
/-- so many bytes of it stand on the tape -/
def PU (x tp : Nat) (V0 : g_V) (t : Nat) (a : Int32) (i : Nat) (V : g_V) : Prop := (∀ b, b ≠ x → b ≠ tp → V b = V0 b) ∧ (∀ j, j ≠ 5 → V x j = V0 x j) ∧ V x 5 = nI (t + i) ∧ ∀ j, V tp j = if t ≤ j ∧ j < t + i then bt a (24 - 8 * (j - t)) else V0 tp j
theorem cm_puts_1 (hM : GM Sh x m0 mt0 q) (h3 : Sh (q 3) = some (d_int 1 700)) (hx : q 3 ≠ x) {t i : Nat} {a : Int32} (hi : i < 4) (ht : t + 4 ≤ 700) (h : PU x (q 3) V0 t a i V) : ∃ V', PU x (q 3) V0 t a (i + 1) V' ∧ ∀ rec, cm_X0_puts_F3 x a rec (nI (24 - 8 * i), (Sh, V, L, n)) = rec (nI (24 - 8 * i) + (-8), (Sh, V', L, n)) := by
  obtain ⟨h1, h2, h5, h4⟩ := h
  have z : ¬ nI (24 - 8 * i) < 0 := nI_nlt (a := 24 - 8 * i) (b := 0) (by omega) (by omega)
  refine ⟨rowV (rowV V (q 3) (upd (V (q 3)) (t + i) (bt a (24 - 8 * i)))) x (upd (V x) 5 (nI (t + i + 1))), ⟨fun b h1' h2' => ?_, fun j hj => ?_, ?_, fun j => ?_⟩, fun rec => ?_⟩
  · rw [rowV_ne h1', rowV_ne h2']; exact h1 b h1' h2'
  · rw [rowV_eq, upd_ne hj]; exact h2 j hj
  · rw [rowV_eq, upd_eq]; rfl
  · rw [rowV_ne hx, rowV_eq]
    by_cases e : j = t + i
    · subst e
      rw [upd_eq, if_pos (by omega), show t + i - t = i by omega]
    · rw [upd_ne e, h4 j]
      by_cases c : t ≤ j ∧ j < t + i
      · rw [if_pos c, if_pos (by omega)]
      · rw [if_neg c, if_neg (by omega)]
  · unfold cm_X0_puts_F3
    simp (disch := omega) only [cm_X0_puts_B3, zSh_T, zV_T, zL_T, zn_T, z, if_false, x_tp hM, x_I hM, h5, zsI_T h3, upd2_row, rowV_ne (Ne.symm hx), L_addR, x_P hM, nmI_S]
    rfl
theorem cm_puts_eq (hM : GM Sh x m0 mt0 q) (h3 : Sh (q 3) = some (d_int 1 700)) (hx : q 3 ≠ x) {t : Nat} (a : Int32) (ht : t + 4 ≤ 700) (h5 : V x 5 = nI t) : ∃ V', PU x (q 3) V t a 4 V' ∧ cm_X0_puts (Sh, V, L, n) x a = some (Sh, V', L, n) := by
  have p0 : PU x (q 3) V t a 0 V := ⟨fun _ _ _ => rfl, fun _ _ => rfl, h5, fun j => (if_neg (by omega)).symm⟩
  obtain ⟨V1, p1, e1⟩ := cm_puts_1 (L := L) (n := n) hM h3 hx (i := 0) (by omega) ht p0
  obtain ⟨V3, p2, e2⟩ := cm_puts_1 (L := L) (n := n) hM h3 hx (i := 1) (by omega) ht p1
  obtain ⟨V4, p3, e3⟩ := cm_puts_1 (L := L) (n := n) hM h3 hx (i := 2) (by omega) ht p2
  obtain ⟨V5, p4, e4⟩ := cm_puts_1 (L := L) (n := n) hM h3 hx (i := 3) (by omega) ht p3
  refine ⟨V5, p4, ?_⟩
  have k1 : nI (24 - 8 * 0) + (-8) = nI (24 - 8 * 1) := by decide
  have k2 : nI (24 - 8 * 1) + (-8) = nI (24 - 8 * 2) := by decide
  have k3 : nI (24 - 8 * 2) + (-8) = nI (24 - 8 * 3) := by decide
  have k4 : nI (24 - 8 * 3) + (-8) < 0 := by decide
  unfold cm_X0_puts cm_X0_puts_L3
  rw [show ((24 : Int32), ((Sh, V, L, n) : c_S)) = (nI (24 - 8 * 0), (Sh, V, L, n)) from rfl, show (1000 : Nat) = 995 + 1 + 1 + 1 + 1 + 1 from rfl, lp_s, e1, k1, lp_s, e2, k2, lp_s, e3, k3, lp_s, e4, lp_s]
  generalize lp (cm_X0_puts_F3 x a) 995 = rec
  unfold cm_X0_puts_F3 cm_X0_puts_B3
  rw [if_pos k4]
  rfl
end FE
