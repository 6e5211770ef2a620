/-! PURE: something new is told: its cells -/
set_option maxRecDepth 100000
section SU
variable {ρ : Type} {S : g_Sh} {W : g_V} {L : g_L} {a k i t N ci M B len : Nat} {r : Nat → Option (Option Nat)} {c : Int32}
theorem su_arN (h : S a = some (d_obj ci M r)) (hi : (r i).isSome = true) (hk : a < k) : ∃ S' W', (∀ K : c_S → Option ρ, zNewI (S, W, L, k) t N (fun Z b => zPR Z a ci M i (some b) K) = K (S', W', L, k + 1)) ∧ S' a = some (d_obj ci M (updR r i (some k))) ∧ S' k = some (d_int t N) ∧ (∀ b, b ≠ a → b ≠ k → S' b = S b) ∧ (∀ b, b ≠ k → W' b = W b) ∧ W' k = fun _ => 0 := by
  refine ⟨updS (updS S k (d_int t N)) a (d_obj ci M (updR r i (some k))), rowV W k (fun _ => 0), fun K => ?_, updS_eq, ?_, fun b h1 h2 => ?_, fun b h1 => rowV_ne h1, rowV_eq _ _ _⟩
  · unfold zNewI
    simp only [zSh_T, zV_T, zL_T, zn_T]
    rw [zPR_T (rf := r) (by rw [updS_ne (by omega)]; exact h) hi]
  · rw [updS_ne (by omega), updS_eq]
  · rw [updS_ne h1, updS_ne h2]
theorem su_list (h : S a = some (d_obj ci M r)) (hi : (r i).isSome = true) (hk : a < k) : ∃ S' W', (∀ K : c_S → Option ρ, zNew (S, W, L, k) 14 3 tyJ2 (fun Z b => bnd (cm_J2_init Z b 4) (fun Z' => zPR Z' a ci M i (some b) K)) = K (S', W', L, k + 2)) ∧ S' a = some (d_obj ci M (updR r i (some k))) ∧ S' k = some (d_obj 14 3 (updR (zrf tyJ2) 1 (some (k + 1)))) ∧ S' (k + 1) = some (d_ref 5 4 (fun _ => none)) ∧ (∀ b, b ≠ a → b ≠ k → b ≠ k + 1 → S' b = S b) ∧ (∀ b, b ≠ k → W' b = W b) ∧ W' k 2 = 0 := by
  refine ⟨updS (updS (updS (updS S k (d_obj 14 3 (zrf tyJ2))) (k + 1) (d_ref 5 4 (fun _ => none))) k (d_obj 14 3 (updR (zrf tyJ2) 1 (some (k + 1))))) a (d_obj ci M (updR r i (some k))), rowV (rowV W k (fun _ => 0)) k (upd (rowV W k (fun _ => 0) k) 0 0), fun K => ?_, updS_eq, ?_, ?_, fun b h1 h2 h3 => ?_, fun b h1 => ?_, ?_⟩
  · unfold zNew
    simp only [zSh_T, zV_T, zL_T, zn_T]
    rw [cm_list_new (by omega) updS_eq, bnd_S, zPR_T (rf := r) (by rw [updS_ne (by omega), updS_ne (by omega), updS_ne (by omega)]; exact h) hi]
  · rw [updS_ne (by omega), updS_eq]
  · rw [updS_ne (by omega), updS_ne (by omega), updS_eq]
  · rw [updS_ne h1, updS_ne h2, updS_ne h3, updS_ne h2]
  · rw [rowV_ne h1, rowV_ne h1]
  · rw [rowV_eq, upd_ne (by omega), rowV_eq]
theorem su_ref (h : S a = some (d_obj ci M r)) (hi : (r i).isSome = true) (hk : a < k) (hc : ¬ (c < 0 ∨ B < c.toNatClampNeg)) (hl : c.toNatClampNeg = len) : ∃ S', (∀ K : c_S → Option ρ, zNewR (S, W, L, k) t B c (fun Z b => zPR Z a ci M i (some b) K) = K (S', W, L, k + 1)) ∧ S' a = some (d_obj ci M (updR r i (some k))) ∧ S' k = some (d_ref t len (fun _ => none)) ∧ (∀ b, b ≠ a → b ≠ k → S' b = S b) := by
  refine ⟨updS (updS S k (d_ref t len (fun _ => none))) a (d_obj ci M (updR r i (some k))), fun K => ?_, updS_eq, ?_, fun b h1 h2 => ?_⟩
  · unfold zNewR
    rw [if_neg hc, hl]
    simp only [zSh_T, zV_T, zL_T, zn_T]
    rw [zPR_T (rf := r) (by rw [updS_ne (by omega)]; exact h) hi]
  · rw [updS_ne (by omega), updS_eq]
  · rw [updS_ne h1, updS_ne h2]
end SU
/-- a list of nothing -/
theorem LSt_new {S : g_Sh} {l e : Nat} {g : Nat → Nat} (h1 : S l = some (d_obj 14 3 (updR (zrf tyJ2) 1 (some e)))) (h2 : S e = some (d_ref 5 4 (fun _ => none))) : LSt S l e 0 g := by
  have jy0 : zrf tyJ2 0 = none := by decide
  have jy2 : zrf tyJ2 2 = none := by decide
  exact ⟨⟨_, h1, by simp [updR, jy0], by simp [updR], by simp [updR, jy2]⟩, 4, fun _ => none, h2, by omega, Or.inl rfl, fun p hp => by omega⟩
/-- what is told when nothing is told yet: at a, its cells from k on -/
def TN (S : g_Sh) (W : g_V) (a k : Nat) : Prop := (∃ rf, S a = some (d_obj 2 13 rf) ∧ rf 0 = some (some k) ∧ rf 1 = some (some (k + 1)) ∧ rf 2 = some (some (k + 2)) ∧ rf 3 = some (some (k + 3)) ∧ rf 4 = some (some (k + 5)) ∧ rf 5 = some (some (k + 7)) ∧ ∀ i, 6 ≤ i → i ≤ 12 → rf i = none) ∧ S k = some (d_ref 8 4 (fun _ => none)) ∧ S (k + 1) = some (d_int 0 144) ∧ S (k + 2) = some (d_int 0 12) ∧ (∀ g, LSt S (k + 3) (k + 4) 0 g ∧ LSt S (k + 5) (k + 6) 0 g ∧ LSt S (k + 7) (k + 8) 0 g) ∧ (W a 6 = 100 ∧ W a 7 = -1 ∧ W a 11 = 99999 ∧ W a 12 = 0) ∧ (W (k + 1) = fun _ => 0) ∧ (∀ y, y < 12 → W (k + 2) y = -1) ∧ W (k + 3) 2 = 0 ∧ W (k + 5) 2 = 0 ∧ W (k + 7) 2 = 0
section TNW
variable {S : g_Sh} {W : g_V} {L : g_L} {a k : Nat}
theorem told_loop {rf : Nat → Option (Option Nat)} (h : S a = some (d_obj 2 13 rf)) {b : Nat} (h2 : rf 2 = some (some b)) (hb : S b = some (d_int 0 12)) : cm_X2_init_L84 a 1000 0 (S, W, L, k) = some (S, rowV W b (fun y => if y < 12 then -1 else W b y), L, k) := by
  have hr := lp_run (F := cm_X2_init_F84 a) (N := 12) (st := fun i => (nI i, ((S, rowV W b (fun y => if y < i then -1 else W b y), L, k) : c_S))) (out := (S, rowV W b (fun y => if y < 12 then -1 else W b y), L, k)) ?_ ?_ 1000 0 (by omega) (by omega)
  · have e0 : (fun y => if y < 0 then -1 else W b y) = W b := by funext y; exact if_neg (by omega)
    rw [e0, rowV_self, nI_0] at hr
    exact hr
  · intro rec i hi
    have q2 : upd (fun y => if y < i then -1 else W b y) i (-1) = fun y => if y < i + 1 then -1 else W b y := by
      funext y
      by_cases e : y = i
      · subst e; rw [upd_eq, if_pos (by omega)]
      · rw [upd_ne e]
        by_cases c : y < i
        · rw [if_pos c, if_pos (by omega)]
        · rw [if_neg c, if_neg (by omega)]
    unfold cm_X2_init_F84
    simp (disch := omega) only [cm_X2_init_B84, zSh_T, zV_T, zL_T, zn_T, L_add, L_addR, L_mul, L_mulR, L_div, N_div, N_rem, L_sub, L_subN, nI_add, nI_mul, L_le, L_leR, L_lt, L_ltR, L_eq, N_leT, N_leF, N_ltT, N_ltF, N_eqT, N_eqF, N_m1, bnd_S, un2_S, un3_S, nmI_S, nmL_S, ptI_S, cs2_L, cs2_R, okI_b, okI_1, okI_0, rdI_in, wrI_in, rdI_L, wrI_L, rdL_in, wrL_in, if_true, if_false, cA_eq h h2, zsI_T hb, upd2_row, rowV_eq, rowV_over, q2]
  · intro rec
    unfold cm_X2_init_F84
    simp (disch := omega) only [cm_X2_init_B84, L_add, L_addR, L_mul, L_mulR, L_div, N_div, N_rem, L_sub, L_subN, nI_add, nI_mul, L_le, L_leR, L_lt, L_ltR, L_eq, N_leT, N_leF, N_ltT, N_ltF, N_eqT, N_eqF, N_m1, bnd_S, un2_S, un3_S, nmI_S, nmL_S, ptI_S, cs2_L, cs2_R, okI_b, okI_1, okI_0, rdI_in, wrI_in, rdI_L, wrI_L, rdL_in, wrL_in, if_true, if_false]
set_option maxHeartbeats 4000000 in
theorem cm_told_new (h : S a = some (d_obj 2 13 (zrf tyX2))) (hv : W a = fun _ => 0) (hk : a < k) : ∃ S' W', cm_X2_init (S, W, L, k) a = some (S', W', L, k + 9) ∧ TN S' W' a k ∧ ∀ b, b ≠ a → b < k → S' b = S b ∧ W' b = W b := by
  have z0 : zrf tyX2 0 = some none := by decide
  have z1 : zrf tyX2 1 = some none := by decide
  have z2 : zrf tyX2 2 = some none := by decide
  have z3 : zrf tyX2 3 = some none := by decide
  have z4 : zrf tyX2 4 = some none := by decide
  have z5 : zrf tyX2 5 = some none := by decide
  have z6 : zrf tyX2 6 = none := by decide
  have z7 : zrf tyX2 7 = none := by decide
  have z8 : zrf tyX2 8 = none := by decide
  have z9 : zrf tyX2 9 = none := by decide
  have z10 : zrf tyX2 10 = none := by decide
  have z11 : zrf tyX2 11 = none := by decide
  have z12 : zrf tyX2 12 = none := by decide
  obtain ⟨S0, e0, h0, k0, g0⟩ := su_ref (ρ := c_S) (S := S) (W := W) (L := L) (a := a) (k := k) (i := 0) (t := 8) (B := 4) (len := 4) (c := 4) h (by simp [z0]) hk (by decide) (by decide)
  obtain ⟨S1, W1, e1, h1, k1, g1, v1, y1⟩ := su_arN (ρ := c_S) (S := S0) (W := W) (L := L) (k := k + 1) (i := 1) (t := 0) (N := 144) h0 (by simp [updR, z1]) (by omega)
  obtain ⟨S2, W2, e2, h2, k2, g2, v2, y2⟩ := su_arN (ρ := c_S) (S := S1) (W := W1) (L := L) (k := k + 2) (i := 2) (t := 0) (N := 12) h1 (by simp [updR, z2]) (by omega)
  obtain ⟨S3, W3, e3, h3, k3, l3, g3, v3, y3⟩ := su_list (ρ := c_S) (S := S2) (W := W2) (L := L) (k := k + 3) (i := 3) h2 (by simp [updR, z3]) (by omega)
  obtain ⟨S4, W4, e4, h4, k4, l4, g4, v4, y4⟩ := su_list (ρ := c_S) (S := S3) (W := W3) (L := L) (k := k + 5) (i := 4) h3 (by simp [updR, z4]) (by omega)
  obtain ⟨S5, W5, e5, h5, k5, l5, g5, v5, y5⟩ := su_list (ρ := c_S) (S := S4) (W := W4) (L := L) (k := k + 7) (i := 5) h4 (by simp [updR, z5]) (by omega)
  obtain ⟨rf, hrf⟩ : ∃ rf, rf = updR (updR (updR (updR (updR (updR (zrf tyX2) 0 (some k)) 1 (some (k + 1))) 2 (some (k + 2))) 3 (some (k + 3))) 4 (some (k + 5))) 5 (some (k + 7)) := ⟨_, rfl⟩
  rw [← hrf] at h5
  have r0 : rf 0 = some (some k) := by rw [hrf]; simp [updR]
  have r1 : rf 1 = some (some (k + 1)) := by rw [hrf]; simp [updR]
  have r2 : rf 2 = some (some (k + 2)) := by rw [hrf]; simp [updR]
  have r3 : rf 3 = some (some (k + 3)) := by rw [hrf]; simp [updR]
  have r4 : rf 4 = some (some (k + 5)) := by rw [hrf]; simp [updR]
  have r5 : rf 5 = some (some (k + 7)) := by rw [hrf]; simp [updR]
  have rn : ∀ i, 6 ≤ i → i ≤ 12 → rf i = none := fun i h6 h12 => by
    have : i = 6 ∨ i = 7 ∨ i = 8 ∨ i = 9 ∨ i = 10 ∨ i = 11 ∨ i = 12 := by omega
    rw [hrf]
    rcases this with rfl | rfl | rfl | rfl | rfl | rfl | rfl <;> simp [updR, z6, z7, z8, z9, z10, z11, z12]
  have s2 : S5 (k + 2) = some (d_int 0 12) := by simp (disch := omega) only [g5, g4, g3]; exact k2
  have va : W5 a = fun _ => 0 := by simp (disch := omega) only [v5, v4, v3, v2, v1]; exact hv
  have lp0 := told_loop (W := upd2 (upd2 (upd2 W5 a 6 100) a 7 (-1)) a 11 99999) (L := L) (k := k + 9) h5 r2 s2
  refine ⟨S5, rowV (upd2 (upd2 (upd2 W5 a 6 100) a 7 (-1)) a 11 99999) (k + 2) (fun y => if y < 12 then -1 else upd2 (upd2 (upd2 W5 a 6 100) a 7 (-1)) a 11 99999 (k + 2) y), ?_, ⟨⟨rf, h5, r0, r1, r2, r3, r4, r5, rn⟩, ?_, ?_, s2, fun g => ⟨LSt_new ?_ ?_, LSt_new ?_ ?_, LSt_new ?_ ?_⟩, ⟨?_, ?_, ?_, ?_⟩, ?_, fun y hy => ?_, ?_, ?_, ?_⟩, fun b hb hbk => ⟨?_, ?_⟩⟩
  · unfold cm_X2_init
    rw [e0, e1, e2, e3, e4, e5, zPI_T h5 (rn 6 (by omega) (by omega)), zPI_T h5 (rn 7 (by omega) (by omega)), zPI_T h5 (rn 11 (by omega) (by omega)), lp0, bnd_S]
  · simp (disch := omega) only [g5, g4, g3, g2, g1]; exact k0
  · simp (disch := omega) only [g5, g4, g3, g2]; exact k1
  · simp (disch := omega) only [g5, g4]; exact k3
  · simp (disch := omega) only [g5, g4]; exact l3
  · simp (disch := omega) only [g5]; exact k4
  · simp (disch := omega) only [g5]; exact l4
  · exact k5
  · exact l5
  · rw [rowV_ne (by omega), upd2_eq, upd_ne (by omega), upd2_eq, upd_ne (by omega), upd2_eq, upd_eq]
  · rw [rowV_ne (by omega), upd2_eq, upd_ne (by omega), upd2_eq, upd_eq]
  · rw [rowV_ne (by omega), upd2_eq, upd_eq]
  · rw [rowV_ne (by omega), upd2_eq, upd_ne (by omega), upd2_eq, upd_ne (by omega), upd2_eq, upd_ne (by omega), va]
  · rw [rowV_ne (by omega), upd2_ne _ (by omega), upd2_ne _ (by omega), upd2_ne _ (by omega)]
    simp (disch := omega) only [v5, v4, v3, v2]; exact y1
  · rw [rowV_eq, if_pos hy]
  · rw [rowV_ne (by omega), upd2_ne _ (by omega), upd2_ne _ (by omega), upd2_ne _ (by omega)]
    simp (disch := omega) only [v5, v4]; exact y3
  · rw [rowV_ne (by omega), upd2_ne _ (by omega), upd2_ne _ (by omega), upd2_ne _ (by omega)]
    simp (disch := omega) only [v5]; exact y4
  · rw [rowV_ne (by omega), upd2_ne _ (by omega), upd2_ne _ (by omega), upd2_ne _ (by omega)]
    exact y5
  · simp (disch := omega) only [g5, g4, g3, g2, g1, g0]
  · rw [rowV_ne (by omega), upd2_ne _ hb, upd2_ne _ hb, upd2_ne _ hb]
    simp (disch := omega) only [v5, v4, v3, v2, v1]
end TNW
