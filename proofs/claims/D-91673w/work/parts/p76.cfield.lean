/-! PURE: a new field -/
set_option maxRecDepth 100000
section NF
variable {Sh Sh' : g_Sh} {V V' V0 : g_V} {L L' : g_L} {n n' x : Nat} {gp : Nat → Nat}
/-- a new list -/
theorem cm_list_new {a : Nat} (ha : a < n) (h : Sh a = some (d_obj 14 3 (zrf tyJ2))) : cm_J2_init (Sh, V, L, n) a 4 = some (updS (updS Sh n (d_ref 5 4 (fun _ => none))) a (d_obj 14 3 (updR (zrf tyJ2) 1 (some n))), rowV V a (upd (V a) 0 0), L, n + 1) := by
  have z0 : zrf tyJ2 0 = none := by decide
  have z1 : zrf tyJ2 1 = some none := by decide
  have c4 : (4 : Int32).toNatClampNeg = 4 := by decide
  unfold cm_J2_init cm_J1_init cm_J0_init
  simp only [bnd_S]
  rw [zPI_T h z0, bnd_S, if_neg (show ¬ (4 : Int32) ≤ 0 by decide)]
  unfold zNewR
  rw [if_neg (show ¬ ((4 : Int32) < 0 ∨ 4 < (4 : Int32).toNatClampNeg) by decide), c4]
  simp only [zSh_T, zV_T, zL_T, zn_T]
  rw [zPR_T (rf := zrf tyJ2) (by rw [updS_ne (by omega)]; exact h) (by rw [z1]; rfl)]
  rfl
def nf (n : Nat) : Nat → Nat := fun i => if i = 0 then n else if i ≤ 5 then n + i else if i = 6 then n + 7 else if i ≤ 10 then n + i + 2 else if i = 11 then n + 6 else n + 8
theorem nf_inj : inj (nf n) 0 0 := by
  intro i j hi hj e
  have hi : i < 13 := by omega
  have hj : j < 13 := by omega
  have d : ∀ k, k < 13 → (k = 0 ∧ nf n k = n) ∨ (1 ≤ k ∧ k ≤ 5 ∧ nf n k = n + k) ∨ (k = 6 ∧ nf n k = n + 7) ∨ (7 ≤ k ∧ k ≤ 10 ∧ nf n k = n + k + 2) ∨ (k = 11 ∧ nf n k = n + 6) ∨ (k = 12 ∧ nf n k = n + 8) := by
    intro k hk
    unfold nf
    (repeat' split) <;> omega
  have d1 := d i hi
  have d2 := d j hj
  omega
theorem nf_lt : ∀ i, (i < 13 + 0 ∨ (31 ≤ i ∧ i < 31 + 0)) → nf n i < n + 13 := by
  intro i hi
  have hi : i < 13 := by omega
  unfold nf
  (repeat' split) <;> omega
theorem nf_ge (i : Nat) : n ≤ nf n i := by
  unfold nf
  (repeat' split) <;> omega
section STS
variable {ρ : Type} {S : g_Sh} {W : g_V} {k i t N : Nat} {r : Nat → Option (Option Nat)}
theorem st_arr (h : S n = some (d_obj 1 20 r)) (hi : (r i).isSome = true) (hk : n < k) : ∃ S' W', (∀ K : c_S → Option ρ, zNewI (S, W, L, k) t N (fun Z a => zPR Z n 1 20 i (some a) K) = K (S', W', L, k + 1)) ∧ S' n = some (d_obj 1 20 (updR r i (some k))) ∧ S' k = some (d_int t N) ∧ (∀ b, b ≠ n → b ≠ k → S' b = S b) ∧ (∀ b, b ≠ k → W' b = W b) ∧ W' k = fun _ => 0 := by
  refine ⟨updS (updS S k (d_int t N)) n (d_obj 1 20 (updR r i (some k))), rowV W k (fun _ => 0), fun K => ?_, updS_eq, ?_, fun b h1 h2 => ?_, fun b h1 => rowV_ne h1, rowV_eq _ _ _⟩
  · unfold zNewI
    simp only [zSh_T, zV_T, zL_T, zn_T]
    rw [zPR_T (rf := r) (by rw [updS_ne (by omega)]; exact h) hi]
  · rw [updS_ne (by omega), updS_eq]
  · rw [updS_ne h1, updS_ne h2]
theorem st_list (h : S n = some (d_obj 1 20 r)) (hi : (r i).isSome = true) (hk : n < k) : ∃ S' W', (∀ K : c_S → Option ρ, zNew (S, W, L, k) 14 3 tyJ2 (fun Z a => bnd (cm_J2_init Z a 4) (fun Z' => zPR Z' n 1 20 i (some a) K)) = K (S', W', L, k + 2)) ∧ S' n = some (d_obj 1 20 (updR r i (some k))) ∧ S' k = some (d_obj 14 3 (updR (zrf tyJ2) 1 (some (k + 1)))) ∧ S' (k + 1) = some (d_ref 5 4 (fun _ => none)) ∧ (∀ b, b ≠ n → b ≠ k → b ≠ k + 1 → S' b = S b) ∧ (∀ b, b ≠ k → W' b = W b) ∧ W' k 2 = 0 := by
  refine ⟨updS (updS (updS (updS S k (d_obj 14 3 (zrf tyJ2))) (k + 1) (d_ref 5 4 (fun _ => none))) k (d_obj 14 3 (updR (zrf tyJ2) 1 (some (k + 1))))) n (d_obj 1 20 (updR r i (some k))), rowV (rowV W k (fun _ => 0)) k (upd (rowV W k (fun _ => 0) k) 0 0), fun K => ?_, updS_eq, ?_, ?_, fun b h1 h2 h3 => ?_, fun b h1 => ?_, ?_⟩
  · unfold zNew
    simp only [zSh_T, zV_T, zL_T, zn_T]
    rw [cm_list_new (by omega) updS_eq, bnd_S, zPR_T (rf := r) (by rw [updS_ne (by omega), updS_ne (by omega), updS_ne (by omega)]; exact h) hi]
  · rw [updS_ne (by omega), updS_eq]
  · rw [updS_ne (by omega), updS_ne (by omega), updS_eq]
  · rw [updS_ne h1, updS_ne h2, updS_ne h3, updS_ne h2]
  · rw [rowV_ne h1, rowV_ne h1]
  · rw [rowV_eq, upd_ne (by omega), rowV_eq]
end STS
set_option maxHeartbeats 4000000 in
theorem cm_field_new (t : Nat) : ∃ Sh' V', cm_X1_init gp (updS Sh n (d_obj 1 20 (zrf tyX1)), rowV V n (fun _ => 0), L, n + 1) n t = bnd (cm_X1_begins gp (Sh', V', L, n + 13) n t) (fun Z_40 => some Z_40) ∧ FN Sh' V' (n + 13) (nf n) 0 0 ∧ ∀ b, b < n → Sh' b = Sh b ∧ V' b = V b := by
  have z0 : zrf tyX1 0 = some none := by decide
  have z1 : zrf tyX1 1 = some none := by decide
  have z2 : zrf tyX1 2 = some none := by decide
  have z3 : zrf tyX1 3 = some none := by decide
  have z4 : zrf tyX1 4 = some none := by decide
  have z5 : zrf tyX1 5 = some none := by decide
  have z6 : zrf tyX1 6 = some none := by decide
  have z7 : zrf tyX1 7 = some none := by decide
  have z8 : zrf tyX1 8 = some none := by decide
  have z18 : zrf tyX1 18 = some none := by decide
  have z19 : zrf tyX1 19 = some none := by decide
  have z9 : zrf tyX1 9 = none := by decide
  have z10 : zrf tyX1 10 = none := by decide
  have z11 : zrf tyX1 11 = none := by decide
  have z12 : zrf tyX1 12 = none := by decide
  have z13 : zrf tyX1 13 = none := by decide
  have z14 : zrf tyX1 14 = none := by decide
  have z15 : zrf tyX1 15 = none := by decide
  have z16 : zrf tyX1 16 = none := by decide
  have z17 : zrf tyX1 17 = none := by decide
  have jy0 : zrf tyJ2 0 = none := by decide
  have jy2 : zrf tyJ2 2 = none := by decide
  have f1 : nf n 1 = n + 1 := rfl
  have f2 : nf n 2 = n + 2 := rfl
  have f3 : nf n 3 = n + 3 := rfl
  have f4 : nf n 4 = n + 4 := rfl
  have f5 : nf n 5 = n + 5 := rfl
  have f6 : nf n 6 = n + 7 := rfl
  have f7 : nf n 7 = n + 9 := rfl
  have f8 : nf n 8 = n + 10 := rfl
  have f9 : nf n 9 = n + 11 := rfl
  have f10 : nf n 10 = n + 12 := rfl
  have f11 : nf n 11 = n + 6 := rfl
  have f12 : nf n 12 = n + 8 := rfl
  have f0 : nf n 0 = n := rfl
  obtain ⟨S0, W0, e0, h0, k0, g0, v0, y0⟩ := st_arr (S := (updS Sh n (d_obj 1 20 (zrf tyX1)))) (W := (rowV V n (fun _ => 0))) (L := L) (n := n) (k := n + 1) (i := 1) (t := 0) (N := 144) updS_eq (by simp [updR, z1]) (by omega)
  obtain ⟨S1, W1, e1, h1, k1, g1, v1, y1⟩ := st_arr (S := S0) (W := W0) (L := L) (n := n) (k := n + 2) (i := 2) (t := 0) (N := 144) h0 (by simp [updR, z2]) (by omega)
  obtain ⟨S2, W2, e2, h2, k2, g2, v2, y2⟩ := st_arr (S := S1) (W := W1) (L := L) (n := n) (k := n + 3) (i := 3) (t := 0) (N := 144) h1 (by simp [updR, z3]) (by omega)
  obtain ⟨S3, W3, e3, h3, k3, g3, v3, y3⟩ := st_arr (S := S2) (W := W2) (L := L) (n := n) (k := n + 4) (i := 4) (t := 2) (N := 144) h2 (by simp [updR, z4]) (by omega)
  obtain ⟨S4, W4, e4, h4, k4, l4, g4, v4, y4⟩ := st_list (S := S3) (W := W3) (L := L) (n := n) (k := n + 5) (i := 5) h3 (by simp [updR, z5]) (by omega)
  obtain ⟨S5, W5, e5, h5, k5, l5, g5, v5, y5⟩ := st_list (S := S4) (W := W4) (L := L) (n := n) (k := n + 7) (i := 6) h4 (by simp [updR, z6]) (by omega)
  obtain ⟨S6, W6, e6, h6, k6, g6, v6, y6⟩ := st_arr (S := S5) (W := W5) (L := L) (n := n) (k := n + 9) (i := 7) (t := 0) (N := 10) h5 (by simp [updR, z7]) (by omega)
  obtain ⟨S7, W7, e7, h7, k7, g7, v7, y7⟩ := st_arr (S := S6) (W := W6) (L := L) (n := n) (k := n + 10) (i := 8) (t := 0) (N := 10) h6 (by simp [updR, z8]) (by omega)
  obtain ⟨S8, W8, e8, h8, k8, g8, v8, y8⟩ := st_arr (S := S7) (W := W7) (L := L) (n := n) (k := n + 11) (i := 18) (t := 0) (N := 144) h7 (by simp [updR, z18]) (by omega)
  obtain ⟨S9, W9, e9, h9, k9, g9, v9, y9⟩ := st_arr (S := S8) (W := W8) (L := L) (n := n) (k := n + 12) (i := 19) (t := 0) (N := 580) h8 (by simp [updR, z19]) (by omega)
  refine ⟨S9, W9, ?_, ⟨⟨_, h9, ?_⟩, ?_, ?_, nf_inj, nf_lt, ?_, ?_, by omega, by omega⟩, fun b hb => ⟨?_, ?_⟩⟩
  · unfold cm_X1_init
    rw [e0, e1, e2, e3, e4, e5, e6, e7, e8, e9, zK_T h9]
  · refine ⟨?_, fun i h1 h8 => ?_, ?_, ?_, fun i h9 h17 => ?_⟩
    · simp [updR, z0]
    · have : i = 1 ∨ i = 2 ∨ i = 3 ∨ i = 4 ∨ i = 5 ∨ i = 6 ∨ i = 7 ∨ i = 8 := by omega
      rcases this with rfl | rfl | rfl | rfl | rfl | rfl | rfl | rfl <;> simp [updR, f1, f2, f3, f4, f5, f6, f7, f8]
    · simp [updR, f9]
    · simp [updR, f10]
    · have : i = 9 ∨ i = 10 ∨ i = 11 ∨ i = 12 ∨ i = 13 ∨ i = 14 ∨ i = 15 ∨ i = 16 ∨ i = 17 := by omega
      rcases this with rfl | rfl | rfl | rfl | rfl | rfl | rfl | rfl | rfl <;> simp [updR, z9, z10, z11, z12, z13, z14, z15, z16, z17]
  · unfold FSa
    rw [f1, f2, f3, f4, f7, f8, f9, f10]
    refine ⟨?_, ?_, ?_, ?_, ?_, ?_, ?_, ?_⟩
    · simp (disch := omega) only [g9, g8, g7, g6, g5, g4, g3, g2, g1]; exact k0
    · simp (disch := omega) only [g9, g8, g7, g6, g5, g4, g3, g2]; exact k1
    · simp (disch := omega) only [g9, g8, g7, g6, g5, g4, g3]; exact k2
    · simp (disch := omega) only [g9, g8, g7, g6, g5, g4]; exact k3
    · simp (disch := omega) only [g9, g8, g7]; exact k6
    · simp (disch := omega) only [g9, g8]; exact k7
    · simp (disch := omega) only [g9]; exact k8
    · exact k9
  · unfold FSp
    rw [f5, f6, f11, f12]
    refine ⟨⟨⟨updR (zrf tyJ2) 1 (some (n + 6)), ?_, ?_, ?_, ?_⟩, 4, fun _ => none, ?_, by omega, Or.inl rfl, fun p hp => by omega⟩, ⟨⟨updR (zrf tyJ2) 1 (some (n + 8)), ?_, ?_, ?_, ?_⟩, 4, fun _ => none, ?_, by omega, Or.inl rfl, fun p hp => by omega⟩, fun p hp => by omega, fun p hp => by omega⟩
    · simp (disch := omega) only [g9, g8, g7, g6, g5]; exact k4
    · simp [updR, jy0]
    · simp [updR]
    · simp [updR, jy2]
    · simp (disch := omega) only [g9, g8, g7, g6, g5]; exact l4
    · simp (disch := omega) only [g9, g8, g7, g6]; exact k5
    · simp [updR, jy0]
    · simp [updR]
    · simp [updR, jy2]
    · simp (disch := omega) only [g9, g8, g7, g6]; exact l5
  · rw [f5]
    simp (disch := omega) only [v9, v8, v7, v6, v5]; exact y4
  · rw [f6]
    simp (disch := omega) only [v9, v8, v7, v6]; exact y5
  · simp (disch := omega) only [g9, g8, g7, g6, g5, g4, g3, g2, g1, g0, updS_ne]
  · simp (disch := omega) only [v9, v8, v7, v6, v5, v4, v3, v2, v1, v0, rowV_ne]
end NF
