/-! PURE: a field and what it is told, both new -/
set_option maxRecDepth 100000
def nf2 (f k : Nat) : Nat → Nat := fun i => if i = 0 then f else if i ≤ 5 then k + i - 1 else if i = 6 then k + 6 else if i ≤ 10 then k + i + 1 else if i = 11 then k + 5 else k + 7
section NF2
variable {S : g_Sh} {W : g_V} {L : g_L} {f k : Nat} {gp : Nat → Nat}
theorem nf2_d {i : Nat} (hi : i < 13) : (i = 0 ∧ nf2 f k i = f) ∨ (1 ≤ i ∧ i ≤ 5 ∧ nf2 f k i = k + i - 1) ∨ (i = 6 ∧ nf2 f k i = k + 6) ∨ (7 ≤ i ∧ i ≤ 10 ∧ nf2 f k i = k + i + 1) ∨ (i = 11 ∧ nf2 f k i = k + 5) ∨ (i = 12 ∧ nf2 f k i = k + 7) := by
  unfold nf2
  (repeat' split) <;> omega
theorem nf2_inj (hf : f < k) : inj (nf2 f k) 0 0 := by
  intro i j hi hj e
  have d1 := nf2_d (f := f) (k := k) (show i < 13 by omega)
  have d2 := nf2_d (f := f) (k := k) (show j < 13 by omega)
  omega
theorem nf2_b (hf : f < k) {i : Nat} (hi : i < 13) : nf2 f k i = f ∨ (k ≤ nf2 f k i ∧ nf2 f k i < k + 12) := by
  have d1 := nf2_d (f := f) (k := k) hi
  omega
theorem nf2_lt (hf : f < k) : ∀ i, (i < 13 + 0 ∨ (31 ≤ i ∧ i < 31 + 0)) → nf2 f k i < k + 12 := by
  intro i hi
  have := nf2_b (f := f) (k := k) hf (show i < 13 by omega)
  omega
theorem nf2_0 : nf2 f k 0 = f := by have := nf2_d (f := f) (k := k) (show 0 < 13 by omega); omega
theorem nf2_1 : nf2 f k 1 = k := by have := nf2_d (f := f) (k := k) (show 1 < 13 by omega); omega
theorem nf2_2 : nf2 f k 2 = k + 1 := by have := nf2_d (f := f) (k := k) (show 2 < 13 by omega); omega
theorem nf2_3 : nf2 f k 3 = k + 2 := by have := nf2_d (f := f) (k := k) (show 3 < 13 by omega); omega
theorem nf2_4 : nf2 f k 4 = k + 3 := by have := nf2_d (f := f) (k := k) (show 4 < 13 by omega); omega
theorem nf2_5 : nf2 f k 5 = k + 4 := by have := nf2_d (f := f) (k := k) (show 5 < 13 by omega); omega
theorem nf2_6 : nf2 f k 6 = k + 6 := by have := nf2_d (f := f) (k := k) (show 6 < 13 by omega); omega
theorem nf2_7 : nf2 f k 7 = k + 8 := by have := nf2_d (f := f) (k := k) (show 7 < 13 by omega); omega
theorem nf2_8 : nf2 f k 8 = k + 9 := by have := nf2_d (f := f) (k := k) (show 8 < 13 by omega); omega
theorem nf2_9 : nf2 f k 9 = k + 10 := by have := nf2_d (f := f) (k := k) (show 9 < 13 by omega); omega
theorem nf2_10 : nf2 f k 10 = k + 11 := by have := nf2_d (f := f) (k := k) (show 10 < 13 by omega); omega
theorem nf2_11 : nf2 f k 11 = k + 5 := by have := nf2_d (f := f) (k := k) (show 11 < 13 by omega); omega
theorem nf2_12 : nf2 f k 12 = k + 7 := by have := nf2_d (f := f) (k := k) (show 12 < 13 by omega); omega
section SV
variable {ρ : Type} {a i t N ci M : Nat} {r : Nat → Option (Option Nat)}
theorem sv_arr (h : S a = some (d_obj ci M r)) (hi : (r i).isSome = true) (hk : a < k) : ∃ S' W' r', (∀ K : c_S → Option ρ, zNewI (S, W, L, k) t N (fun Z b => zPR Z a ci M i (some b) K) = K (S', W', L, k + 1)) ∧ S' a = some (d_obj ci M r') ∧ r' i = some (some k) ∧ (∀ j, j ≠ i → r' j = r j) ∧ S' k = some (d_int t N) ∧ (∀ b, b ≠ a → b ≠ k → S' b = S b) ∧ (∀ b, b ≠ k → W' b = W b) := by
  obtain ⟨S', W', h1, h2, h3, h4, h5, -⟩ := su_arN (ρ := ρ) (S := S) (W := W) (L := L) (t := t) (N := N) h hi hk
  exact ⟨S', W', _, h1, h2, by unfold updR; rw [if_pos rfl], fun j hj => by unfold updR; rw [if_neg hj], h3, h4, h5⟩
theorem sv_list (h : S a = some (d_obj ci M r)) (hi : (r i).isSome = true) (hk : a < k) : ∃ S' W' r', (∀ K : c_S → Option ρ, zNew (S, W, L, k) 14 3 tyJ2 (fun Z b => bnd (cm_J2_init Z b 4) (fun Z' => zPR Z' a ci M i (some b) K)) = K (S', W', L, k + 2)) ∧ S' a = some (d_obj ci M r') ∧ r' i = some (some k) ∧ (∀ j, j ≠ i → r' j = r j) ∧ (∀ g, LSt S' k (k + 1) 0 g) ∧ (∀ b, b ≠ a → b ≠ k → b ≠ k + 1 → S' b = S b) ∧ (∀ b, b ≠ k → W' b = W b) ∧ W' k 2 = 0 := by
  obtain ⟨S', W', h1, h2, h3, h4, h5, h6, h7⟩ := su_list (ρ := ρ) (S := S) (W := W) (L := L) h hi hk
  exact ⟨S', W', _, h1, h2, by unfold updR; rw [if_pos rfl], fun j hj => by unfold updR; rw [if_neg hj], fun g => LSt_new h3 h4, h5, h6, h7⟩
end SV
set_option maxHeartbeats 4000000 in
theorem cm_field_new2 (t : Nat) (h : S f = some (d_obj 1 20 (zrf tyX1))) (hf : f < k) : ∃ S' W', cm_X1_init gp (S, W, L, k) f t = bnd (cm_X1_begins gp (S', W', L, k + 12) f t) (fun Z_40 => some Z_40) ∧ FN S' W' (k + 12) (nf2 f k) 0 0 ∧ ∀ b, b ≠ f → b < k → S' b = S b ∧ W' b = W b := by
  have zs : ∀ i, i < 9 ∨ i = 18 ∨ i = 19 → (zrf tyX1 i).isSome = true := fun i hi => by
    have : i = 0 ∨ i = 1 ∨ i = 2 ∨ i = 3 ∨ i = 4 ∨ i = 5 ∨ i = 6 ∨ i = 7 ∨ i = 8 ∨ i = 18 ∨ i = 19 := by omega
    rcases this with rfl | rfl | rfl | rfl | rfl | rfl | rfl | rfl | rfl | rfl | rfl <;> decide
  have zn : ∀ i, 9 ≤ i → i ≤ 17 → zrf tyX1 i = none := fun i h9 h17 => by
    have : i = 9 ∨ i = 10 ∨ i = 11 ∨ i = 12 ∨ i = 13 ∨ i = 14 ∨ i = 15 ∨ i = 16 ∨ i = 17 := by omega
    rcases this with rfl | rfl | rfl | rfl | rfl | rfl | rfl | rfl | rfl <;> decide
  obtain ⟨S0, W0, r0, e0, h0, i0, o0, k0, g0, v0⟩ := sv_arr (ρ := c_S) (S := S) (W := W) (L := L) (a := f) (k := k) (i := 1) (t := 0) (N := 144) h (zs 1 (by omega)) (by omega)
  obtain ⟨S1, W1, r1, e1, h1, i1, o1, k1, g1, v1⟩ := sv_arr (ρ := c_S) (S := S0) (W := W0) (L := L) (a := f) (k := k + 1) (i := 2) (t := 0) (N := 144) h0 (by rw [o0 2 (by omega)]; exact zs 2 (by omega)) (by omega)
  obtain ⟨S2, W2, r2, e2, h2, i2, o2, k2, g2, v2⟩ := sv_arr (ρ := c_S) (S := S1) (W := W1) (L := L) (a := f) (k := k + 2) (i := 3) (t := 0) (N := 144) h1 (by rw [o1 3 (by omega), o0 3 (by omega)]; exact zs 3 (by omega)) (by omega)
  obtain ⟨S3, W3, r3, e3, h3, i3, o3, k3, g3, v3⟩ := sv_arr (ρ := c_S) (S := S2) (W := W2) (L := L) (a := f) (k := k + 3) (i := 4) (t := 2) (N := 144) h2 (by rw [o2 4 (by omega), o1 4 (by omega), o0 4 (by omega)]; exact zs 4 (by omega)) (by omega)
  obtain ⟨S4, W4, r4, e4, h4, i4, o4, k4, g4, v4, y4⟩ := sv_list (ρ := c_S) (S := S3) (W := W3) (L := L) (a := f) (k := k + 4) (i := 5) h3 (by rw [o3 5 (by omega), o2 5 (by omega), o1 5 (by omega), o0 5 (by omega)]; exact zs 5 (by omega)) (by omega)
  obtain ⟨S5, W5, r5, e5, h5, i5, o5, k5, g5, v5, y5⟩ := sv_list (ρ := c_S) (S := S4) (W := W4) (L := L) (a := f) (k := k + 6) (i := 6) h4 (by rw [o4 6 (by omega), o3 6 (by omega), o2 6 (by omega), o1 6 (by omega), o0 6 (by omega)]; exact zs 6 (by omega)) (by omega)
  obtain ⟨S6, W6, r6, e6, h6, i6, o6, k6, g6, v6⟩ := sv_arr (ρ := c_S) (S := S5) (W := W5) (L := L) (a := f) (k := k + 8) (i := 7) (t := 0) (N := 10) h5 (by rw [o5 7 (by omega), o4 7 (by omega), o3 7 (by omega), o2 7 (by omega), o1 7 (by omega), o0 7 (by omega)]; exact zs 7 (by omega)) (by omega)
  obtain ⟨S7, W7, r7, e7, h7, i7, o7, k7, g7, v7⟩ := sv_arr (ρ := c_S) (S := S6) (W := W6) (L := L) (a := f) (k := k + 9) (i := 8) (t := 0) (N := 10) h6 (by rw [o6 8 (by omega), o5 8 (by omega), o4 8 (by omega), o3 8 (by omega), o2 8 (by omega), o1 8 (by omega), o0 8 (by omega)]; exact zs 8 (by omega)) (by omega)
  obtain ⟨S8, W8, r8, e8, h8, i8, o8, k8, g8, v8⟩ := sv_arr (ρ := c_S) (S := S7) (W := W7) (L := L) (a := f) (k := k + 10) (i := 18) (t := 0) (N := 144) h7 (by rw [o7 18 (by omega), o6 18 (by omega), o5 18 (by omega), o4 18 (by omega), o3 18 (by omega), o2 18 (by omega), o1 18 (by omega), o0 18 (by omega)]; exact zs 18 (by omega)) (by omega)
  obtain ⟨S9, W9, r9, e9, h9, i9, o9, k9, g9, v9⟩ := sv_arr (ρ := c_S) (S := S8) (W := W8) (L := L) (a := f) (k := k + 11) (i := 19) (t := 0) (N := 580) h8 (by rw [o8 19 (by omega), o7 19 (by omega), o6 19 (by omega), o5 19 (by omega), o4 19 (by omega), o3 19 (by omega), o2 19 (by omega), o1 19 (by omega), o0 19 (by omega)]; exact zs 19 (by omega)) (by omega)
  refine ⟨S9, W9, ?_, ⟨⟨r9, h9, ?_, fun i a1 a8 => ?_, ?_, ?_, fun i a9 a17 => ?_⟩, ⟨?_, ?_, ?_, ?_, ?_, ?_, ?_, ?_⟩, ⟨?_, ?_, fun p hp => by omega, fun p hp => by omega⟩, nf2_inj hf, nf2_lt hf, ?_, ?_, by omega, by omega⟩, fun b hb hbk => ⟨?_, ?_⟩⟩
  · unfold cm_X1_init
    rw [e0, e1, e2, e3, e4, e5, e6, e7, e8, e9, zK_T h9]
  · rw [o9 0 (by omega), o8 0 (by omega), o7 0 (by omega), o6 0 (by omega), o5 0 (by omega), o4 0 (by omega), o3 0 (by omega), o2 0 (by omega), o1 0 (by omega), o0 0 (by omega)]; exact zs 0 (by omega)
  · have : i = 1 ∨ i = 2 ∨ i = 3 ∨ i = 4 ∨ i = 5 ∨ i = 6 ∨ i = 7 ∨ i = 8 := by omega
    rcases this with rfl | rfl | rfl | rfl | rfl | rfl | rfl | rfl
    · rw [o9 1 (by omega), o8 1 (by omega), o7 1 (by omega), o6 1 (by omega), o5 1 (by omega), o4 1 (by omega), o3 1 (by omega), o2 1 (by omega), o1 1 (by omega), i0, nf2_1]
    · rw [o9 2 (by omega), o8 2 (by omega), o7 2 (by omega), o6 2 (by omega), o5 2 (by omega), o4 2 (by omega), o3 2 (by omega), o2 2 (by omega), i1, nf2_2]
    · rw [o9 3 (by omega), o8 3 (by omega), o7 3 (by omega), o6 3 (by omega), o5 3 (by omega), o4 3 (by omega), o3 3 (by omega), i2, nf2_3]
    · rw [o9 4 (by omega), o8 4 (by omega), o7 4 (by omega), o6 4 (by omega), o5 4 (by omega), o4 4 (by omega), i3, nf2_4]
    · rw [o9 5 (by omega), o8 5 (by omega), o7 5 (by omega), o6 5 (by omega), o5 5 (by omega), i4, nf2_5]
    · rw [o9 6 (by omega), o8 6 (by omega), o7 6 (by omega), o6 6 (by omega), i5, nf2_6]
    · rw [o9 7 (by omega), o8 7 (by omega), o7 7 (by omega), i6, nf2_7]
    · rw [o9 8 (by omega), o8 8 (by omega), i7, nf2_8]
  · rw [o9 18 (by omega), i8, nf2_9]
  · rw [i9, nf2_10]
  · rw [o9 i (by omega), o8 i (by omega), o7 i (by omega), o6 i (by omega), o5 i (by omega), o4 i (by omega), o3 i (by omega), o2 i (by omega), o1 i (by omega), o0 i (by omega)]; exact zn i a9 a17
  · rw [nf2_1, g9 _ (by omega) (by omega), g8 _ (by omega) (by omega), g7 _ (by omega) (by omega), g6 _ (by omega) (by omega), g5 _ (by omega) (by omega) (by omega), g4 _ (by omega) (by omega) (by omega), g3 _ (by omega) (by omega), g2 _ (by omega) (by omega), g1 _ (by omega) (by omega)]; exact k0
  · rw [nf2_2, g9 _ (by omega) (by omega), g8 _ (by omega) (by omega), g7 _ (by omega) (by omega), g6 _ (by omega) (by omega), g5 _ (by omega) (by omega) (by omega), g4 _ (by omega) (by omega) (by omega), g3 _ (by omega) (by omega), g2 _ (by omega) (by omega)]; exact k1
  · rw [nf2_3, g9 _ (by omega) (by omega), g8 _ (by omega) (by omega), g7 _ (by omega) (by omega), g6 _ (by omega) (by omega), g5 _ (by omega) (by omega) (by omega), g4 _ (by omega) (by omega) (by omega), g3 _ (by omega) (by omega)]; exact k2
  · rw [nf2_4, g9 _ (by omega) (by omega), g8 _ (by omega) (by omega), g7 _ (by omega) (by omega), g6 _ (by omega) (by omega), g5 _ (by omega) (by omega) (by omega), g4 _ (by omega) (by omega) (by omega)]; exact k3
  · rw [nf2_7, g9 _ (by omega) (by omega), g8 _ (by omega) (by omega), g7 _ (by omega) (by omega)]; exact k6
  · rw [nf2_8, g9 _ (by omega) (by omega), g8 _ (by omega) (by omega)]; exact k7
  · rw [nf2_9, g9 _ (by omega) (by omega)]; exact k8
  · rw [nf2_10]; exact k9
  · rw [nf2_5, nf2_11]
    exact LSt_k (k4 _) (by rw [g9 _ (by omega) (by omega), g8 _ (by omega) (by omega), g7 _ (by omega) (by omega), g6 _ (by omega) (by omega), g5 _ (by omega) (by omega) (by omega)]) (by rw [g9 _ (by omega) (by omega), g8 _ (by omega) (by omega), g7 _ (by omega) (by omega), g6 _ (by omega) (by omega), g5 _ (by omega) (by omega) (by omega)])
  · rw [nf2_6, nf2_12]
    exact LSt_k (k5 _) (by rw [g9 _ (by omega) (by omega), g8 _ (by omega) (by omega), g7 _ (by omega) (by omega), g6 _ (by omega) (by omega)]) (by rw [g9 _ (by omega) (by omega), g8 _ (by omega) (by omega), g7 _ (by omega) (by omega), g6 _ (by omega) (by omega)])
  · rw [nf2_5, v9 _ (by omega), v8 _ (by omega), v7 _ (by omega), v6 _ (by omega), v5 _ (by omega)]; exact y4
  · rw [nf2_6, v9 _ (by omega), v8 _ (by omega), v7 _ (by omega), v6 _ (by omega)]; exact y5
  · rw [g9 b hb (by omega), g8 b hb (by omega), g7 b hb (by omega), g6 b hb (by omega), g5 b hb (by omega) (by omega), g4 b hb (by omega) (by omega), g3 b hb (by omega), g2 b hb (by omega), g1 b hb (by omega), g0 b hb (by omega)]
  · rw [v9 b (by omega), v8 b (by omega), v7 b (by omega), v6 b (by omega), v5 b (by omega), v4 b (by omega), v3 b (by omega), v2 b (by omega), v1 b (by omega), v0 b (by omega)]
theorem Td_same {S' : g_Sh} {V V' : g_V} {κ u : Nat → Nat} {V2 : g_V} {np nh nr : Nat} (h : Td S V κ u V2 np nh nr) (hz : ∀ a, 1 ≤ κ a → κ a ≤ 7 → S' a = S a ∧ V' a = V a) : Td S' V' κ u V2 np nh nr := by
  obtain ⟨n1, n2, n3, n4, n5, n6, n7, n8⟩ := Td_keep (Sh' := S') (V' := V') (κ' := κ) (u' := u) (V2' := V2) 0 h (fun a a1 a7 _ => ⟨(hz a a1 a7).1, (hz a a1 a7).2, rfl⟩) (fun _ _ => rfl) (fun _ _ => rfl) (fun _ => rfl) (fun _ => rfl)
  exact ⟨n1 (by omega), n2 (by omega), n3 (by omega), n4 (by omega), n5 (by omega), n6 (by omega), n7 (by omega), n8⟩
/-- a new field with a new told one -/
theorem new_field {ρ : Type} : ∃ (S' : g_Sh) (W' : g_V) (k' : Nat) (m u : Nat → Nat) (τ : Nat → Bool), (∀ K : c_S → Nat → Option ρ, zNew (S, W, L, k) 1 20 tyX1 (fun Z_4 a_5 => zNew Z_4 2 13 tyX2 fun Z_6 a_7 => bnd (cm_X2_init Z_6 a_7) (fun Z_10 => bnd (cm_X3_whole Z_10 a_7) (un2 fun o_13 Z_14 => nn o_13 fun a_15 => bnd (cm_X1_init gp Z_14 a_5 a_15) (fun Z_18 => K Z_18 a_5)))) = K (S', W', L, k') k) ∧ k < k' ∧ (∀ b, b < k → S' b = S b ∧ W' b = W b) ∧ m 0 = k ∧ FX S' W' k' m (u 0) 0 0 ∧ (∀ i, i < 13 → k ≤ m i ∧ m i < k' ∧ τ (m i) = false) ∧ ∀ (ρ' : Nat → Nat) (own : Nat), own ≠ 1 → (∀ a, k ≤ a → a < k' → ρ' a = if τ a = true then 1 else own) → Fld (S', W', L, k') ρ' own m u (pBeg plR) := by
  obtain ⟨S1, hS1⟩ : ∃ S1, S1 = updS S k (d_obj 1 20 (zrf tyX1)) := ⟨_, rfl⟩
  obtain ⟨W1, hW1⟩ : ∃ W1 : g_V, W1 = rowV W k (fun _ => 0) := ⟨_, rfl⟩
  obtain ⟨S2, W2, e2, tn, f2⟩ := cm_told_new (S := updS S1 (k + 1) (d_obj 2 13 (zrf tyX2))) (W := rowV W1 (k + 1) (fun _ => 0)) (L := L) (a := k + 1) (k := k + 2) updS_eq (rowV_eq _ _ _) (by omega)
  have kz : ∀ b, κN (k + 1) (k + 2) b ≠ 0 → k + 1 ≤ b ∧ b < k + 11 := fun b hb => by
    unfold κN at hb
    by_cases c1 : b = k + 1
    · omega
    rw [if_neg c1] at hb
    by_cases c2 : b < k + 2 ∨ k + 2 + 9 ≤ b
    · rw [if_pos c2] at hb; exact absurd rfl hb
    · omega
  have td := Td_new (V2 := fun a j => if a = 15 then plR j else 0) (κ := κN (k + 1) (k + 2)) tn (fun j _ => if_pos rfl) (fun g _ => if_neg (by omega)) (fun y _ => if_neg (by omega)) (fun _ _ => rfl) (by omega)
  have u0 : uN (k + 1) (k + 2) 0 = k + 1 := rfl
  obtain ⟨Sb, Vb, nb, κb, ub, Wb, g1, g2, g3, g4, g5, g6, g7, g8, g9⟩ := gr_all (L := L) (n := k + 11) (N0 := k + 1) td kz (by omega)
  have hw15 : Wb 15 = plR := by rw [g3]; funext j; exact if_pos rfl
  have fk : Sb k = some (d_obj 1 20 (zrf tyX1)) := by
    have c : κN (k + 1) (k + 2) k = 0 := by
      by_cases c : κN (k + 1) (k + 2) k = 0
      · exact c
      · have := kz k c; omega
    rw [(g8 k (by omega) (by rw [c]; omega)).1, (f2 k (by omega) (by omega)).1, updS_ne (by omega), hS1, updS_eq]
  obtain ⟨Sc, Vc, c1, c2, c3⟩ := cm_field_new2 (S := Sb) (W := Vb) (L := L) (k := nb) (gp := gp) (ub 0) fk (by omega)
  have tdc : Td Sc Vc κb ub Wb 0 0 0 := Td_same g2 (fun a a1 a7 => by
    have := g6 a (by omega)
    exact c3 a (by omega) (by omega))
  have kb0 : κb (ub 0) = 1 := g2.1.2.1
  have u0n := g6 (ub 0) (by omega)
  have hl : Vc (ub 0) 12 = Wb 15 0 := by
    rw [(c3 _ (by omega) u0n.2).2, g5, (g8 _ (by rw [u0]; omega) (by rw [td.1.2.1]; omega)).2, u0, tn.2.2.2.2.2.1.2.2.2, hw15]; rfl
  obtain ⟨S', W', k', m', b1, b2, b3, b4, b5, b6, b7⟩ := beg_Fld (L := L) (gp := gp) c2 tdc g4 hl (fun a ha => by have := g6 a ha; omega) (fun a a1 a7 i hi e => by
    have := g6 a (by omega)
    have := nf2_b (f := k) (k := nb) (by omega) (show i < 13 by omega)
    omega)
  obtain ⟨τ, hτ⟩ : ∃ τ : Nat → Bool, τ = fun a => decide (1 ≤ κb a ∧ κb a ≤ 7) := ⟨_, rfl⟩
  have n0 : nf2 k nb 0 = k := rfl
  have mi : ∀ i, i < 13 → k ≤ m' i ∧ m' i < k' ∧ τ (m' i) = false := fun i hi => by
    have hlt := b4.2.2.2.2.1 i (by omega)
    have hk0 : ∀ a, a = k ∨ nb ≤ a → τ a = false := fun a ha => by
      rw [hτ]
      refine decide_eq_false (fun hc => ?_)
      have := g6 a (by omega)
      omega
    rcases b5 i (by omega) with ⟨j, j1, j2⟩ | c
    · rcases nf2_b (f := k) (k := nb) (by omega) j1 with q | q
      · exact ⟨by omega, hlt, hk0 _ (by omega)⟩
      · exact ⟨by omega, hlt, hk0 _ (by omega)⟩
    · exact ⟨by omega, hlt, hk0 _ (by omega)⟩
  refine ⟨S', W', k', m', ub, τ, fun K => ?_, by omega, fun b hb => ?_, by rw [b3]; rfl, b4, mi, fun ρ' own ho hr => ?_⟩
  · unfold zNew
    simp only [zSh_T, zV_T, zL_T, zn_T]
    rw [← hS1, ← hW1, e2, bnd_S]
    have g1' : cm_X3_whole (S2, W2, L, k + 1 + 1 + 9) (k + 1) = some (some (k + 1), (Sb, Vb, L, nb)) := g1
    rw [g1', bnd_S, un2_S, nn_eq]
    have u0b : ub 0 = k + 1 := by rw [g5, u0]
    rw [← u0b, c1]
    have b1' : cm_X1_begins gp (Sc, Vc, L, nb + 12) k (ub 0) = some (S', W', L, k') := b1
    rw [b1', bnd_S, bnd_S]
  · have p1 := b6 b (by omega) (fun i hi e => by have := nf2_b (f := k) (k := nb) (by omega) (show i < 13 by omega); omega)
    have p2 := c3 b (by omega) (by omega)
    have c : κN (k + 1) (k + 2) b = 0 := by
      by_cases c : κN (k + 1) (k + 2) b = 0
      · exact c
      · have := kz b c; omega
    have p3 := g8 b (by omega) (by rw [c]; omega)
    have p4 := f2 b (by omega) (by omega)
    exact ⟨by rw [p1.1, p2.1, p3.1, p4.1, updS_ne (by omega), hS1, updS_ne (by omega)], by rw [p1.2, p2.2, p3.2, p4.2, rowV_ne (by omega), hW1, rowV_ne (by omega)]⟩
  · rw [← hw15]
    refine b7 ρ' own ho (fun a a1 a7 => ?_) (fun i hi => ?_) (fun a a1 a2 => ?_)
    · have := g6 a (by omega)
      rw [hr a (by omega) (by omega), if_pos (by rw [hτ]; exact decide_eq_true ⟨a1, a7⟩)]
    · have q := nf2_b (f := k) (k := nb) (by omega) hi
      rw [hr _ (by omega) (by omega), if_neg]
      rw [hτ]
      intro hc
      have hc := of_decide_eq_true hc
      have := g6 _ (show κb (nf2 k nb i) ≠ 0 by omega)
      omega
    · rw [hr a (by omega) a2, if_neg]
      rw [hτ]
      intro hc
      have hc := of_decide_eq_true hc
      have := g6 _ (show κb a ≠ 0 by omega)
      omega
end NF2
