/-! PURE: the reference's questions about its row -/
set_option maxRecDepth 100000
theorem z0m1 : nI 0 + (-1) = -1 := by decide
section PT4
variable {V : g_V} {c k : Nat}
theorem tw_bes3b1 (hc : c < 144) : tw_beside (nI c) (nI 3) = tw_beside_J47 (nI (c % 12)) (nI (c / 12)) (-1) := by
  have h0 : ¬ nI 3 = 0 := by decide
  have h1 : ¬ nI 3 = 1 := by decide
  have h2 : ¬ nI 3 = 2 := by decide
  have h3 : nI 3 = 3 := by decide
  unfold tw_beside
  rw [if_neg h0, if_neg h1]
  unfold tw_beside_J22
  rw [nmI_S, if_neg h2, if_pos h3]
  simp (disch := omega) only [L_add, L_addR, L_mul, L_mulR, L_div, N_div, N_rem, L_sub, L_subN, nI_add, nI_mul, L_le, L_leR, L_lt, L_ltR, L_eq, N_leT, N_leF, N_ltT, N_ltF, N_eqT, N_eqF, N_m1, Nat.add_zero]
theorem tw_bes3a (hc : c < 144) (h : c / 12 = 0) : tw_beside (nI c) (nI 3) = some (-1) := by
  rw [tw_bes3b1 hc]
  simp (disch := omega) only [tw_beside_J47, L_add, L_addR, L_mul, L_mulR, L_div, N_div, N_rem, L_sub, L_subN, nI_add, nI_mul, L_le, L_leR, L_lt, L_ltR, L_eq, N_leT, N_leF, N_ltT, N_ltF, N_eqT, N_eqF, N_m1, bnd_S, un2_S, un3_S, nmI_S, nmL_S, ptI_S, cs2_L, cs2_R, okI_b, okI_1, okI_0, rdI_in, wrI_in, rdI_L, wrI_L, rdL_in, wrL_in, if_true, if_false, h, z0m1, pl_neg2]
theorem tw_bes3b (hc : c < 144) (h : ¬ c / 12 = 0) : tw_beside (nI c) (nI 3) = some (nI (c - 12)) := by
  rw [tw_bes3b1 hc]
  have h2 : c % 12 ≤ 11 ∧ c / 12 - 1 ≤ 11 := by omega
  have h3 : 12 * (c / 12 - 1) + c % 12 = c - 12 := by omega
  simp (disch := omega) only [tw_beside_J47, L_add, L_addR, L_mul, L_mulR, L_div, N_div, N_rem, L_sub, L_subN, nI_add, nI_mul, L_le, L_leR, L_lt, L_ltR, L_eq, N_leT, N_leF, N_ltT, N_ltF, N_eqT, N_eqF, N_m1, bnd_S, un2_S, un3_S, nmI_S, nmL_S, ptI_S, cs2_L, cs2_R, okI_b, okI_1, okI_0, rdI_in, wrI_in, rdI_L, wrI_L, rdL_in, wrL_in, if_true, if_false, L_m1, pl_eq, b2iF, Nat.add_zero, h2, h3, decide_eq_true_eq, decide_eq_false_iff_not, not_true_eq_false]
  simp
theorem tw_bes1a (hc : c < 144) (h : c % 12 = 0) : tw_beside (nI c) (nI 1) = some (-1) := by
  simp (disch := omega) only [tw_beside, tw_beside_J22, tw_beside_J47, L_add, L_addR, L_mul, L_mulR, L_div, N_div, N_rem, L_sub, L_subN, nI_add, nI_mul, L_le, L_leR, L_lt, L_ltR, L_eq, N_leT, N_leF, N_ltT, N_ltF, N_eqT, N_eqF, N_m1, bnd_S, un2_S, un3_S, nmI_S, nmL_S, ptI_S, cs2_L, cs2_R, okI_b, okI_1, okI_0, rdI_in, wrI_in, rdI_L, wrI_L, rdL_in, wrL_in, if_true, if_false, h, z0m1, pl_neg1]
theorem tw_bes1b (hc : c < 144) (h : ¬ c % 12 = 0) : tw_beside (nI c) (nI 1) = some (nI (c - 1)) := by
  have h2 : c % 12 - 1 ≤ 11 ∧ c / 12 ≤ 11 := by omega
  have h3 : 12 * (c / 12) + (c % 12 - 1) = c - 1 := by omega
  simp (disch := omega) only [tw_beside, tw_beside_J22, tw_beside_J47, L_add, L_addR, L_mul, L_mulR, L_div, N_div, N_rem, L_sub, L_subN, nI_add, nI_mul, L_le, L_leR, L_lt, L_ltR, L_eq, N_leT, N_leF, N_ltT, N_ltF, N_eqT, N_eqF, N_m1, bnd_S, un2_S, un3_S, nmI_S, nmL_S, ptI_S, cs2_L, cs2_R, okI_b, okI_1, okI_0, rdI_in, wrI_in, rdI_L, wrI_L, rdL_in, wrL_in, if_true, if_false, L_m1, pl_eq, b2iF, Nat.add_zero, h2, h3, decide_eq_true_eq, decide_eq_false_iff_not, not_true_eq_false]
  simp
theorem tw_bes0a (hc : c < 144) : tw_beside (nI c) (nI 0) = some (oI0 (pBes c 0)) := by rw [nI_0]; exact tw_bes0 hc
theorem tw_bes2a (hc : c < 144) : tw_beside (nI c) (nI 2) = some (oI0 (pBes c 2)) := by rw [show nI 2 = 2 from rfl]; exact tw_bes2 hc
theorem tw_beside_eq (hc : c < 144) (hk : k < 4) : tw_beside (nI c) (nI k) = some (oI0 (pBes c k)) := by
  have h4 : k = 0 ∨ k = 1 ∨ k = 2 ∨ k = 3 := by omega
  rcases h4 with rfl | rfl | rfl | rfl
  · exact tw_bes0a hc
  · by_cases h : c % 12 = 0
    · rw [tw_bes1a hc h]; unfold pBes; rw [if_neg (by omega), if_pos rfl, if_pos h]; rfl
    · rw [tw_bes1b hc h]; unfold pBes; rw [if_neg (by omega), if_pos rfl, if_neg h]; rfl
  · exact tw_bes2a hc
  · by_cases h : c / 12 = 0
    · rw [tw_bes3a hc h]; unfold pBes; rw [if_neg (by omega), if_neg (by omega), if_neg (by omega), if_pos h]; rfl
    · rw [tw_bes3b hc h]; unfold pBes; rw [if_neg (by omega), if_neg (by omega), if_neg (by omega), if_neg h]; rfl
theorem pBes_lt {d : Nat} (hc : c < 144) (h : pBes c k = some d) : d < 144 := by
  unfold pBes at h
  split at h
  · split at h
    · cases h
    · cases h; omega
  · split at h
    · split at h
      · cases h
      · cases h; omega
    · split at h
      · split at h
        · cases h
        · cases h; omega
      · split at h
        · cases h
        · cases h; omega
theorem oI0_n : (oI0 none = -1) = True := eq_true rfl
theorem oI0_s {d : Nat} (h : d < 2 ^ 31) : (oI0 (some d) = -1) = False := N_m1 h
/-- beside the shaft -/
def pBs (w : Nat → Int32) (c : Nat) : Bool := itr (fun k (b : Bool) => b || (match pBes c k with
  | none => false
  | some d => pShf w d)) false 4
def pBss (w : Nat → Int32) (c : Nat) : Bool := pBs w c && !pShf w c
theorem tw_isBesideShaft_eq (hc : c < 144) : tw_isBesideShaft V (nI c) = some (b2i (pBss (V 1) c)) := by
  have h : tw_isBesideShaft_L4 (nI c) V 1000 0 0 = some (b2i (pBs (V 1) c)) := by
    unfold tw_isBesideShaft_L4
    refine lp_itr (N := 4) (mk := fun (b : Bool) i => (b2i b, nI i)) (f := fun k (b : Bool) => b || (match pBes c k with
      | none => false
      | some d => pShf (V 1) d)) (out := b2i) (a := false) ?_ ?_ (by omega)
    · intro rec i b hi
      unfold tw_isBesideShaft_F4
      simp (disch := omega) only [tw_isBesideShaft_B4, L_add, L_addR, L_mul, L_mulR, L_div, N_div, N_rem, L_sub, L_subN, nI_add, nI_mul, L_le, L_leR, L_lt, L_ltR, L_eq, N_leT, N_leF, N_ltT, N_ltF, N_eqT, N_eqF, N_m1, bnd_S, un2_S, un3_S, nmI_S, nmL_S, ptI_S, cs2_L, cs2_R, okI_b, okI_1, okI_0, rdI_in, wrI_in, rdI_L, wrI_L, rdL_in, wrL_in, if_true, if_false, b2iF, tw_beside_eq hc hi]
      cases b
      · simp only [if_true, Bool.false_or]
        cases hb : pBes c i with
        | none => simp [oI0, b2i]
        | some d =>
          have hd := pBes_lt hc hb
          simp (disch := omega) only [oI0, N_m1, if_false, bnd_S, un2_S, un3_S, nmI_S, nmL_S, ptI_S, cs2_L, cs2_R, okI_b, okI_1, okI_0, rdI_in, wrI_in, rdI_L, wrI_L, rdL_in, wrL_in, if_true, if_false, tw_isShaft_eq hd, b2iF]
          cases pShf (V 1) d <;> simp [b2i]
      · simp [b2i]
    · intro rec b
      unfold tw_isBesideShaft_F4
      simp (disch := omega) only [tw_isBesideShaft_B4, L_add, L_addR, L_mul, L_mulR, L_div, N_div, N_rem, L_sub, L_subN, nI_add, nI_mul, L_le, L_leR, L_lt, L_ltR, L_eq, N_leT, N_leF, N_ltT, N_ltF, N_eqT, N_eqF, N_m1, bnd_S, un2_S, un3_S, nmI_S, nmL_S, ptI_S, cs2_L, cs2_R, okI_b, okI_1, okI_0, rdI_in, wrI_in, rdI_L, wrI_L, rdL_in, wrL_in, if_true, if_false]
  unfold tw_isBesideShaft
  rw [h]
  simp only [bnd_S, un2_S, un3_S, nmI_S, nmL_S, ptI_S, cs2_L, cs2_R, okI_b, okI_1, okI_0, rdI_in, wrI_in, rdI_L, wrI_L, rdL_in, wrL_in, if_true, if_false, b2iF, tw_isShaft_eq hc]
  unfold pBss
  cases pBs (V 1) c <;> cases pShf (V 1) c <;> simp [b2i]
theorem tw_isOpen_eq (hk : pKok (V 1)) (hc : c < 144) : tw_isOpen V (nI c) = some (b2i (!pShf (V 1) c && !pFro (V 1) c)) := by
  unfold tw_isOpen
  simp only [bnd_S, un2_S, un3_S, nmI_S, nmL_S, ptI_S, cs2_L, cs2_R, okI_b, okI_1, okI_0, rdI_in, wrI_in, rdI_L, wrI_L, rdL_in, wrL_in, if_true, if_false, b2iF, tw_isShaft_eq hc, tw_isFrozen_eq hk hc]
  cases pShf (V 1) c <;> cases pFro (V 1) c <;> simp [b2i]
theorem tw_hasShaft_eq : tw_hasShaft V = some (b2i (pHas (V 1))) := by
  unfold tw_hasShaft pHas
  simp (disch := omega) only [bnd_S, un2_S, un3_S, nmI_S, nmL_S, ptI_S, cs2_L, cs2_R, okI_b, okI_1, okI_0, rdI_in, wrI_in, rdI_L, wrI_L, rdL_in, wrL_in, if_true, if_false]
  by_cases h : V 1 7 = 1 <;> simp [h, b2i]
/-- the heat of all -/
def pHeat (w : Nat → Int32) : Int32 := itr (fun c (a : Int32) => a + (if pDug w c = true then 0 else w (192 + c) - w (336 + c))) 0 144
theorem tw_heatNow_eq : tw_heatNow V = some (pHeat (V 1)) := by
  have h : tw_heatNow_L4 V 1000 0 0 = some (pHeat (V 1)) := by
    unfold tw_heatNow_L4
    refine lp_itr (N := 144) (mk := fun (a : Int32) i => (a, nI i)) (f := fun c a => a + (if pDug (V 1) c = true then 0 else V 1 (192 + c) - V 1 (336 + c))) (out := fun x => x) (a := 0) ?_ ?_ (by omega)
    · intro rec i a hi
      unfold tw_heatNow_F4
      simp (disch := omega) only [tw_heatNow_B4, L_add, L_addR, L_mul, L_mulR, L_div, N_div, N_rem, L_sub, L_subN, nI_add, nI_mul, L_le, L_leR, L_lt, L_ltR, L_eq, N_leT, N_leF, N_ltT, N_ltF, N_eqT, N_eqF, N_m1, bnd_S, un2_S, un3_S, nmI_S, nmL_S, ptI_S, cs2_L, cs2_R, okI_b, okI_1, okI_0, rdI_in, wrI_in, rdI_L, wrI_L, rdL_in, wrL_in, if_true, if_false]
      unfold pDug
      by_cases h : V 1 (480 + i) = 1 <;> simp [h]
    · intro rec a
      unfold tw_heatNow_F4
      simp (disch := omega) only [tw_heatNow_B4, L_add, L_addR, L_mul, L_mulR, L_div, N_div, N_rem, L_sub, L_subN, nI_add, nI_mul, L_le, L_leR, L_lt, L_ltR, L_eq, N_leT, N_leF, N_ltT, N_ltF, N_eqT, N_eqF, N_m1, bnd_S, un2_S, un3_S, nmI_S, nmL_S, ptI_S, cs2_L, cs2_R, okI_b, okI_1, okI_0, rdI_in, wrI_in, rdI_L, wrI_L, rdL_in, wrL_in, if_true, if_false]
  unfold tw_heatNow
  rw [h]
  rfl
/-- the lift of a column -/
def pLift (w : Nat → Int32) (x : Nat) : Int32 := itr (fun y (a : Int32) => a + (if pDug w (12 * y + x) = true then 0 else w (336 + (12 * y + x)) / 10)) 0 12
theorem tw_liftOf_eq {x : Nat} (hx : x < 12) : tw_liftOf V (nI x) = some (pLift (V 1) x) := by
  have h : tw_liftOf_L4 (nI x) V 1000 0 0 = some (pLift (V 1) x) := by
    unfold tw_liftOf_L4
    refine lp_itr (N := 12) (mk := fun (a : Int32) i => (a, nI i)) (f := fun y a => a + (if pDug (V 1) (12 * y + x) = true then 0 else V 1 (336 + (12 * y + x)) / 10)) (out := fun x => x) (a := 0) ?_ ?_ (by omega)
    · intro rec i a hi
      unfold tw_liftOf_F4
      have hc : 12 * i + x < 144 := by omega
      simp (disch := omega) only [tw_liftOf_B4, L_add, L_addR, L_mul, L_mulR, L_div, N_div, N_rem, L_sub, L_subN, nI_add, nI_mul, L_le, L_leR, L_lt, L_ltR, L_eq, N_leT, N_leF, N_ltT, N_ltF, N_eqT, N_eqF, N_m1, bnd_S, un2_S, un3_S, nmI_S, nmL_S, ptI_S, cs2_L, cs2_R, okI_b, okI_1, okI_0, rdI_in, wrI_in, rdI_L, wrI_L, rdL_in, wrL_in, if_true, if_false, tw_isDug_eq hc, b2iF, Nat.add_assoc]
      cases pDug (V 1) (12 * i + x) <;> simp
    · intro rec a
      unfold tw_liftOf_F4
      simp (disch := omega) only [tw_liftOf_B4, L_add, L_addR, L_mul, L_mulR, L_div, N_div, N_rem, L_sub, L_subN, nI_add, nI_mul, L_le, L_leR, L_lt, L_ltR, L_eq, N_leT, N_leF, N_ltT, N_ltF, N_eqT, N_eqF, N_m1, bnd_S, un2_S, un3_S, nmI_S, nmL_S, ptI_S, cs2_L, cs2_R, okI_b, okI_1, okI_0, rdI_in, wrI_in, rdI_L, wrI_L, rdL_in, wrL_in, if_true, if_false]
  unfold tw_liftOf
  rw [h]
  rfl
def pAny (w : Nat → Int32) : Bool := itr (fun c (b : Bool) => b || pDug w c) false 144
theorem tw_anyDug_eq : tw_anyDug V = some (b2i (pAny (V 1))) := by
  have h : tw_anyDug_L4 V 1000 0 0 = some (b2i (pAny (V 1))) := by
    unfold tw_anyDug_L4
    refine lp_itr (N := 144) (mk := fun (b : Bool) i => (b2i b, nI i)) (f := fun c b => b || pDug (V 1) c) (out := b2i) (a := false) ?_ ?_ (by omega)
    · intro rec i b hi
      unfold tw_anyDug_F4
      simp (disch := omega) only [tw_anyDug_B4, L_add, L_addR, L_mul, L_mulR, L_div, N_div, N_rem, L_sub, L_subN, nI_add, nI_mul, L_le, L_leR, L_lt, L_ltR, L_eq, N_leT, N_leF, N_ltT, N_ltF, N_eqT, N_eqF, N_m1, bnd_S, un2_S, un3_S, nmI_S, nmL_S, ptI_S, cs2_L, cs2_R, okI_b, okI_1, okI_0, rdI_in, wrI_in, rdI_L, wrI_L, rdL_in, wrL_in, if_true, if_false, tw_isDug_eq hi, b2iF]
      cases b <;> cases pDug (V 1) i <;> simp [b2i]
    · intro rec a
      unfold tw_anyDug_F4
      simp (disch := omega) only [tw_anyDug_B4, L_add, L_addR, L_mul, L_mulR, L_div, N_div, N_rem, L_sub, L_subN, nI_add, nI_mul, L_le, L_leR, L_lt, L_ltR, L_eq, N_leT, N_leF, N_ltT, N_ltF, N_eqT, N_eqF, N_m1, bnd_S, un2_S, un3_S, nmI_S, nmL_S, ptI_S, cs2_L, cs2_R, okI_b, okI_1, okI_0, rdI_in, wrI_in, rdI_L, wrI_L, rdL_in, wrL_in, if_true, if_false]
  unfold tw_anyDug
  rw [h]
  simp only [bnd_S, un2_S, un3_S, nmI_S, nmL_S, ptI_S, cs2_L, cs2_R, okI_b, okI_1, okI_0, rdI_in, wrI_in, rdI_L, wrI_L, rdL_in, wrL_in, if_true, if_false]
end PT4
