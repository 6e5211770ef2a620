/-! PURE: THE COMPONENT's FIELD AND WHAT IT IS TOLD, as rows.
m: addresses of a field: 0 itself, 1 warm 2 ice 3 came 4 dug 5 pipes 6 houses 7 gaugeAt 8 reading 9 far 10 queue 11, 12 the lists' arrays, 13 + p pipes, 31 + h houses.
u: addresses of what is told: 0 itself, 1 grounds 2 laid 3 stream, 4 + g grounds -/
set_option maxRecDepth 100000
def live (np nh i : Nat) : Prop := i < 13 + np ∨ (31 ≤ i ∧ i < 31 + nh)
def inj (m : Nat → Nat) (np nh : Nat) : Prop := ∀ i j, (i < 13 + np ∨ (31 ≤ i ∧ i < 31 + nh)) → (j < 13 + np ∨ (31 ≤ j ∧ j < 31 + nh)) → m i = m j → i = j
def gO (Sh : g_Sh) (a ci N : Nat) (rf : Nat → Option (Option Nat)) : Prop := Sh a = some (d_obj ci N rf)
def LSt (Sh : g_Sh) (l e n : Nat) (g : Nat → Nat) : Prop := (∃ rf, Sh l = some (d_obj 14 3 rf) ∧ rf 0 = none ∧ rf 1 = some (some e) ∧ rf 2 = none) ∧ ∃ cap el, Sh e = some (d_ref 5 cap el) ∧ n ≤ cap ∧ (cap = 4 ∨ cap = 6 ∨ cap = 9 ∨ cap = 13 ∨ cap = 19) ∧ ∀ p, p < n → el p = some (g p)
def FS0 (Sh : g_Sh) (m : Nat → Nat) (t : Nat) : Prop := ∃ rf, Sh (m 0) = some (d_obj 1 20 rf) ∧ rf 0 = some (some t) ∧ (∀ i, 1 ≤ i → i ≤ 8 → rf i = some (some (m i))) ∧ rf 18 = some (some (m 9)) ∧ rf 19 = some (some (m 10)) ∧ ∀ i, 9 ≤ i → i ≤ 17 → rf i = none
def FSa (Sh : g_Sh) (m : Nat → Nat) : Prop := Sh (m 1) = some (d_int 0 144) ∧ Sh (m 2) = some (d_int 0 144) ∧ Sh (m 3) = some (d_int 0 144) ∧ Sh (m 4) = some (d_int 2 144) ∧ Sh (m 7) = some (d_int 0 10) ∧ Sh (m 8) = some (d_int 0 10) ∧ Sh (m 9) = some (d_int 0 144) ∧ Sh (m 10) = some (d_int 0 580)
def FSp (Sh : g_Sh) (m : Nat → Nat) (np nh : Nat) : Prop := LSt Sh (m 5) (m 11) np (fun p => m (13 + p)) ∧ LSt Sh (m 6) (m 12) nh (fun h => m (31 + h)) ∧ (∀ p, p < np → ∃ rf, Sh (m (13 + p)) = some (d_obj 5 6 rf) ∧ ∀ i, i < 6 → rf i = none) ∧ ∀ h, h < nh → ∃ rf, Sh (m (31 + h)) = some (d_obj 6 3 rf) ∧ ∀ i, i < 3 → rf i = none
/-- what is told: the ground, the shaft, the stream -/
def TS (Sh : g_Sh) (V : g_V) (Fz : Nat → Prop) (u : Nat → Nat) (w : Nat → Int32) : Prop :=
  (∃ rf, Sh (u 0) = some (d_obj 2 13 rf) ∧ rf 0 = some (some (u 1)) ∧ rf 1 = some (some (u 2)) ∧ rf 2 = some (some (u 3)) ∧ ∀ i, 6 ≤ i → i ≤ 12 → rf i = none)
  ∧ (∃ ge, Sh (u 1) = some (d_ref 8 4 ge) ∧ ∀ g, g < 4 → ge g = some (u (4 + g)))
  ∧ Sh (u 2) = some (d_int 0 144) ∧ Sh (u 3) = some (d_int 0 12)
  ∧ (∀ g, g < 4 → (∃ rf, Sh (u (4 + g)) = some (d_obj 4 4 rf) ∧ ∀ i, i < 4 → rf i = none) ∧ ∀ i, i < 4 → V (u (4 + g)) i = w (20 + 4 * g + i))
  ∧ (∀ c, c < 144 → V (u 2) c = w (48 + c)) ∧ (∀ y, y < 12 → V (u 3) y = w (36 + y) ∨ (V (u 3) y = -1 ∧ w (36 + y) = 0))
  ∧ V (u 0) 6 = w 5 ∧ V (u 0) 12 = w 0
  ∧ ((w 7 = 0 ∧ V (u 0) 7 = -1) ∨ (w 7 = 1 ∧ V (u 0) 7 = w 8 ∧ V (u 0) 8 = w 9 ∧ V (u 0) 9 = w 10 ∧ V (u 0) 10 = w 11 ∧ ¬ w 8 = -1))
  ∧ ∀ i, i < 8 → Fz (u i)
/-- warmth, ice, what is dug -/
def VA (V : g_V) (m : Nat → Nat) (w : Nat → Int32) : Prop := ∀ c, c < 144 → V (m 1) c = w (192 + c) ∧ V (m 2) c = w (336 + c) ∧ V (m 4) c = w (480 + c) ∧ (w (480 + c) = 0 ∨ w (480 + c) = 1)
/-- what questions read -/
def RD (Z : c_S) (m u : Nat → Nat) (Fz : Nat → Prop) (w : Nat → Int32) : Prop := FS0 Z.Sh m (u 0) ∧ FSa Z.Sh m ∧ TS Z.Sh Z.V Fz u w ∧ VA Z.V m w ∧ pKok w
section CB
variable {ρ : Type} {Sh : g_Sh} {V : g_V} {m u : Nat → Nat} {Fz : Nat → Prop} {w : Nat → Int32} {Z : c_S} {t : Nat}
theorem cA_eq {a ci N i b : Nat} {rf : Nat → Option (Option Nat)} {k : Nat → Option ρ} (h : Sh a = some (d_obj ci N rf)) (h2 : rf i = some (some b)) : cA Sh a ci N i k = k b := by
  unfold cA cR
  simp only [h, d_obj, and_self, if_true, h2, nn]
theorem cI_eq {a ci N i : Nat} {rf : Nat → Option (Option Nat)} {k : Int32 → Option ρ} (h : Sh a = some (d_obj ci N rf)) (h2 : rf i = none) : cI Sh V a ci N i k = k (V a i) := by
  unfold cI
  simp only [h, d_obj, and_self, if_true, h2]
theorem zPI_eq {a ci N i : Nat} {x : Int32} {rf : Nat → Option (Option Nat)} {k : c_S → Option ρ} (h : Z.Sh a = some (d_obj ci N rf)) (h2 : rf i = none) : zPI Z a ci N i x k = k ⟨Z.Sh, upd2 Z.V a i x, Z.L, Z.n⟩ := by
  unfold zPI cPI
  simp only [h, d_obj, and_self, if_true, h2]
theorem zK_eq {a ci N : Nat} {rf : Nat → Option (Option Nat)} {k : Option ρ} (h : Z.Sh a = some (d_obj ci N rf)) : zK Z a ci N k = k := by
  unfold zK
  simp only [h, d_obj, and_self, if_true]
theorem caI_eq {a t n j : Nat} {k : Int32 → Option ρ} (h : Sh a = some (d_int t n)) (hj : j < n) (hn : n < 2 ^ 31) : caI Sh V t a (nI j) k = k (V a j) := by
  unfold caI
  simp only [h, d_int, if_true]
  exact rdI_in hj hn
theorem zsI_eq {a t n j : Nat} {x : Int32} {k : c_S → Option ρ} (h : Z.Sh a = some (d_int t n)) (hj : j < n) (hn : n < 2 ^ 31) : zsI Z t a (nI j) x k = k ⟨Z.Sh, upd2 Z.V a j x, Z.L, Z.n⟩ := by
  unfold zsI csI
  simp only [h, d_int, if_true]
  exact wrI_in hj hn
theorem caR_eq {a t n j : Nat} {el : Nat → Option Nat} {k : Option Nat → Option ρ} (h : Sh a = some (d_ref t n el)) (hj : j < n) (hn : n < 2 ^ 31) : caR Sh t a (nI j) k = k (el j) := by
  unfold caR
  simp only [h, d_ref, if_true]
  rw [if_neg (nI_in hj hn), nI_clamp (by omega)]
theorem nn_eq {a : Nat} {k : Nat → Option ρ} : nn (some a) k = k a := rfl
/-! a field's own words -/
theorem f_t (h : FS0 Sh m t) {k : Nat → Option ρ} : cA Sh (m 0) 1 20 0 k = k t := by obtain ⟨rf, h1, h2, -⟩ := h; exact cA_eq h1 h2
theorem f_A (h : FS0 Sh m t) {i : Nat} (hi : 1 ≤ i) (hi2 : i ≤ 8) {k : Nat → Option ρ} : cA Sh (m 0) 1 20 i k = k (m i) := by obtain ⟨rf, h1, h2, h3, -⟩ := h; exact cA_eq h1 (h3 i hi hi2)
theorem f_far (h : FS0 Sh m t) {k : Nat → Option ρ} : cA Sh (m 0) 1 20 18 k = k (m 9) := by obtain ⟨rf, h1, -, -, h2, -⟩ := h; exact cA_eq h1 h2
theorem f_que (h : FS0 Sh m t) {k : Nat → Option ρ} : cA Sh (m 0) 1 20 19 k = k (m 10) := by obtain ⟨rf, h1, -, -, -, h2, -⟩ := h; exact cA_eq h1 h2
theorem f_I (h : FS0 Sh m t) {i : Nat} (hi : 9 ≤ i) (hi2 : i ≤ 17) {k : Int32 → Option ρ} : cI Sh V (m 0) 1 20 i k = k (V (m 0) i) := by obtain ⟨rf, h1, -, -, -, -, h2⟩ := h; exact cI_eq h1 (h2 i hi hi2)
theorem f_pI (h : FS0 Z.Sh m t) {i : Nat} (hi : 9 ≤ i) (hi2 : i ≤ 17) {x : Int32} {k : c_S → Option ρ} : zPI Z (m 0) 1 20 i x k = k ⟨Z.Sh, upd2 Z.V (m 0) i x, Z.L, Z.n⟩ := by obtain ⟨rf, h1, -, -, -, -, h2⟩ := h; exact zPI_eq h1 (h2 i hi hi2)
theorem f_K (h : FS0 Z.Sh m t) {k : Option ρ} : zK Z (m 0) 1 20 k = k := by obtain ⟨rf, h1, -⟩ := h; exact zK_eq h1
theorem t_K (h : TS Z.Sh V Fz u w) {k : Option ρ} : zK Z (u 0) 2 13 k = k := by obtain ⟨⟨rf, h1, -⟩, -⟩ := h; exact zK_eq h1
theorem t_I {V' : g_V} (h : TS Sh V' Fz u w) {i : Nat} (hi : 6 ≤ i) (hi2 : i ≤ 12) {k : Int32 → Option ρ} : cI Sh V (u 0) 2 13 i k = k (V (u 0) i) := by obtain ⟨⟨rf, h1, -, -, -, h2⟩, -⟩ := h; exact cI_eq h1 (h2 i hi hi2)
theorem t_str (h : TS Sh V Fz u w) {k : Nat → Option ρ} : cA Sh (u 0) 2 13 2 k = k (u 3) := by obtain ⟨⟨rf, h1, -, -, h2, -⟩, -⟩ := h; exact cA_eq h1 h2
end CB
/-! the component's own sums of cells -/
theorem cm_in_tw (a b c : Int64) : cm_X0_in a b c = tw_in a b c := rfl
def sw (k : Nat) : Nat := if k = 2 then 3 else if k = 3 then 2 else k
theorem sw_lt {k : Nat} (h : k < 4) : sw k < 4 := by unfold sw; split <;> (try split) <;> omega
section CQ
variable {c k : Nat}
theorem cm_beside_eq (hc : c < 144) (hk : k < 4) : cm_X0_beside (nI c) (nI k) = some (oI0 (pBes c (sw k))) := by
  have h4 : k = 0 ∨ k = 1 ∨ k = 2 ∨ k = 3 := by omega
  unfold cm_X0_beside
  rcases h4 with rfl | rfl | rfl | rfl
  · rw [if_pos (by decide)]
    simp (disch := omega) only [L_add, L_addR, L_mul, L_mulR, L_div, N_div, N_rem, L_sub, L_subN, nI_add, nI_mul, L_le, L_leR, L_lt, L_ltR, L_eq, N_leT, N_leF, N_ltT, N_ltF, N_eqT, N_eqF, N_m1, N_eq]
    have e : pBes c (sw 0) = if c % 12 = 11 then none else some (c + 1) := rfl
    rw [e]
    by_cases h : c % 12 = 11
    · rw [if_pos h, if_pos h]; rfl
    · rw [if_neg h, if_neg h]; rfl
  · rw [if_neg (by decide), if_pos (by decide)]
    simp (disch := omega) only [L_div, N_div, L_mulR, L_subN, N_rem, L_eq, N_eq]
    have e : pBes c (sw 1) = if c % 12 = 0 then none else some (c - 1) := rfl
    rw [e]
    by_cases h : c % 12 = 0
    · rw [if_pos h, if_pos h]; rfl
    · rw [if_neg h, if_neg h]
      simp (disch := omega) only [L_sub, L_subN]; rfl
  · rw [if_neg (by decide), if_neg (by decide), if_pos (by decide)]
    simp (disch := omega) only [L_le, N_le]
    have e : pBes c (sw 2) = if c / 12 = 0 then none else some (c - 12) := rfl
    rw [e]
    by_cases h : c / 12 = 0
    · rw [if_neg (by omega), if_pos h]; rfl
    · rw [if_pos (by omega), if_neg h]
      simp (disch := omega) only [L_sub, L_subN]; rfl
  · rw [if_neg (by decide), if_neg (by decide), if_neg (by decide)]
    simp (disch := omega) only [L_ltR, N_lt, L_addR]
    have e : pBes c (sw 3) = if c / 12 = 11 then none else some (c + 12) := rfl
    rw [e]
    by_cases h : c / 12 = 11
    · rw [if_neg (by omega), if_pos h]; rfl
    · rw [if_pos (by omega), if_neg h]; rfl
theorem cm_isRim_eq (hc : c < 144) : cm_X0_isRim (nI c) = some (b2i (pRim c)) := by
  unfold cm_X0_isRim
  simp (disch := omega) only [L_div, N_div, L_mulR, L_subN, N_rem, L_eq, N_eq, L_ltR, N_lt]
  unfold pRim
  by_cases h1 : c % 12 = 0
  · simp [h1, b2i]
  · by_cases h2 : c % 12 = 11
    · simp [h1, h2, b2i]
    · by_cases h3 : c < 12
      · have : c / 12 = 0 := by omega
        simp [h1, h2, h3, this, b2i]
      · have h4 : ¬ c / 12 = 0 := by omega
        by_cases h5 : c < 132
        · have : ¬ c / 12 = 11 := by omega
          simp [h1, h2, h3, h4, h5, this, b2i]
        · have : c / 12 = 11 := by omega
          simp [h1, h2, h3, h5, this, b2i]
end CQ
section CR
variable {m u : Nat → Nat} {Fz : Nat → Prop} {w : Nat → Int32} {Z : c_S} {c : Nat}
theorem cm_of_eq (hT : TS Z.Sh Z.V Fz u w) (hk : pKok w) (hc : c < 144) : cm_X2_of Z (u 0) (nI c) = some (some (u (4 + pKd w c))) := by
  obtain ⟨⟨rf, h1, h2, h3, -⟩, ⟨ge, h4, h5⟩, h6, -, -, h7, -⟩ := hT
  obtain ⟨k1, k2⟩ := pKd_of hk hc
  unfold cm_X2_of
  rw [cA_eq h1 h2, cA_eq h1 h3, caI_eq h6 hc (by omega), h7 c hc, k2, caR_eq h4 k1 (by omega), h5 _ k1]
theorem cm_gr_eq {ρ : Type} {k : Int32 → Option ρ} {i : Nat} (hT : TS Z.Sh Z.V Fz u w) (hk : pKok w) (hc : c < 144) (hi : i < 4) : cI Z.Sh Z.V (u (4 + pKd w c)) 4 4 i k = k (pGr w c i) := by
  obtain ⟨-, -, -, -, h, -⟩ := hT
  obtain ⟨k1, k2⟩ := pKd_of hk hc
  obtain ⟨⟨rf, h1, h2⟩, h3⟩ := h _ k1
  rw [cI_eq h1 (h2 i hi), h3 i hi]
  rfl
theorem cm_isShaft_eq (hT : TS Z.Sh Z.V Fz u w) (hc : c < 144) : cm_X2_isShaft Z (u 0) (nI c) = some (b2i (pShf w c)) := by
  have hS := hT.2.2.2.2.2.2.2.2.2.1
  unfold cm_X2_isShaft cm_X2_hasShaft
  simp (disch := omega) only [t_K hT, t_I hT, cm_in_tw, tw_inI, L_add, L_addR, L_mul, L_mulR, L_div, N_div, N_rem, L_sub, L_subN, nI_add, nI_mul, L_le, L_leR, L_lt, L_ltR, L_eq, N_leT, N_leF, N_ltT, N_ltF, N_eqT, N_eqF, N_m1, bnd_S, un2_S, un3_S, nmI_S, nmL_S, ptI_S, cs2_L, cs2_R, okI_b, okI_1, okI_0, rdI_in, wrI_in, rdI_L, wrI_L, rdL_in, wrL_in, if_true, if_false]
  unfold pShf pHas
  rcases hS with ⟨h7, h8⟩ | ⟨h7, h8, h9, h10, h11, h12⟩
  · have z : ¬ w 7 = 1 := by rw [h7]; decide
    simp only [h8, if_true, bnd_S]
    simp [b2i, z]
  · have z1 : ¬ (1 : Int32) = 0 := by decide
    simp only [h8, h9, h10, h11, h12, if_false, bnd_S, z1, Int32.toInt_toInt64]
    rw [nI_toInt (by omega), nI_toInt (by omega)]
    by_cases h2 : (w 8).toInt ≤ ((c % 12 : Nat) : Int) ∧ ((c % 12 : Nat) : Int) ≤ (w 10).toInt
    · by_cases h3 : (w 9).toInt ≤ ((c / 12 : Nat) : Int) ∧ ((c / 12 : Nat) : Int) ≤ (w 11).toInt
      · simp only [h7, h2, h3]; simp [b2i]
      · simp only [h7, h2, h3]; simp [b2i]
    · simp only [h7, h2]; simp [b2i]
theorem cm_hasShaft2_eq (hT : TS Z.Sh Z.V Fz u w) : cm_X2_hasShaft Z (u 0) = some (b2i (pHas w)) := by
  have hS := hT.2.2.2.2.2.2.2.2.2.1
  unfold cm_X2_hasShaft pHas
  simp (disch := omega) only [t_I hT]
  rcases hS with ⟨h7, h8⟩ | ⟨h7, h8, h9, h10, h11, h12⟩
  · have z : ¬ w 7 = 1 := by rw [h7]; decide
    simp [h8, z, b2i]
  · simp [h8, h7, h12, b2i]
/-- a field's dug cell, warmth, ice -/
theorem VA_dug (h : VA Z.V m w) (hc : c < 144) : Z.V (m 4) c = b2i (pDug w c) := by
  obtain ⟨-, -, h3, h4⟩ := h c hc
  rw [h3]
  unfold pDug
  rcases h4 with h4 | h4 <;> rw [h4] <;> decide
theorem cm_isFrozen_eq (h : RD Z m u Fz w) (hc : c < 144) : cm_X1_isFrozen Z (m 0) (nI c) = some (b2i (pFro w c)) := by
  obtain ⟨hF, hA, hT, hV, hk⟩ := h
  unfold cm_X1_isFrozen
  simp (disch := omega) only [f_A hF, caI_eq hA.2.2.2.1, caI_eq hA.2.1, VA_dug hV hc, b2iF, f_t hF, t_K hT, cm_of_eq hT hk hc, bnd_S, nn_eq, cm_gr_eq hT hk hc, (hV c hc).2.1]
  unfold pFro
  cases pDug w c
  · by_cases h : w (336 + c) = pGr w c 2 <;> simp [h, b2i]
  · simp [b2i]
theorem cm_leadOf_eq (h : RD Z m u Fz w) (hc : c < 144) : cm_X1_leadOf Z (m 0) (nI c) = some (pLead w c) := by
  have hfr := cm_isFrozen_eq h hc
  obtain ⟨hF, hA, hT, hV, hk⟩ := h
  unfold cm_X1_leadOf
  simp (disch := omega) only [f_K hF, hfr, bnd_S, b2iF, f_t hF, t_K hT, cm_of_eq hT hk hc, nn_eq, cm_gr_eq hT hk hc]
  unfold pLead
  cases pFro w c <;> simp
theorem cm_costOf_eq (h : RD Z m u Fz w) (hc : c < 144) : cm_X1_costOf Z (m 0) (nI c) = some (b2i (pFro w c)) := by
  have hfr := cm_isFrozen_eq h hc
  obtain ⟨hF, hA, hT, hV, hk⟩ := h
  unfold cm_X1_costOf
  simp (disch := omega) only [f_K hF, hfr, bnd_S, b2iF]
  cases pFro w c <;> simp [b2i]
theorem pBs_sw (w : Nat → Int32) (c : Nat) : itr (fun k (b : Bool) => b || (match pBes c (sw k) with
  | none => false
  | some d => pShf w d)) false 4 = pBs w c := by
  unfold pBs
  simp only [itr, Bool.false_or]
  show ((_ || _) || _ || _) = ((_ || _) || _ || _)
  rw [Bool.or_assoc, Bool.or_assoc, Bool.or_assoc, Bool.or_assoc]
  congr 1
  congr 1
  exact Bool.or_comm _ _
theorem cm_isBesideShaft_eq (h : RD Z m u Fz w) (hc : c < 144) : cm_X1_isBesideShaft Z (m 0) (nI c) = some (b2i (pBs w c)) := by
  obtain ⟨hF, hA, hT, hV, hk⟩ := h
  have h : cm_X1_isBesideShaft_L4 (m 0) (nI c) Z 1000 0 0 = some (b2i (pBs w c)) := by
    rw [← pBs_sw]
    unfold cm_X1_isBesideShaft_L4
    refine lp_itr (N := 4) (mk := fun (b : Bool) i => (b2i b, nI i)) (f := fun k (b : Bool) => b || (match pBes c (sw k) with
      | none => false
      | some d => pShf w d)) (out := b2i) (a := false) ?_ ?_ (by omega)
    · intro rec i b hi
      unfold cm_X1_isBesideShaft_F4
      simp (disch := omega) only [cm_X1_isBesideShaft_B4, L_add, L_addR, L_mul, L_mulR, L_div, N_div, N_rem, L_sub, L_subN, nI_add, nI_mul, L_le, L_leR, L_lt, L_ltR, L_eq, N_leT, N_leF, N_ltT, N_ltF, N_eqT, N_eqF, N_m1, bnd_S, un2_S, un3_S, nmI_S, nmL_S, ptI_S, cs2_L, cs2_R, okI_b, okI_1, okI_0, rdI_in, wrI_in, rdI_L, wrI_L, rdL_in, wrL_in, if_true, if_false, b2iF, cm_beside_eq hc hi, f_t hF, t_K hT]
      cases b
      · simp only [if_true, Bool.false_or]
        cases hb : pBes c (sw i) with
        | none => simp [oI0, b2i]
        | some d =>
          have hd := pBes_lt hc hb
          simp (disch := omega) only [oI0, N_m1, if_false, bnd_S, un2_S, un3_S, nmI_S, nmL_S, ptI_S, cs2_L, cs2_R, okI_b, okI_1, okI_0, rdI_in, wrI_in, rdI_L, wrI_L, rdL_in, wrL_in, if_true, if_false, cm_isShaft_eq hT hd, b2iF]
          cases pShf w d <;> simp [b2i]
      · simp [b2i]
    · intro rec b
      unfold cm_X1_isBesideShaft_F4
      simp (disch := omega) only [cm_X1_isBesideShaft_B4, L_add, L_addR, L_mul, L_mulR, L_div, N_div, N_rem, L_sub, L_subN, nI_add, nI_mul, L_le, L_leR, L_lt, L_ltR, L_eq, N_leT, N_leF, N_ltT, N_ltF, N_eqT, N_eqF, N_m1, bnd_S, un2_S, un3_S, nmI_S, nmL_S, ptI_S, cs2_L, cs2_R, okI_b, okI_1, okI_0, rdI_in, wrI_in, rdI_L, wrI_L, rdL_in, wrL_in, if_true, if_false]
  unfold cm_X1_isBesideShaft
  rw [h]
  simp only [bnd_S, un2_S, un3_S, nmI_S, nmL_S, ptI_S, cs2_L, cs2_R, okI_b, okI_1, okI_0, rdI_in, wrI_in, rdI_L, wrI_L, rdL_in, wrL_in, if_true, if_false]
theorem cm_heat_eq (h : RD Z m u Fz w) : cm_X1_heat Z (m 0) = some (pHeat w) := by
  obtain ⟨hF, hA, hT, hV, hk⟩ := h
  have h : cm_X1_heat_L4 (m 0) Z 1000 0 0 = some (pHeat w) := by
    unfold cm_X1_heat_L4
    refine lp_itr (N := 144) (mk := fun (a : Int32) i => (a, nI i)) (f := fun c a => a + (if pDug w c = true then 0 else w (192 + c) - w (336 + c))) (out := fun x => x) (a := 0) ?_ ?_ (by omega)
    · intro rec i a hi
      unfold cm_X1_heat_F4
      simp (disch := omega) only [cm_X1_heat_B4, L_add, L_addR, L_mul, L_mulR, L_div, N_div, N_rem, L_sub, L_subN, nI_add, nI_mul, L_le, L_leR, L_lt, L_ltR, L_eq, N_leT, N_leF, N_ltT, N_ltF, N_eqT, N_eqF, N_m1, bnd_S, un2_S, un3_S, nmI_S, nmL_S, ptI_S, cs2_L, cs2_R, okI_b, okI_1, okI_0, rdI_in, wrI_in, rdI_L, wrI_L, rdL_in, wrL_in, if_true, if_false, f_A hF, caI_eq hA.2.2.2.1, caI_eq hA.1, caI_eq hA.2.1, VA_dug hV hi, b2iF, (hV i hi).1, (hV i hi).2.1]
      cases pDug w i <;> simp
    · intro rec a
      unfold cm_X1_heat_F4
      simp (disch := omega) only [cm_X1_heat_B4, L_add, L_addR, L_mul, L_mulR, L_div, N_div, N_rem, L_sub, L_subN, nI_add, nI_mul, L_le, L_leR, L_lt, L_ltR, L_eq, N_leT, N_leF, N_ltT, N_ltF, N_eqT, N_eqF, N_m1, bnd_S, un2_S, un3_S, nmI_S, nmL_S, ptI_S, cs2_L, cs2_R, okI_b, okI_1, okI_0, rdI_in, wrI_in, rdI_L, wrI_L, rdL_in, wrL_in, if_true, if_false]
  unfold cm_X1_heat
  rw [h]
  rfl
theorem cm_lift_eq {x : Nat} (h : RD Z m u Fz w) (hx : x < 12) : cm_X1_lift Z (m 0) (nI x) = some (pLift w x) := by
  obtain ⟨hF, hA, hT, hV, hk⟩ := h
  have h : cm_X1_lift_L4 (m 0) Z 1000 0 (nI x) = some (pLift w x) := by
    unfold cm_X1_lift_L4
    have h0 := lp_itr (F := cm_X1_lift_F4 (m 0) Z) (N := 12) (mk := fun (a : Int32) i => (a, nI (12 * i + x))) (f := fun y a => a + (if pDug w (12 * y + x) = true then 0 else w (336 + (12 * y + x)) / 10)) (out := fun x => x) (n := 1000) (a := 0) ?_ ?_ (by omega)
    · simp only [Nat.mul_zero, Nat.zero_add] at h0
      exact h0
    · intro rec i a hi
      have hc : 12 * i + x < 144 := by omega
      unfold cm_X1_lift_F4
      simp (disch := omega) only [cm_X1_lift_B4, L_add, L_addR, L_mul, L_mulR, L_div, N_div, N_rem, L_sub, L_subN, nI_add, nI_mul, L_le, L_leR, L_lt, L_ltR, L_eq, N_leT, N_leF, N_ltT, N_ltF, N_eqT, N_eqF, N_m1, bnd_S, un2_S, un3_S, nmI_S, nmL_S, ptI_S, cs2_L, cs2_R, okI_b, okI_1, okI_0, rdI_in, wrI_in, rdI_L, wrI_L, rdL_in, wrL_in, if_true, if_false, f_A hF, caI_eq hA.2.2.2.1, caI_eq hA.1, caI_eq hA.2.1, VA_dug hV hc, b2iF, (hV _ hc).1, (hV _ hc).2.1]
      have e : 12 * i + x + 12 = 12 * (i + 1) + x := by omega
      rw [e]
      cases pDug w (12 * i + x) <;> simp
    · intro rec a
      unfold cm_X1_lift_F4
      simp (disch := omega) only [cm_X1_lift_B4, L_add, L_addR, L_mul, L_mulR, L_div, N_div, N_rem, L_sub, L_subN, nI_add, nI_mul, L_le, L_leR, L_lt, L_ltR, L_eq, N_leT, N_leF, N_ltT, N_ltF, N_eqT, N_eqF, N_m1, bnd_S, un2_S, un3_S, nmI_S, nmL_S, ptI_S, cs2_L, cs2_R, okI_b, okI_1, okI_0, rdI_in, wrI_in, rdI_L, wrI_L, rdL_in, wrL_in, if_true, if_false]
  unfold cm_X1_lift
  rw [h]
  rfl
end CR
