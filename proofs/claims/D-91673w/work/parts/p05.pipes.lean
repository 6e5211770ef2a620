/-! PURE: pipes -/
set_option maxRecDepth 100000
theorem upd_pre {f g : Nat → Int32} {i : Nat} {x : Int32} (hx : x = f i) : upd (fun j => if j < i then f j else g j) i x = fun j => if j < i + 1 then f j else g j := by
  funext j
  unfold upd
  by_cases hj : j = i
  · subst hj; simp [hx]
  · by_cases hj2 : j < i
    · have : j < i + 1 := by omega
      simp [hj, hj2, this]
    · have : ¬ j < i + 1 := by omega
      simp [hj, hj2, this]
def pNp (w : Nat → Int32) : Nat := (w 2).toNatClampNeg
def pPc (w : Nat → Int32) (p : Nat) : Nat := (w (624 + 6 * p)).toNatClampNeg
/-- pipes are well told -/
def pPok (w : Nat → Int32) : Prop := w 2 = nI (pNp w) ∧ pNp w ≤ 18 ∧ (∀ p, p < pNp w → w (624 + 6 * p) = nI (pPc w p) ∧ pPc w p < 144) ∧ 0 ≤ (w 6).toInt
def pWant (w : Nat → Int32) (p : Nat) : Int32 := if w (624 + 6 * p + 3) = 1 ∧ pDug w (pPc w p) = false ∧ ¬ w (192 + pPc w p) ≤ w (624 + 6 * p + 1) then (w (192 + pPc w p) - w (624 + 6 * p + 1)) * w (624 + 6 * p + 2) / 100 else 0
def pAllI (w : Nat → Int32) (n : Nat) : Int64 := itr (fun p (a : Int64) => a + (pWant w p).toInt64) 0 n
def pAll (w : Nat → Int32) : Int64 := pAllI w (pNp w)
def pTake (w : Nat → Int32) (p : Nat) : Int32 := if pAll w ≤ (w 6).toInt64 then pWant w p else ((pWant w p).toInt64 * (w 6).toInt64 / pAll w).toInt32
def pPipF (w0 : Nat → Int32) (p : Nat) (q : (Nat → Int32) × (Nat → Int32)) : (Nat → Int32) × (Nat → Int32) :=
  (upd (upd (upd q.1 (624 + 6 * p + 4) (pTake w0 p)) (624 + 6 * p + 5) (q.1 (624 + 6 * p + 5) + pTake w0 p)) 14 (q.1 14 + pTake w0 p), upd q.2 (pPc w0 p) (q.2 (pPc w0 p) - pTake w0 p))
def pPip (w h : Nat → Int32) : (Nat → Int32) × (Nat → Int32) := itr (pPipF w) (w, h) (pNp w)
/-- the places that pipes do not change -/
def pA (w w' : Nat → Int32) : Prop := ∀ j, j ≠ 14 → (j < 624 ∨ 732 ≤ j ∨ (j - 624) % 6 < 4) → w' j = w j
theorem pA_step {w w' h : Nat → Int32} {p : Nat} (hp : p < 18) (ha : pA w w') : pA w (pPipF w p (w', h)).1 := by
  intro j h1 h2
  show upd (upd (upd w' (624 + 6 * p + 4) (pTake w p)) (624 + 6 * p + 5) (w' (624 + 6 * p + 5) + pTake w p)) 14 (w' 14 + pTake w p) j = w j
  rw [upd_ne h1, upd_ne (by omega), upd_ne (by omega)]
  exact ha j h1 h2
section TP
variable {V : g_V}
theorem tw_pipes_1 (hp : pPok (V 1)) : tw_pipes_L4 1000 0 0 V = some (pAll (V 1), rowV V 25 (fun j => if j < pNp (V 1) then pWant (V 1) j else V 25 j)) := by
  obtain ⟨hn, h18, hc, -⟩ := hp
  have h := lp_run (F := tw_pipes_F4) (N := pNp (V 1)) (st := fun i => (pAllI (V 1) i, nI i, rowV V 25 (fun j => if j < i then pWant (V 1) j else V 25 j))) (out := (pAll (V 1), rowV V 25 (fun j => if j < pNp (V 1) then pWant (V 1) j else V 25 j))) ?_ ?_ 1000 0 (by omega) (by omega)
  · have e : rowV V 25 (fun j => if j < 0 then pWant (V 1) j else V 25 j) = V := by
      simp only [Nat.not_lt_zero, if_false]
      exact rowV_self V 25
    simp only [e, nI_0] at h
    exact h
  · intro rec i hi
    obtain ⟨hc1, hc2⟩ := hc i hi
    have e1 : (rowV V 25 (fun j => if j < i then pWant (V 1) j else V 25 j)) 1 = V 1 := rowV_ne (by omega)
    unfold tw_pipes_F4
    simp (disch := omega) only [tw_pipes_B4, L_add, L_addR, L_mul, L_mulR, L_div, N_div, N_rem, L_sub, L_subN, nI_add, nI_mul, L_le, L_leR, L_lt, L_ltR, L_eq, N_leT, N_leF, N_ltT, N_ltF, N_eqT, N_eqF, N_m1, bnd_S, un2_S, un3_S, nmI_S, nmL_S, ptI_S, cs2_L, cs2_R, okI_b, okI_1, okI_0, rdI_in, wrI_in, rdI_L, wrI_L, rdL_in, wrL_in, if_true, if_false, e1, hn, hc1]
    have hd : tw_isDug (rowV V 25 (fun j => if j < i then pWant (V 1) j else V 25 j)) (nI (pPc (V 1) i)) = some (b2i (pDug (V 1) (pPc (V 1) i))) := by rw [tw_isDug_eq hc2, e1]
    have es : ∀ x, x = pWant (V 1) i → upd2 (rowV V 25 (fun j => if j < i then pWant (V 1) j else V 25 j)) 25 i x = rowV V 25 (fun j => if j < i + 1 then pWant (V 1) j else V 25 j) := by
      intro x hx
      rw [upd2_row, rowV_over, rowV_eq, upd_pre hx]
    have ea : ∀ x, x = pWant (V 1) i → pAllI (V 1) i + x.toInt64 = pAllI (V 1) (i + 1) := by intro x hx; subst hx; rfl
    have ev : (rowV V 25 (fun j => if j < i + 1 then pWant (V 1) j else V 25 j)) 25 i = pWant (V 1) i := by rw [rowV_eq]; exact if_pos (by omega)
    have e3 : ∀ y, y = V 1 (624 + 6 * i + 3) → y = 1 ∨ ¬ y = 1 := fun y _ => Decidable.em _
    have w0 : ∀ P : Prop, ¬ (V 1 (624 + 6 * i + 3) = 1 ∧ pDug (V 1) (pPc (V 1) i) = false ∧ ¬ V 1 (192 + pPc (V 1) i) ≤ V 1 (624 + 6 * i + 1)) → 0 = pWant (V 1) i := by
      intro _ hn; unfold pWant; rw [if_neg hn]
    by_cases h1 : V 1 (624 + 6 * i + 3) = 1
    · simp only [h1, if_true, hd, bnd_S, b2iF]
      cases h2 : pDug (V 1) (pPc (V 1) i)
      · simp only [if_true]
        by_cases h3 : V 1 (192 + pPc (V 1) i) ≤ V 1 (624 + 6 * i + 1)
        · have hw := w0 True (fun q => q.2.2 h3)
          simp (disch := omega) only [h3, if_true, tw_pipes_J82, tw_pipes_J83, L_add, L_addR, L_mul, L_mulR, L_div, N_div, N_rem, L_sub, L_subN, nI_add, nI_mul, L_le, L_leR, L_lt, L_ltR, L_eq, N_leT, N_leF, N_ltT, N_ltF, N_eqT, N_eqF, N_m1, bnd_S, un2_S, un3_S, nmI_S, nmL_S, ptI_S, cs2_L, cs2_R, okI_b, okI_1, okI_0, rdI_in, wrI_in, rdI_L, wrI_L, rdL_in, wrL_in, if_true, if_false, es 0 hw, ev, ea _ rfl]
        · have hw : (V 1 (192 + pPc (V 1) i) - V 1 (624 + 6 * i + 1)) * V 1 (624 + 6 * i + 2) / 100 = pWant (V 1) i := by unfold pWant; rw [if_pos ⟨h1, h2, h3⟩]
          have h10 : ¬ (1 : Int32) = 0 := by decide
          simp (disch := omega) only [h3, if_false, h10, tw_pipes_J83, L_add, L_addR, L_mul, L_mulR, L_div, N_div, N_rem, L_sub, L_subN, nI_add, nI_mul, L_le, L_leR, L_lt, L_ltR, L_eq, N_leT, N_leF, N_ltT, N_ltF, N_eqT, N_eqF, N_m1, bnd_S, un2_S, un3_S, nmI_S, nmL_S, ptI_S, cs2_L, cs2_R, okI_b, okI_1, okI_0, rdI_in, wrI_in, rdI_L, wrI_L, rdL_in, wrL_in, if_true, if_false, e1, es _ hw, ev, ea _ rfl]
      · have hw := w0 True (fun q => by rw [h2] at q; exact Bool.noConfusion q.2.1)
        simp (disch := omega) only [if_false, Bool.true_eq_false, tw_pipes_J82, tw_pipes_J83, if_true, L_add, L_addR, L_mul, L_mulR, L_div, N_div, N_rem, L_sub, L_subN, nI_add, nI_mul, L_le, L_leR, L_lt, L_ltR, L_eq, N_leT, N_leF, N_ltT, N_ltF, N_eqT, N_eqF, N_m1, bnd_S, un2_S, un3_S, nmI_S, nmL_S, ptI_S, cs2_L, cs2_R, okI_b, okI_1, okI_0, rdI_in, wrI_in, rdI_L, wrI_L, rdL_in, wrL_in, if_true, if_false, es 0 hw, ev, ea _ rfl]
    · have hw := w0 True (fun q => h1 q.1)
      simp (disch := omega) only [h1, if_false, tw_pipes_J82, tw_pipes_J83, if_true, L_add, L_addR, L_mul, L_mulR, L_div, N_div, N_rem, L_sub, L_subN, nI_add, nI_mul, L_le, L_leR, L_lt, L_ltR, L_eq, N_leT, N_leF, N_ltT, N_ltF, N_eqT, N_eqF, N_m1, bnd_S, un2_S, un3_S, nmI_S, nmL_S, ptI_S, cs2_L, cs2_R, okI_b, okI_1, okI_0, rdI_in, wrI_in, rdI_L, wrI_L, rdL_in, wrL_in, if_true, if_false, es 0 hw, ev, ea _ rfl]
  · intro rec
    have e1 : (rowV V 25 (fun j => if j < pNp (V 1) then pWant (V 1) j else V 25 j)) 1 = V 1 := rowV_ne (by omega)
    unfold tw_pipes_F4
    simp (disch := omega) only [tw_pipes_B4, L_add, L_addR, L_mul, L_mulR, L_div, N_div, N_rem, L_sub, L_subN, nI_add, nI_mul, L_le, L_leR, L_lt, L_ltR, L_eq, N_leT, N_leF, N_ltT, N_ltF, N_eqT, N_eqF, N_m1, bnd_S, un2_S, un3_S, nmI_S, nmL_S, ptI_S, cs2_L, cs2_R, okI_b, okI_1, okI_0, rdI_in, wrI_in, rdI_L, wrI_L, rdL_in, wrL_in, if_true, if_false, e1, hn]
    rfl
theorem all_ne {a : Int64} {x : Int32} (h0 : 0 ≤ x.toInt) (h : ¬ a ≤ x.toInt64) : decide (¬ a = 0) = true := by
  apply decide_eq_true
  intro z
  subst z
  apply h
  rw [Int64.le_iff_toInt_le, Int32.toInt_toInt64]
  exact h0
/-- the rows 1, 24 and 25 -/
abbrev s3 (V : g_V) (g : Nat → Int32) (q : (Nat → Int32) × (Nat → Int32)) : g_V := rowV (rowV (rowV V 1 q.1) 24 q.2) 25 g
theorem s3_1 (V : g_V) (g : Nat → Int32) (q : (Nat → Int32) × (Nat → Int32)) : s3 V g q 1 = q.1 := by rw [s3, rowV_ne (by omega), rowV_ne (by omega), rowV_eq]
theorem s3_24 (V : g_V) (g : Nat → Int32) (q : (Nat → Int32) × (Nat → Int32)) : s3 V g q 24 = q.2 := by rw [s3, rowV_ne (by omega), rowV_eq]
theorem s3_25 (V : g_V) (g : Nat → Int32) (q : (Nat → Int32) × (Nat → Int32)) : s3 V g q 25 = g := by rw [s3, rowV_eq]
theorem tw_pipes_2 {w h g : Nat → Int32} (hp : pPok w) (hg : ∀ p, p < pNp w → g p = pWant w p) : tw_pipes_L152 (pAll w) 1000 0 (s3 V g (w, h)) = some (s3 V g (pPip w h)) := by
  obtain ⟨hn, h18, hc, h6⟩ := hp
  have hh := lp_itrI (F := tw_pipes_F152 (pAll w)) (N := pNp w) (mk := fun (q : (Nat → Int32) × (Nat → Int32)) i => (nI i, s3 V g q)) (f := pPipF w) (out := s3 V g) (fun _ q => pA w q.1) (n := 1000) (a := (w, h)) ?_ ?_ (by omega) (fun j _ _ => rfl)
  · simp only [nI_0] at hh
    exact hh.1
  · intro rec i q hi hq
    obtain ⟨w', h'⟩ := q
    simp only at hq
    refine ⟨?_, pA_step (by omega) hq⟩
    obtain ⟨hc1, hc2⟩ := hc i hi
    have e2 : w' 2 = nI (pNp w) := (hq 2 (by omega) (by omega)).trans hn
    have e6 : w' 6 = w 6 := hq 6 (by omega) (by omega)
    have ec : w' (624 + 6 * i) = nI (pPc w i) := (hq _ (by omega) (by omega)).trans hc1
    have ej : ∀ z, z = pTake w i → tw_pipes_J213 (fun x3 V => rec (x3, V)) (pAll w) (nI i) (nI (624 + 6 * i)) z (s3 V g (w', h')) = rec (nI (i + 1), s3 V g (pPipF w i (w', h'))) := by
      intro z hz
      subst hz
      simp (disch := omega) only [tw_pipes_J213, L_add, L_addR, L_mul, L_mulR, L_div, N_div, N_rem, L_sub, L_subN, nI_add, nI_mul, L_le, L_leR, L_lt, L_ltR, L_eq, N_leT, N_leF, N_ltT, N_ltF, N_eqT, N_eqF, N_m1, bnd_S, un2_S, un3_S, nmI_S, nmL_S, ptI_S, cs2_L, cs2_R, okI_b, okI_1, okI_0, rdI_in, wrI_in, rdI_L, wrI_L, rdL_in, wrL_in, if_true, if_false, s3_1, s3_24, ec]
      simp (disch := omega) only [s3, upd2_row, rowV_eq, rowV_ne, rowV_over, rowV_swap, upd_eq, upd_ne, upd_over, Nat.zero_add, pPipF]
    unfold tw_pipes_F152
    simp (disch := omega) only [tw_pipes_B152, L_add, L_addR, L_mul, L_mulR, L_div, N_div, N_rem, L_sub, L_subN, nI_add, nI_mul, L_le, L_leR, L_lt, L_ltR, L_eq, N_leT, N_leF, N_ltT, N_ltF, N_eqT, N_eqF, N_m1, bnd_S, un2_S, un3_S, nmI_S, nmL_S, ptI_S, cs2_L, cs2_R, okI_b, okI_1, okI_0, rdI_in, wrI_in, rdI_L, wrI_L, rdL_in, wrL_in, if_true, if_false, s3_1, s3_24, s3_25, e2, e6, hg i hi, lg_cmp_le]
    by_cases hl : pAll w ≤ (w 6).toInt64
    · simp only [hl, if_true]
      exact ej _ (by unfold pTake; rw [if_pos hl])
    · simp only [hl, if_false, okI, all_ne h6 hl, if_true]
      exact ej _ (by unfold pTake; rw [if_neg hl])
  · intro rec q hq
    have e2 : q.1 2 = nI (pNp w) := (hq 2 (by omega) (by omega)).trans hn
    unfold tw_pipes_F152
    simp (disch := omega) only [tw_pipes_B152, L_add, L_addR, L_mul, L_mulR, L_div, N_div, N_rem, L_sub, L_subN, nI_add, nI_mul, L_le, L_leR, L_lt, L_ltR, L_eq, N_leT, N_leF, N_ltT, N_ltF, N_eqT, N_eqF, N_m1, bnd_S, un2_S, un3_S, nmI_S, nmL_S, ptI_S, cs2_L, cs2_R, okI_b, okI_1, okI_0, rdI_in, wrI_in, rdI_L, wrI_L, rdL_in, wrL_in, if_true, if_false, s3_1, e2]
theorem tw_pipes_eq (hp : pPok (V 1)) : tw_pipes V = some (s3 V (fun j => if j < pNp (V 1) then pWant (V 1) j else V 25 j) (pPip (V 1) (V 24))) := by
  unfold tw_pipes
  rw [tw_pipes_1 hp]
  have e : rowV V 25 (fun j => if j < pNp (V 1) then pWant (V 1) j else V 25 j) = s3 V (fun j => if j < pNp (V 1) then pWant (V 1) j else V 25 j) (V 1, V 24) := by
    rw [s3, rowV_self, rowV_self]
  simp only [bnd_S, un2_S]
  rw [e, tw_pipes_2 hp (fun p h => if_pos h)]
  rfl
end TP
/-! what a cell does with its heat -/
def pDoI (w h : Nat → Int32) (c : Nat) : Int32 := if 0 ≤ h c then w (336 + c) - iMin (h c - iMin (h c) (iMax0 (pGr w c 3 - w (192 + c)))) (w (336 + c)) else w (336 + c) + iMin (-h c - iMin (-h c) (iMax0 (w (192 + c) - pGr w c 3))) (pGr w c 2 - w (336 + c))
def pDoW (w h : Nat → Int32) (c : Nat) : Int32 := if 0 ≤ h c then w (192 + c) + (h c - iMin (h c - iMin (h c) (iMax0 (pGr w c 3 - w (192 + c)))) (w (336 + c))) else w (192 + c) + (h c + iMin (-h c - iMin (-h c) (iMax0 (w (192 + c) - pGr w c 3))) (pGr w c 2 - w (336 + c)))
theorem tw_does_eq {V : g_V} {c : Nat} (hk : pKok (V 1)) (hc : c < 144) : tw_does V (nI c) = some (rowV V 1 (upd (upd (V 1) (336 + c) (pDoI (V 1) (V 24) c)) (192 + c) (pDoW (V 1) (V 24) c))) := by
  have g3 : tw_groundOf V (nI c) 3 = some (pGr (V 1) c 3) := tw_groundOf_eq (k := 3) hk hc (by omega)
  have g2 : tw_groundOf V (nI c) 2 = some (pGr (V 1) c 2) := tw_groundOf_eq (k := 2) hk hc (by omega)
  unfold tw_does pDoI pDoW
  simp (disch := omega) only [L_add, L_addR, L_mul, L_mulR, L_div, N_div, N_rem, L_sub, L_subN, nI_add, nI_mul, L_le, L_leR, L_lt, L_ltR, L_eq, N_leT, N_leF, N_ltT, N_ltF, N_eqT, N_eqF, N_m1, bnd_S, un2_S, un3_S, nmI_S, nmL_S, ptI_S, cs2_L, cs2_R, okI_b, okI_1, okI_0, rdI_in, wrI_in, rdI_L, wrI_L, rdL_in, wrL_in, if_true, if_false, g3, g2]
  by_cases h : 0 ≤ V 24 c
  · simp only [h, if_true]
    simp (disch := omega) only [upd2_row, rowV_eq, rowV_ne, rowV_over, rowV_swap, upd_eq, upd_ne, upd_over, Nat.zero_add]
    rfl
  · simp only [h, if_false]
    simp (disch := omega) only [upd2_row, rowV_eq, rowV_ne, rowV_over, rowV_swap, upd_eq, upd_ne, upd_over, Nat.zero_add]
    rfl
/-- the first n cells have done -/
def pDoesI (w h : Nat → Int32) (n : Nat) : Nat → Int32 := fun j => if 192 ≤ j ∧ j < 192 + n then (if pDug w (j - 192) = true then w j else pDoW w h (j - 192)) else if 336 ≤ j ∧ j < 336 + n then (if pDug w (j - 336) = true then w j else pDoI w h (j - 336)) else w j
