/-! PURE: the component: the fewest frozen cells on a way -/
set_option maxRecDepth 100000
section TH
variable {w : Nat → Int32}
def cst (w : Nat → Int32) (c : Nat) : Nat := if pFro w c = true then 1 else 0
abbrev bT (w : Nat → Int32) : Nat → Option Nat := bW w (some 1) (some 0)
theorem bT_eq (c : Nat) : bT w c = if pShf w c = true then none else some (cst w c) := by
  unfold bT bW cst
  cases pShf w c <;> cases pFro w c <;> simp
/-- what stands is the cost of a way; what begins costs no more than itself -/
def TSnd (w : Nat → Int32) (fn : Nat → Nat) : Prop := ∀ c, c < 144 → fn c ≤ 144 ∧ (fn c < 144 → ∃ n, Wk (bT w) (pBss w) n c (fn c)) ∧ (pBss w c = true → fn c ≤ cst w c)
theorem TSnd_upd {fn : Nat → Nat} {c d i : Nat} (h : TSnd w fn) (hc : c < 144) (hs : pShf w c = false) (hi : i < 4) (hb : pBes c i = some d) (hlt : fn d + cst w c < fn c) : TSnd w (updN fn c (fn d + cst w c)) := by
  intro j hj
  obtain ⟨h1, h2, h3⟩ := h j hj
  unfold updN
  by_cases hjc : j = c
  · subst hjc
    rw [if_pos rfl]
    obtain ⟨d1, d2, -⟩ := h d (pBes_lt hc hb)
    have := h j hj
    refine ⟨by omega, fun hlt2 => ?_, fun hb2 => by have := h3 hb2; omega⟩
    obtain ⟨n, hn⟩ := d2 (by omega)
    exact ⟨n + 1, cst w j, by rw [bT_eq, hs]; simp, Or.inr ⟨i, d, fn d, hi, hb, hn, rfl⟩⟩
  · rw [if_neg hjc]
    exact ⟨h1, h2, h3⟩
theorem TSnd_least {fn : Nat → Nat} (h : TSnd w fn) (hcl : ∀ c i d, c < 144 → pShf w c = false → i < 4 → pBes c i = some d → fn c ≤ fn d + cst w c) : ∀ n c k, c < 144 → Wk (bT w) (pBss w) n c k → fn c ≤ k := by
  intro n
  induction n with
  | zero => intro c k _ hw; exact hw.elim
  | succ n ih =>
    intro c k hc hw
    obtain ⟨x, hb, hw2⟩ := hw
    have hx : x = cst w c ∧ pShf w c = false := by
      rw [bT_eq] at hb
      split at hb
      · cases hb
      · rename_i hs
        cases hb
        exact ⟨rfl, by simpa using hs⟩
    rcases hw2 with ⟨hsc, rfl⟩ | ⟨i, d, k', hi, hbs, hw', rfl⟩
    · have := (h c hc).2.2 hsc
      omega
    · have h1 := ih d k' (pBes_lt hc hbs) hw'
      have h2 := hcl c i d hc hx.2 hi hbs
      omega
/-- the shaft's place -/
def pShOk (w : Nat → Int32) : Prop := pHas w = true → ∃ l t r b, w 8 = nI l ∧ w 9 = nI t ∧ w 10 = nI r ∧ w 11 = nI b ∧ 1 ≤ l ∧ l ≤ r ∧ r ≤ 10 ∧ 1 ≤ t ∧ t ≤ b ∧ b ≤ 10
theorem pShf_xy {l t r b x y : Nat} (h7 : pHas w = true) (h8 : w 8 = nI l) (h9 : w 9 = nI t) (h10 : w 10 = nI r) (h11 : w 11 = nI b) (hl : l < 100) (ht : t < 100) (hr : r < 100) (hb : b < 100) (hx : x < 12) (hy : y < 12) : pShf w (12 * y + x) = decide (l ≤ x ∧ x ≤ r ∧ t ≤ y ∧ y ≤ b) := by
  unfold pShf
  rw [h7, h8, h9, h10, h11, nI_toInt (by omega), nI_toInt (by omega), nI_toInt (by omega), nI_toInt (by omega), show (12 * y + x) % 12 = x by omega, show (12 * y + x) / 12 = y by omega]
  by_cases h1 : l ≤ x ∧ x ≤ r
  · have a1 : ((l : Nat) : Int) ≤ (x : Int) ∧ ((x : Nat) : Int) ≤ (r : Int) := by omega
    by_cases h2 : t ≤ y ∧ y ≤ b
    · have a2 : ((t : Nat) : Int) ≤ (y : Int) ∧ ((y : Nat) : Int) ≤ (b : Int) := by omega
      have a3 : l ≤ x ∧ x ≤ r ∧ t ≤ y ∧ y ≤ b := by omega
      simp [a1, a2, a3]
    · have a2 : ¬ (((t : Nat) : Int) ≤ (y : Int) ∧ ((y : Nat) : Int) ≤ (b : Int)) := by omega
      have a3 : ¬ (l ≤ x ∧ x ≤ r ∧ t ≤ y ∧ y ≤ b) := by omega
      rw [decide_eq_false a2, decide_eq_false a3]
      simp
  · have a1 : ¬ (((l : Nat) : Int) ≤ (x : Int) ∧ ((x : Nat) : Int) ≤ (r : Int)) := by omega
    have a3 : ¬ (l ≤ x ∧ x ≤ r ∧ t ≤ y ∧ y ≤ b) := by omega
    rw [decide_eq_false a1, decide_eq_false a3]
    simp
theorem pBs_of {c i d : Nat} (hi : i < 4) (hb : pBes c i = some d) (hs : pShf w d = true) : pBs w c = true := by
  unfold pBs
  have key : ∀ n, i < n → itr (fun k (b : Bool) => b || (match pBes c k with
      | none => false
      | some d => pShf w d)) false n = true := by
    intro n
    induction n with
    | zero => intro h; omega
    | succ n ih =>
      intro h
      rw [itr_s]
      by_cases hin : i = n
      · subst hin
        rw [hb]
        simp [hs]
      · rw [ih (by omega)]
        rfl
  exact key 4 hi
/-- there is always a way: straight to the left -/
theorem way_left (hsh : pShOk w) (h7 : pHas w = true) : ∃ c n k, c < 144 ∧ pRim c = true ∧ k < 144 ∧ Wk (bT w) (pBss w) n c k := by
  obtain ⟨l, t, r, b, h8, h9, h10, h11, b1, b2, b3, b4, b5, b6⟩ := hsh h7
  have step : ∀ i, i < l → ∃ n k, k ≤ i + 1 ∧ Wk (bT w) (pBss w) n (12 * t + (l - 1 - i)) k := by
    intro i
    induction i with
    | zero =>
      intro _
      have e1 : pShf w (12 * t + (l - 1 - 0)) = false := by
        rw [pShf_xy h7 h8 h9 h10 h11 (by omega) (by omega) (by omega) (by omega) (by omega) (by omega)]
        exact decide_eq_false (by omega)
      have e2 : pShf w (12 * t + l) = true := by
        rw [pShf_xy h7 h8 h9 h10 h11 (by omega) (by omega) (by omega) (by omega) (by omega) (by omega)]
        exact decide_eq_true (by omega)
      have e3 : pBes (12 * t + (l - 1 - 0)) 0 = some (12 * t + l) := by
        have e : pBes (12 * t + (l - 1 - 0)) 0 = if (12 * t + (l - 1 - 0)) % 12 = 11 then none else some (12 * t + (l - 1 - 0) + 1) := rfl
        rw [e, if_neg (by omega)]
        congr 1
        omega
      have e4 : pBss w (12 * t + (l - 1 - 0)) = true := by
        unfold pBss
        rw [pBs_of (by omega) e3 e2, e1]
        rfl
      have hc1 : cst w (12 * t + (l - 1 - 0)) ≤ 1 := by unfold cst; split <;> omega
      exact ⟨1, cst w (12 * t + (l - 1 - 0)), by omega, _, by rw [bT_eq, e1]; simp, Or.inl ⟨e4, rfl⟩⟩
    | succ i ih =>
      intro hi
      obtain ⟨n, k, hk, hw⟩ := ih (by omega)
      have e1 : pShf w (12 * t + (l - 1 - (i + 1))) = false := by
        rw [pShf_xy h7 h8 h9 h10 h11 (by omega) (by omega) (by omega) (by omega) (by omega) (by omega)]
        exact decide_eq_false (by omega)
      have e3 : pBes (12 * t + (l - 1 - (i + 1))) 0 = some (12 * t + (l - 1 - i)) := by
        have e : pBes (12 * t + (l - 1 - (i + 1))) 0 = if (12 * t + (l - 1 - (i + 1))) % 12 = 11 then none else some (12 * t + (l - 1 - (i + 1)) + 1) := rfl
        rw [e, if_neg (by omega)]
        congr 1
        omega
      have hc1 : cst w (12 * t + (l - 1 - (i + 1))) ≤ 1 := by unfold cst; split <;> omega
      exact ⟨n + 1, k + cst w (12 * t + (l - 1 - (i + 1))), by omega, cst w (12 * t + (l - 1 - (i + 1))), by rw [bT_eq, e1]; simp, Or.inr ⟨0, _, k, by omega, e3, hw, rfl⟩⟩
  obtain ⟨n, k, hk, hw⟩ := step (l - 1) (by omega)
  refine ⟨12 * t + (l - 1 - (l - 1)), n, k, by omega, ?_, by omega, hw⟩
  unfold pRim
  exact decide_eq_true (by left; omega)
end TH
section T2
variable {Sh : g_Sh} {V : g_V} {L : g_L} {n : Nat} {m u : Nat → Nat} {Fz : Nat → Prop} {np nh : Nat} {w : Nat → Int32}
def rN (fn : Nat → Nat) (g : Nat → Int32) : Nat → Int32 := fun c => if c < 144 then nI (fn c) else g c
theorem rN_at {fn : Nat → Nat} {g : Nat → Int32} {c : Nat} (h : c < 144) : rN fn g c = nI (fn c) := if_pos h
theorem rN_upd {fn : Nat → Nat} {g : Nat → Int32} {c x : Nat} (h : c < 144) : upd (rN fn g) c (nI x) = rN (updN fn c x) g := by
  funext j
  unfold upd rN updN
  by_cases hj : j = c
  · subst hj; simp [h]
  · simp [hj]
abbrev stF (Sh : g_Sh) (V : g_V) (L : g_L) (n : Nat) (m : Nat → Nat) (A : Nat → Int32) : c_S := (Sh, rowV V (m 9) A, L, n)
theorem FM_stF (h : FM (Sh, V, L, n) m u Fz np nh w) (A : Nat → Int32) : FM (stF Sh V L n m A) m u Fz np nh w := FM_row h (by omega) (by omega) (by omega) (by omega)
theorem b2i_cst (w : Nat → Int32) (c : Nat) : b2i (pFro w c) = nI (cst w c) := by
  unfold cst
  cases pFro w c <;> rfl
/-- at first -/
def fn0 (w : Nat → Int32) (c : Nat) : Nat := if pBss w c = true then cst w c else 144
theorem cm_thick_1 (h : FM (Sh, V, L, n) m u Fz np nh w) : cm_X1_thick_L2 (m 0) 100000 0 (Sh, V, L, n) = some (stF Sh V L n m (rN (fn0 w) (V (m 9)))) := by
  have hm := h.2.1
  have hF : FS0 Sh m (u 0) := h.1.1
  have hA : FSa Sh m := h.1.2.1
  have hr := lp_run (F := cm_X1_thick_F2 (m 0)) (N := 144) (st := fun i => (nI i, stF Sh V L n m (fun c => if c < i then nI (fn0 w c) else V (m 9) c))) (out := stF Sh V L n m (rN (fn0 w) (V (m 9)))) ?_ ?_ 100000 0 (by omega) (by omega)
  · simp only [Nat.not_lt_zero, if_false, nI_0] at hr
    have e : stF Sh V L n m (fun c => V (m 9) c) = (Sh, V, L, n) := by
      unfold stF
      rw [show rowV V (m 9) (fun c => V (m 9) c) = V from rowV_self V (m 9)]
    rw [e] at hr
    exact hr
  · intro rec i hi
    have hM := FM_stF h (fun c => if c < i then nI (fn0 w c) else V (m 9) c)
    have hT : TS Sh (rowV V (m 9) (fun c => if c < i then nI (fn0 w c) else V (m 9) c)) Fz u w := hM.1.2.2.1
    have hsh : cm_X2_isShaft (stF Sh V L n m (fun c => if c < i then nI (fn0 w c) else V (m 9) c)) (u 0) (nI i) = some (b2i (pShf w i)) := cm_isShaft_eq hT hi
    have hbs := cm_isBesideShaft_eq hM.1 hi
    have hco := cm_costOf_eq hM.1 hi
    have e1 : ∀ x, x = nI (fn0 w i) → upd (fun c => if c < i then nI (fn0 w c) else V (m 9) c) i x = fun c => if c < i + 1 then nI (fn0 w c) else V (m 9) c := fun x hx => upd_pre (f := fun c => nI (fn0 w c)) hx
    unfold cm_X1_thick_F2
    simp (disch := omega) only [cm_X1_thick_B2, zSh_T, zV_T, zL_T, zn_T, L_add, L_addR, L_mul, L_mulR, L_div, N_div, N_rem, L_sub, L_subN, nI_add, nI_mul, L_le, L_leR, L_lt, L_ltR, L_eq, N_leT, N_leF, N_ltT, N_ltF, N_eqT, N_eqF, N_m1, bnd_S, un2_S, un3_S, nmI_S, nmL_S, ptI_S, cs2_L, cs2_R, okI_b, okI_1, okI_0, rdI_in, wrI_in, rdI_L, wrI_L, rdL_in, wrL_in, if_true, if_false, f_far hF, f_t hF, t_KT hT, hsh, b2iF, f_KT hF, hbs, hco, zsI_T hA.2.2.2.2.2.2.1, upd2_row, rowV_eq, rowV_over]
    cases s1 : pShf w i
    · cases s2 : pBs w i
      · simp only [if_true, if_false, Bool.true_eq_false]
        rw [e1 144 (by unfold fn0 pBss; rw [s1, s2]; rfl)]
      · simp only [if_true, if_false, Bool.true_eq_false]
        rw [e1 (b2i (pFro w i)) (by unfold fn0 pBss; rw [s1, s2, b2i_cst]; rfl)]
    · simp only [if_false, Bool.true_eq_false]
      rw [e1 144 (by unfold fn0 pBss; rw [s1]; simp; rfl)]
  · intro rec
    unfold cm_X1_thick_F2
    simp (disch := omega) only [cm_X1_thick_B2, L_add, L_addR, L_mul, L_mulR, L_div, N_div, N_rem, L_sub, L_subN, nI_add, nI_mul, L_le, L_leR, L_lt, L_ltR, L_eq, N_leT, N_leF, N_ltT, N_ltF, N_eqT, N_eqF, N_m1, bnd_S, un2_S, un3_S, nmI_S, nmL_S, ptI_S, cs2_L, cs2_R, okI_b, okI_1, okI_0, rdI_in, wrI_in, rdI_L, wrI_L, rdL_in, wrL_in, if_true, if_false]
    rfl
theorem fn0_snd (w : Nat → Int32) : TSnd w (fn0 w) := by
  intro c hc
  have hc1 : cst w c ≤ 1 := by unfold cst; split <;> omega
  unfold fn0
  cases hb : pBss w c
  · simp
  · simp only [if_true]
    refine ⟨by omega, fun _ => ⟨1, cst w c, ?_, Or.inl ⟨hb, rfl⟩⟩, fun _ => Nat.le_refl _⟩
    unfold pBss at hb
    simp only [Bool.and_eq_true, Bool.not_eq_true'] at hb
    rw [bT_eq, hb.2]
    simp
def muN (fn : Nat → Nat) : Nat := sumN fn 144
theorem muN_upd {fn : Nat → Nat} {c x : Nat} (hc : c < 144) (h : x < fn c) : muN (updN fn c x) < muN fn := by
  have := sumN_upd (f := fn) (x := x) hc
  unfold muN updN
  omega
/-- what a round keeps: nothing is nearer at the sides seen, or less stands than before -/
def thI (w : Nat → Int32) (fn0 : Nat → Nat) (seen : Nat → Nat → Prop) (q : Bool × (Nat → Nat)) : Prop := TSnd w q.2 ∧ (q.1 = false → q.2 = fn0 ∧ ∀ c i, seen c i → c < 144 → pShf w c = false → ∀ d, pBes c (sw i) = some d → fn0 c ≤ fn0 d + cst w c) ∧ (q.1 = true → muN q.2 < muN fn0)
theorem cm_thick_in (h : FM (Sh, V, L, n) m u Fz np nh w) {g : Nat → Int32} {fb : Nat → Nat} {c : Nat} (hc : c < 144) {q0 : Bool × (Nat → Nat)} (hI : thI w fb (fun c' i => c' < c) q0) : ∃ q : Bool × (Nat → Nat), cm_X1_thick_L70 (m 0) (nI c) 100000 (b2i q0.1) 0 (stF Sh V L n m (rN q0.2 g)) = some (b2i q.1, stF Sh V L n m (rN q.2 g)) ∧ thI w fb (fun c' i => c' < c + 1 ∧ i < 4) q := by
  have hm := h.2.1
  have hF : FS0 Sh m (u 0) := h.1.1
  have hA : FSa Sh m := h.1.2.1
  have leaf : ∀ A, cm_X2_isShaft (stF Sh V L n m A) (u 0) (nI c) = some (b2i (pShf w c)) := fun A => cm_isShaft_eq (FM_stF h A).1.2.2.1 hc
  have tk : ∀ A, TS Sh (rowV V (m 9) A) Fz u w := fun A => (FM_stF h A).1.2.2.1
  cases hsc : pShf w c with
  | true =>
    refine ⟨q0, ?_, hI.1, fun hq => ⟨(hI.2.1 hq).1, fun c' i hs hc' hsh d hd => ?_⟩, hI.2.2⟩
    · unfold cm_X1_thick_L70
      rw [show (100000 : Nat) = 99999 + 1 from rfl, lp_s]
      generalize lp (cm_X1_thick_F70 (m 0) (nI c)) 99999 = rec
      unfold cm_X1_thick_F70
      simp (disch := omega) only [cm_X1_thick_B70, zSh_T, zV_T, zL_T, zn_T, L_add, L_addR, L_mul, L_mulR, L_div, N_div, N_rem, L_sub, L_subN, nI_add, nI_mul, L_le, L_leR, L_lt, L_ltR, L_eq, N_leT, N_leF, N_ltT, N_ltF, N_eqT, N_eqF, N_m1, bnd_S, un2_S, un3_S, nmI_S, nmL_S, ptI_S, cs2_L, cs2_R, okI_b, okI_1, okI_0, rdI_in, wrI_in, rdI_L, wrI_L, rdL_in, wrL_in, if_true, if_false, f_t hF, t_KT (h.1.2.2.1), leaf, hsc, b2iF, Bool.true_eq_false]
      have z4 : ¬ (4 : Int32) ≤ 0 := by decide
      rw [if_neg z4]
    · by_cases hcc : c' = c
      · subst hcc; rw [hsc] at hsh; cases hsh
      · exact (hI.2.1 hq).2 c' i (by omega) hc' hsh d hd
  | false =>
    have hr := lp_rel (F := cm_X1_thick_F70 (m 0) (nI c)) (N := 4) (P := fun out => ∃ q : Bool × (Nat → Nat), out = (b2i q.1, stF Sh V L n m (rN q.2 g)) ∧ thI w fb (fun c' i => c' < c + 1 ∧ i < 4) q) (fun i s => pShf w c = false ∧ s.2.1 = nI i ∧ ∃ q : Bool × (Nat → Nat), s.1 = b2i q.1 ∧ s.2.2 = stF Sh V L n m (rN q.2 g) ∧ thI w fb (fun c' i' => c' < c ∨ (c' = c ∧ i' < i)) q) ?_ ?_ 100000 0 (b2i q0.1, 0, stF Sh V L n m (rN q0.2 g)) (by omega) (by omega) ⟨hsc, nI_0.symm, q0, rfl, rfl, hI.1, fun hq => ⟨(hI.2.1 hq).1, fun c' i hs => (hI.2.1 hq).2 c' i (by omega)⟩, hI.2.2⟩
    · obtain ⟨out, r1, q, rfl, r2⟩ := hr
      exact ⟨q, r1, r2⟩
    · intro i s hi hs
      obtain ⟨x1, x3, Z'⟩ := s
      obtain ⟨-, e3, q, e1, eZ, hT1, hT2, hT3⟩ := hs
      simp only at e3 e1 eZ
      subst e3 e1 eZ
      have hco := cm_costOf_eq (FM_stF h (rN q.2 g)).1 hc
      rw [b2i_cst] at hco
      have hc1 : cst w c ≤ 1 := by unfold cst; split <;> omega
      have keep : (∀ d, pBes c (sw i) = some d → q.2 c ≤ q.2 d + cst w c) → thI w fb (fun c' i' => c' < c ∨ (c' = c ∧ i' < i + 1)) q := by
        intro hk
        refine ⟨hT1, fun hq => ⟨(hT2 hq).1, fun c' i' hs hc' hsh d hd => ?_⟩, hT3⟩
        by_cases hnew : c' = c ∧ i' = i
        · obtain ⟨rfl, rfl⟩ := hnew
          rw [← (hT2 hq).1]
          exact hk d hd
        · exact (hT2 hq).2 c' i' (by omega) hc' hsh d hd
      cases hb : pBes c (sw i) with
      | none =>
        refine ⟨(b2i q.1, nI (i + 1), stF Sh V L n m (rN q.2 g)), fun rec => ?_, hsc, rfl, q, rfl, rfl, keep (fun d hd => by rw [hb] at hd; cases hd)⟩
        unfold cm_X1_thick_F70
        simp (disch := omega) only [cm_X1_thick_B70, zSh_T, zV_T, zL_T, zn_T, L_add, L_addR, L_mul, L_mulR, L_div, N_div, N_rem, L_sub, L_subN, nI_add, nI_mul, L_le, L_leR, L_lt, L_ltR, L_eq, N_leT, N_leF, N_ltT, N_ltF, N_eqT, N_eqF, N_m1, bnd_S, un2_S, un3_S, nmI_S, nmL_S, ptI_S, cs2_L, cs2_R, okI_b, okI_1, okI_0, rdI_in, wrI_in, rdI_L, wrI_L, rdL_in, wrL_in, if_true, if_false, f_t hF, t_KT (h.1.2.2.1), leaf, hsc, b2iF, cm_beside_eq hc hi, hb, oI0_N, m1m1]
      | some d =>
        have hd := pBes_lt hc hb
        have f1 := (hT1 c hc).1
        have f2 := (hT1 d hd).1
        have ed := rN_at (fn := q.2) (g := g) hd
        have ec := rN_at (fn := q.2) (g := g) hc
        by_cases hlt : q.2 d + cst w c < q.2 c
        · refine ⟨(b2i true, nI (i + 1), stF Sh V L n m (rN (updN q.2 c (q.2 d + cst w c)) g)), fun rec => ?_, hsc, rfl, (true, updN q.2 c (q.2 d + cst w c)), rfl, rfl, TSnd_upd hT1 hc hsc (sw_lt hi) hb hlt, fun hq => Bool.noConfusion hq, fun _ => ?_⟩
          · unfold cm_X1_thick_F70
            simp (disch := omega) only [cm_X1_thick_B70, zSh_T, zV_T, zL_T, zn_T, L_add, L_addR, L_mul, L_mulR, L_div, N_div, N_rem, L_sub, L_subN, nI_add, nI_mul, L_le, L_leR, L_lt, L_ltR, L_eq, N_leT, N_leF, N_ltT, N_ltF, N_eqT, N_eqF, N_m1, bnd_S, un2_S, un3_S, nmI_S, nmL_S, ptI_S, cs2_L, cs2_R, okI_b, okI_1, okI_0, rdI_in, wrI_in, rdI_L, wrI_L, rdL_in, wrL_in, if_true, if_false, f_t hF, t_KT (h.1.2.2.1), leaf, hsc, b2iF, cm_beside_eq hc hi, hb, oI0_S, f_far hF, caI_eq hA.2.2.2.2.2.2.1, rowV_eq, ed, ec, f_KT hF, hco, zsI_T hA.2.2.2.2.2.2.1, upd2_row, rowV_over, rN_upd hc]
            rfl
          · have h9 := muN_upd (fn := q.2) hc hlt
            show muN (updN q.2 c (q.2 d + cst w c)) < muN fb
            cases hq1 : q.1 with
            | false => rw [← (hT2 hq1).1]; exact h9
            | true => have := hT3 hq1; omega
        · refine ⟨(b2i q.1, nI (i + 1), stF Sh V L n m (rN q.2 g)), fun rec => ?_, hsc, rfl, q, rfl, rfl, keep (fun d' hd' => by rw [hb] at hd'; cases hd'; omega)⟩
          unfold cm_X1_thick_F70
          simp (disch := omega) only [cm_X1_thick_B70, zSh_T, zV_T, zL_T, zn_T, L_add, L_addR, L_mul, L_mulR, L_div, N_div, N_rem, L_sub, L_subN, nI_add, nI_mul, L_le, L_leR, L_lt, L_ltR, L_eq, N_leT, N_leF, N_ltT, N_ltF, N_eqT, N_eqF, N_m1, bnd_S, un2_S, un3_S, nmI_S, nmL_S, ptI_S, cs2_L, cs2_R, okI_b, okI_1, okI_0, rdI_in, wrI_in, rdI_L, wrI_L, rdL_in, wrL_in, if_true, if_false, f_t hF, t_KT (h.1.2.2.1), leaf, hsc, b2iF, cm_beside_eq hc hi, hb, oI0_S, f_far hF, caI_eq hA.2.2.2.2.2.2.1, rowV_eq, ed, ec, f_KT hF, hco]
    · intro s hs
      obtain ⟨x1, x3, Z'⟩ := s
      obtain ⟨-, e3, q, e1, eZ, hT1, hT2, hT3⟩ := hs
      simp only at e3 e1 eZ
      subst e3 e1 eZ
      refine ⟨_, fun rec => ?_, q, rfl, hT1, fun hq => ⟨(hT2 hq).1, fun c' i' hs => (hT2 hq).2 c' i' (by omega)⟩, hT3⟩
      unfold cm_X1_thick_F70
      simp (disch := omega) only [cm_X1_thick_B70, L_add, L_addR, L_mul, L_mulR, L_div, N_div, N_rem, L_sub, L_subN, nI_add, nI_mul, L_le, L_leR, L_lt, L_ltR, L_eq, N_leT, N_leF, N_ltT, N_ltF, N_eqT, N_eqF, N_m1, bnd_S, un2_S, un3_S, nmI_S, nmL_S, ptI_S, cs2_L, cs2_R, okI_b, okI_1, okI_0, rdI_in, wrI_in, rdI_L, wrI_L, rdL_in, wrL_in, if_true, if_false]
theorem cm_thick_pass (h : FM (Sh, V, L, n) m u Fz np nh w) {g : Nat → Int32} {fb : Nat → Nat} (hS : TSnd w fb) : ∃ q : Bool × (Nat → Nat), cm_X1_thick_L61 (m 0) 100000 0 0 (stF Sh V L n m (rN fb g)) = some (b2i q.1, stF Sh V L n m (rN q.2 g)) ∧ thI w fb (fun c' i => c' < 144 ∧ i < 4) q := by
  have hr := lp_rel (F := cm_X1_thick_F61 (m 0)) (N := 144) (P := fun out => ∃ q : Bool × (Nat → Nat), out = (b2i q.1, stF Sh V L n m (rN q.2 g)) ∧ thI w fb (fun c' i => c' < 144 ∧ i < 4) q) (fun c s => s.2.1 = nI c ∧ ∃ q : Bool × (Nat → Nat), s.1 = b2i q.1 ∧ s.2.2 = stF Sh V L n m (rN q.2 g) ∧ thI w fb (fun c' i => c' < c ∧ i < 4) q) ?_ ?_ 100000 0 (0, 0, stF Sh V L n m (rN fb g)) (by omega) (by omega) ⟨nI_0.symm, (false, fb), rfl, rfl, hS, fun _ => ⟨rfl, fun c' i hs => by omega⟩, fun hq => Bool.noConfusion hq⟩
  · obtain ⟨out, h1, q, rfl, h2⟩ := hr
    exact ⟨q, h1, h2⟩
  · intro c s hc hs
    obtain ⟨x1, x3, Z'⟩ := s
    obtain ⟨e3, q, e1, eZ, hI⟩ := hs
    simp only at e3 e1 eZ
    subst e3 e1 eZ
    have hI2 : thI w fb (fun c' i => c' < c) q := by
      refine ⟨hI.1, fun hq => ⟨(hI.2.1 hq).1, fun c' i hs hc' hsh d hd => ?_⟩, hI.2.2⟩
      by_cases hi4 : i < 4
      · exact (hI.2.1 hq).2 c' i ⟨hs, hi4⟩ hc' hsh d hd
      · have e : sw i = i := by unfold sw; rw [if_neg (by omega), if_neg (by omega)]
        rw [e] at hd
        have a0 : ¬ i = 0 := by omega
        have a1 : ¬ i = 1 := by omega
        have a2 : ¬ i = 2 := by omega
        have e3 : pBes c' i = pBes c' 3 := by simp [pBes, a0, a1, a2]
        rw [e3] at hd
        exact (hI.2.1 hq).2 c' 2 ⟨hs, by omega⟩ hc' hsh d hd
    obtain ⟨q', r1, r2⟩ := cm_thick_in (g := g) h hc hI2
    refine ⟨(b2i q'.1, nI (c + 1), stF Sh V L n m (rN q'.2 g)), fun rec => ?_, rfl, q', rfl, rfl, r2⟩
    unfold cm_X1_thick_F61
    simp (disch := omega) only [cm_X1_thick_B61, L_add, L_addR, L_mul, L_mulR, L_div, N_div, N_rem, L_sub, L_subN, nI_add, nI_mul, L_le, L_leR, L_lt, L_ltR, L_eq, N_leT, N_leF, N_ltT, N_ltF, N_eqT, N_eqF, N_m1, bnd_S, un2_S, un3_S, nmI_S, nmL_S, ptI_S, cs2_L, cs2_R, okI_b, okI_1, okI_0, rdI_in, wrI_in, rdI_L, wrI_L, rdL_in, wrL_in, if_true, if_false, r1]
  · intro s hs
    obtain ⟨x1, x3, Z'⟩ := s
    obtain ⟨e3, q, e1, eZ, hI⟩ := hs
    simp only at e3 e1 eZ
    subst e3 e1 eZ
    refine ⟨_, fun rec => ?_, q, rfl, hI⟩
    unfold cm_X1_thick_F61
    simp (disch := omega) only [cm_X1_thick_B61, L_add, L_addR, L_mul, L_mulR, L_div, N_div, N_rem, L_sub, L_subN, nI_add, nI_mul, L_le, L_leR, L_lt, L_ltR, L_eq, N_leT, N_leF, N_ltT, N_ltF, N_eqT, N_eqF, N_m1, bnd_S, un2_S, un3_S, nmI_S, nmL_S, ptI_S, cs2_L, cs2_R, okI_b, okI_1, okI_0, rdI_in, wrI_in, rdI_L, wrI_L, rdL_in, wrL_in, if_true, if_false]
theorem TSnd_mu {fn : Nat → Nat} (h : TSnd w fn) : muN fn ≤ 20736 := by
  have h1 : muN fn ≤ sumN (fun _ => 144) 144 := sumN_le (fun i hi => (h i hi).1)
  rw [sumN_const] at h1
  exact h1
theorem cm_thick_all (h : FM (Sh, V, L, n) m u Fz np nh w) {g : Nat → Int32} {fb : Nat → Nat} (hS : TSnd w fb) : ∃ fn, cm_X1_thick_L53 (m 0) 100000 1 (stF Sh V L n m (rN fb g)) = some (stF Sh V L n m (rN fn g)) ∧ TSnd w fn ∧ ∀ c i d, c < 144 → pShf w c = false → i < 4 → pBes c i = some d → fn c ≤ fn d + cst w c := by
  have key : ∀ k fb, TSnd w fb → muN fb < k → ∃ fn, lp (cm_X1_thick_F53 (m 0)) (k + 1) (1, stF Sh V L n m (rN fb g)) = some (stF Sh V L n m (rN fn g)) ∧ TSnd w fn ∧ ∀ c i d, c < 144 → pShf w c = false → i < 4 → pBes c i = some d → fn c ≤ fn d + cst w c := by
    intro k
    induction k with
    | zero => intro fb _ hk; omega
    | succ k ih =>
      intro fb hS hk
      obtain ⟨q, r1, r2, r3, r4⟩ := cm_thick_pass (g := g) h hS
      rw [lp_s]
      generalize hrec : lp (cm_X1_thick_F53 (m 0)) (k + 1) = rec
      unfold cm_X1_thick_F53
      have z1 : ¬ (1 : Int32) = 0 := by decide
      simp only [cm_X1_thick_B53, z1, if_false, r1, bnd_S, un2_S]
      cases hq : q.1 with
      | true =>
        have hmu := r4 hq
        obtain ⟨fn, i1, i2, i3⟩ := ih q.2 r2 (by omega)
        rw [hrec] at i1
        exact ⟨fn, i1, i2, i3⟩
      | false =>
        obtain ⟨e, hcl⟩ := r3 hq
        refine ⟨fb, ?_, hS, fun c i d hc hsh hi hb => hcl c (sw i) ⟨hc, sw_lt hi⟩ hc hsh d (by rw [sw_sw hi]; exact hb)⟩
        rw [← hrec, lp_s, e]
        show cm_X1_thick_B53 (m 0) _ (b2i false) _ = _
        unfold cm_X1_thick_B53
        rw [if_pos (show b2i false = 0 from rfl)]
  obtain ⟨fn, h1, h2⟩ := key 99999 fb hS (by have := TSnd_mu hS; omega)
  exact ⟨fn, h1, h2⟩
/-- the least at the rim, 144 at most -/
def lstN (fn : Nat → Nat) : Nat := itr (fun c l => if pRim c = true then (if fn c < l then fn c else l) else l) 144 144
theorem cm_thick_last (h : FM (Sh, V, L, n) m u Fz np nh w) {g : Nat → Int32} {fn : Nat → Nat} (hS : TSnd w fn) : cm_X1_thick_L166 (m 0) (stF Sh V L n m (rN fn g)) 100000 144 0 = some (nI (lstN fn)) := by
  have hF : FS0 Sh m (u 0) := h.1.1
  have hA : FSa Sh m := h.1.2.1
  have hr := lp_itrI (F := cm_X1_thick_F166 (m 0) (stF Sh V L n m (rN fn g))) (N := 144) (mk := fun (l : Nat) i => (nI l, nI i)) (f := fun c l => if pRim c = true then (if fn c < l then fn c else l) else l) (out := nI) (fun _ l => l ≤ 144) (n := 100000) (a := 144) ?_ ?_ (by omega) (Nat.le_refl _)
  · simp only [nI_0] at hr
    exact hr.1
  · intro rec i l hi hl
    have f1 := (hS i hi).1
    have ei := rN_at (fn := fn) (g := g) hi
    refine ⟨?_, ?_⟩
    · unfold cm_X1_thick_F166
      simp (disch := omega) only [cm_X1_thick_B166, zSh_T, zV_T, zL_T, zn_T, L_add, L_addR, L_mul, L_mulR, L_div, N_div, N_rem, L_sub, L_subN, nI_add, nI_mul, L_le, L_leR, L_lt, L_ltR, L_eq, N_leT, N_leF, N_ltT, N_ltF, N_eqT, N_eqF, N_m1, bnd_S, un2_S, un3_S, nmI_S, nmL_S, ptI_S, cs2_L, cs2_R, okI_b, okI_1, okI_0, rdI_in, wrI_in, rdI_L, wrI_L, rdL_in, wrL_in, if_true, if_false, cm_isRim_eq hi, b2iF, f_far hF, caI_eq hA.2.2.2.2.2.2.1, rowV_eq, ei, N_lt]
      cases pRim i
      · simp
      · by_cases hlt : fn i < l <;> simp [hlt]
    · split
      · split <;> omega
      · exact hl
  · intro rec l hl
    unfold cm_X1_thick_F166
    simp (disch := omega) only [cm_X1_thick_B166, L_add, L_addR, L_mul, L_mulR, L_div, N_div, N_rem, L_sub, L_subN, nI_add, nI_mul, L_le, L_leR, L_lt, L_ltR, L_eq, N_leT, N_leF, N_ltT, N_ltF, N_eqT, N_eqF, N_m1, bnd_S, un2_S, un3_S, nmI_S, nmL_S, ptI_S, cs2_L, cs2_R, okI_b, okI_1, okI_0, rdI_in, wrI_in, rdI_L, wrI_L, rdL_in, wrL_in, if_true, if_false]
theorem lstN_le (fn : Nat → Nat) : (∀ c, c < 144 → pRim c = true → lstN fn ≤ fn c) ∧ (lstN fn = 144 ∨ ∃ c, c < 144 ∧ pRim c = true ∧ lstN fn = fn c) := by
  have key : ∀ k, (∀ c, c < k → pRim c = true → itr (fun c l => if pRim c = true then (if fn c < l then fn c else l) else l) 144 k ≤ fn c) ∧ (itr (fun c l => if pRim c = true then (if fn c < l then fn c else l) else l) 144 k = 144 ∨ ∃ c, c < k ∧ pRim c = true ∧ itr (fun c l => if pRim c = true then (if fn c < l then fn c else l) else l) 144 k = fn c) := by
    intro k
    induction k with
    | zero => exact ⟨fun c hc => by omega, Or.inl rfl⟩
    | succ k ih =>
      rw [itr_s]
      generalize itr (fun c l => if pRim c = true then (if fn c < l then fn c else l) else l) 144 k = x at ih
      obtain ⟨i1, i2⟩ := ih
      by_cases hr : pRim k = true
      · simp only [hr, if_true]
        by_cases hlt : fn k < x
        · simp only [hlt, if_true]
          refine ⟨fun c hc hrc => ?_, Or.inr ⟨k, by omega, hr, rfl⟩⟩
          by_cases hck : c = k
          · subst hck; exact Nat.le_refl _
          · have := i1 c (by omega) hrc; omega
        · simp only [hlt, if_false]
          refine ⟨fun c hc hrc => ?_, ?_⟩
          · by_cases hck : c = k
            · subst hck; omega
            · exact i1 c (by omega) hrc
          · rcases i2 with e | ⟨c, a1, a2, a3⟩
            · exact Or.inl e
            · exact Or.inr ⟨c, by omega, a2, a3⟩
      · simp only [hr]
        refine ⟨fun c hc hrc => ?_, ?_⟩
        · by_cases hck : c = k
          · subst hck; exact absurd hrc hr
          · exact i1 c (by omega) hrc
        · rcases i2 with e | ⟨c, a1, a2, a3⟩
          · exact Or.inl e
          · exact Or.inr ⟨c, by omega, a2, a3⟩
  exact key 144
theorem cm_thick_eq (h : FM (Sh, V, L, n) m u Fz np nh w) (hsh : pShOk w) (h7 : pHas w = true) : ∃ A v, v < 144 ∧ pThk w = some v ∧ cm_X1_thick (Sh, V, L, n) (m 0) = some (nI v, stF Sh V L n m A) := by
  obtain ⟨fn, h1, h2, h3⟩ := cm_thick_all (g := V (m 9)) h (fn0_snd w)
  obtain ⟨l1, l2⟩ := lstN_le fn
  have least := TSnd_least h2 h3
  obtain ⟨c0, n0, k0, a1, a2, a3, a4⟩ := way_left hsh h7
  have b1 := l1 c0 a1 a2
  have b2 := least n0 c0 k0 a1 a4
  have hL : isL (bT w) (pBss w) (some (lstN fn)) := by
    refine ⟨?_, fun c hc hr n k hw => ?_⟩
    · rcases l2 with e | ⟨c, c1, c2, c3⟩
      · omega
      · obtain ⟨n', hn'⟩ := (h2 c c1).2.1 (by omega)
        exact ⟨c, n', c1, c2, by rw [c3]; exact hn'⟩
    · have := l1 c hc hr
      have := least n c k hc hw
      omega
  refine ⟨rN fn (V (m 9)), lstN fn, by omega, pL_eq hL, ?_⟩
  unfold cm_X1_thick
  rw [cm_thick_1 h, bnd_S, h1, bnd_S, cm_thick_last h h2, bnd_S]
end T2
