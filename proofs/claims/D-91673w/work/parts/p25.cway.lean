/-! PURE: the component: the fewest cells of a way -/
set_option maxRecDepth 100000
section WY
variable {Sh : g_Sh} {V : g_V} {L : g_L} {n : Nat} {m u : Nat → Nat} {Fz : Nat → Prop} {np nh : Nat} {w : Nat → Int32}
abbrev st9 (Sh : g_Sh) (V : g_V) (L : g_L) (n : Nat) (m : Nat → Nat) (A B : Nat → Int32) : c_S := (Sh, rowV (rowV V (m 9) A) (m 10) B, L, n)
theorem FM_st9 (h : FM (Sh, V, L, n) m u Fz np nh w) (A B : Nat → Int32) : FM (st9 Sh V L n m A B) m u Fz np nh w := FM_row (FM_row h (by omega) (by omega) (by omega) (by omega)) (by omega) (by omega) (by omega) (by omega)
theorem st9_self : st9 Sh V L n m (V (m 9)) (V (m 10)) = (Sh, V, L, n) := by
  unfold st9
  rw [rowV_self, rowV_self]
abbrev bO (w : Nat → Int32) : Nat → Option Nat := bW w none (some 1)
theorem bO_1 (w : Nat → Int32) : ∀ c x, bO w c = some x → x = 1 := by
  intro c x h
  unfold bO bW at h
  split at h
  · cases h
  · split at h
    · cases h
    · cases h; rfl
theorem bO_iff (w : Nat → Int32) (c : Nat) : bO w c = some 1 ↔ pShf w c = false ∧ pFro w c = false := by
  unfold bO bW
  cases pShf w c <;> cases pFro w c <;> simp
def srcW (w : Nat → Int32) (c : Nat) : Bool := !pShf w c && !pFro w c && pBs w c
def fo0 (w : Nat → Int32) (c : Nat) : Nat → Option Nat := fun j => if j < c ∧ srcW w j = true then some 1 else none
theorem fo0_s {c : Nat} (h : srcW w c = true) : fo0 w (c + 1) = updO (fo0 w c) c (some 1) := by
  funext j
  unfold fo0 updO
  by_cases hj : j = c
  · subst hj; simp [h]
  · have e : (j < c + 1 ∧ srcW w j = true) = (j < c ∧ srcW w j = true) := propext (by constructor <;> intro h9 <;> exact ⟨by omega, h9.2⟩)
    simp [hj, e]
theorem fo0_n {c : Nat} (h : srcW w c = false) : fo0 w (c + 1) = fo0 w c := by
  funext j
  unfold fo0
  have e : (j < c + 1 ∧ srcW w j = true) = (j < c ∧ srcW w j = true) := propext (by
    constructor
    · intro h9
      by_cases hj : j = c
      · subst hj; rw [h] at h9; exact absurd h9.2 (by simp)
      · exact ⟨by omega, h9.2⟩
    · intro h9; exact ⟨by omega, h9.2⟩)
  simp only [e]
/-- the queue at first -/
def W1 (w : Nat → Int32) (c to : Nat) (A B : Nat → Int32) (qf : Nat → Nat) : Prop := (∀ j, j < c → A j = oI0 (fo0 w c j)) ∧ (∀ k, k < to → B k = nI (qf k)) ∧ to = cnt (fo0 w c) ∧ (∀ k, k < to → qf k < c ∧ srcW w (qf k) = true) ∧ ∀ j, j < c → srcW w j = true → ∃ k, k < to ∧ qf k = j
theorem one_nI : (1 : Int32) = nI 1 := rfl
theorem cm_way_1 (h : FM (Sh, V, L, n) m u Fz np nh w) : ∃ to A B qf, cm_X1_way_L6 (m 0) 0 1000 0 0 (Sh, V, L, n) = some (nI to, st9 Sh V L n m A B) ∧ W1 w 144 to A B qf := by
  have hm := h.2.1
  have hr := lp_rel (F := cm_X1_way_F6 (m 0) 0) (N := 144) (P := fun out => ∃ to A B qf, out = (nI to, st9 Sh V L n m A B) ∧ W1 w 144 to A B qf) (fun c q => q.2.1 = nI c ∧ ∃ to A B qf, q.1 = nI to ∧ q.2.2 = st9 Sh V L n m A B ∧ W1 w c to A B qf) ?_ ?_ 1000 0 (0, 0, (Sh, V, L, n)) (by omega) (by omega) ⟨nI_0.symm, 0, V (m 9), V (m 10), fun _ => 0, nI_0.symm, st9_self.symm, fun j hj => by omega, fun k hk => by omega, ?_, fun k hk => by omega, fun j hj => by omega⟩
  · obtain ⟨out, h1, to, A, B, qf, rfl, h2⟩ := hr
    exact ⟨to, A, B, qf, h1, h2⟩
  · intro c q hc hq
    obtain ⟨x2, x3, Z'⟩ := q
    obtain ⟨e3, to, A, B, qf, e2, eZ, w1, w2, w3, w4, w5⟩ := hq
    simp only at e3 e2 eZ
    subst e3 e2 eZ
    have hto : to ≤ 144 := by rw [w3]; exact cnt_le _
    have hMA := fun A B => FM_st9 h A B
    have hF : FS0 Sh m (u 0) := h.1.1
    have hA : FSa Sh m := h.1.2.1
    have hTT : ∀ A B, TS Sh (rowV (rowV V (m 9) A) (m 10) B) Fz u w := fun A B => (hMA A B).1.2.2.1
    have hsh : ∀ A B, cm_X2_isShaft (st9 Sh V L n m A B) (u 0) (nI c) = some (b2i (pShf w c)) := fun A B => cm_isShaft_eq (hTT A B) hc
    have hfr : ∀ A B, cm_X1_isFrozen (st9 Sh V L n m A B) (m 0) (nI c) = some (b2i (pFro w c)) := fun A B => cm_isFrozen_eq (hMA A B).1 hc
    have hbs : ∀ A B, cm_X1_isBesideShaft (st9 Sh V L n m A B) (m 0) (nI c) = some (b2i (pBs w c)) := fun A B => cm_isBesideShaft_eq (hMA A B).1 hc
    unfold st9 at hsh hfr hbs
    have keepA : ∀ j, j < c + 1 → upd A c (-1) j = oI0 (fo0 w c j) := by
      intro j hj
      by_cases hjc : j = c
      · subst hjc
        rw [upd_eq]
        unfold fo0
        rw [if_neg (fun q => by omega)]
        rfl
      · rw [upd_ne hjc]
        exact w1 j (by omega)
    by_cases hs : srcW w c = true
    · refine ⟨(nI (to + 1), nI (c + 1), st9 Sh V L n m (upd (upd A c (-1)) c 1) (upd B to (nI c))), fun rec => ?_, rfl, to + 1, _, _, updN qf to c, rfl, rfl, fun j hj => ?_, fun k hk => ?_, ?_, fun k hk => ?_, fun j hj hsj => ?_⟩
      · have hs2 := hs
        unfold srcW at hs2
        simp only [Bool.and_eq_true, Bool.not_eq_true'] at hs2
        obtain ⟨⟨s1, s2⟩, s3⟩ := hs2
        have z1 : ¬ b2i true = 0 := by decide
        unfold cm_X1_way_F6
        simp (disch := omega) only [cm_X1_way_B6, zSh_T, zV_T, zL_T, zn_T, L_add, L_addR, L_mul, L_mulR, L_div, N_div, N_rem, L_sub, L_subN, nI_add, nI_mul, L_le, L_leR, L_lt, L_ltR, L_eq, N_leT, N_leF, N_ltT, N_ltF, N_eqT, N_eqF, N_m1, bnd_S, un2_S, un3_S, nmI_S, nmL_S, ptI_S, cs2_L, cs2_R, okI_b, okI_1, okI_0, rdI_in, wrI_in, rdI_L, wrI_L, rdL_in, wrL_in, if_true, if_false, f_far hF, f_que hF, zsI_T hA.2.2.2.2.2.2.1, zsI_T hA.2.2.2.2.2.2.2, upd2_row, rowM_ne hm, rowV_eq, rowM_swap hm, rowV_over, Nat.zero_add, f_t hF, t_KT (h.1.2.2.1), hsh, hfr, hbs, f_KT hF, s1, s2, s3, b2iF, z1, Bool.true_eq_false]
      · rw [fo0_s hs]
        unfold updO
        by_cases hjc : j = c
        · rw [if_pos hjc, hjc, upd_eq]; rfl
        · rw [if_neg hjc, upd_ne hjc]; exact keepA j hj
      · unfold updN
        by_cases hkt : k = to
        · rw [if_pos hkt, hkt, upd_eq]
        · rw [if_neg hkt, upd_ne hkt]; exact w2 k (by omega)
      · rw [fo0_s hs, cnt_new hc (by unfold fo0; rw [if_neg (fun q => by omega)]), ← w3]
      · unfold updN
        by_cases hkt : k = to
        · rw [if_pos hkt]; exact ⟨by omega, hs⟩
        · rw [if_neg hkt]
          have := w4 k (by omega)
          exact ⟨by omega, this.2⟩
      · by_cases hjc : j = c
        · exact ⟨to, by omega, by unfold updN; rw [if_pos rfl, hjc]⟩
        · obtain ⟨k, hk, hk2⟩ := w5 j (by omega) hsj
          exact ⟨k, by omega, by unfold updN; rw [if_neg (by omega), hk2]⟩
    · have hs' : srcW w c = false := by simpa using hs
      refine ⟨(nI to, nI (c + 1), st9 Sh V L n m (upd A c (-1)) B), fun rec => ?_, rfl, to, _, _, qf, rfl, rfl, fun j hj => ?_, w2, ?_, fun k hk => ?_, fun j hj hsj => ?_⟩
      · unfold cm_X1_way_F6
        simp (disch := omega) only [cm_X1_way_B6, zSh_T, zV_T, zL_T, zn_T, L_add, L_addR, L_mul, L_mulR, L_div, N_div, N_rem, L_sub, L_subN, nI_add, nI_mul, L_le, L_leR, L_lt, L_ltR, L_eq, N_leT, N_leF, N_ltT, N_ltF, N_eqT, N_eqF, N_m1, bnd_S, un2_S, un3_S, nmI_S, nmL_S, ptI_S, cs2_L, cs2_R, okI_b, okI_1, okI_0, rdI_in, wrI_in, rdI_L, wrI_L, rdL_in, wrL_in, if_true, if_false, f_far hF, f_que hF, zsI_T hA.2.2.2.2.2.2.1, zsI_T hA.2.2.2.2.2.2.2, upd2_row, rowM_ne hm, rowV_eq, rowM_swap hm, rowV_over, Nat.zero_add, f_t hF, t_KT (h.1.2.2.1), hsh, hfr, hbs, f_KT hF, b2iF]
        unfold srcW at hs'
        cases s1 : pShf w c
        · cases s2 : pFro w c
          · cases s3 : pBs w c
            · simp
            · rw [s1, s2, s3] at hs'; simp at hs'
          · simp
        · simp
      · rw [fo0_n hs']; exact keepA j hj
      · rw [fo0_n hs']; exact w3
      · have := w4 k hk
        exact ⟨by omega, this.2⟩
      · by_cases hjc : j = c
        · rw [hjc, hs'] at hsj; cases hsj
        · exact w5 j (by omega) hsj
  · intro q hq
    obtain ⟨x2, x3, Z'⟩ := q
    obtain ⟨e3, to, A, B, qf, e2, eZ, hw⟩ := hq
    simp only at e3 e2 eZ
    subst e3 e2 eZ
    refine ⟨_, fun rec => ?_, to, A, B, qf, rfl, hw⟩
    unfold cm_X1_way_F6
    simp (disch := omega) only [cm_X1_way_B6, L_add, L_addR, L_mul, L_mulR, L_div, N_div, N_rem, L_sub, L_subN, nI_add, nI_mul, L_le, L_leR, L_lt, L_ltR, L_eq, N_leT, N_leF, N_ltT, N_ltF, N_eqT, N_eqF, N_m1, bnd_S, un2_S, un3_S, nmI_S, nmL_S, ptI_S, cs2_L, cs2_R, okI_b, okI_1, okI_0, rdI_in, wrI_in, rdI_L, wrI_L, rdL_in, wrL_in, if_true, if_false]
  · unfold cnt fo0
    simp only [Nat.not_lt_zero, false_and, if_false, Option.isSome_none, Bool.false_eq_true]
    rw [sumN_const]
theorem W1_BQ {to : Nat} {A B : Nat → Int32} {qf : Nat → Nat} (h : W1 w 144 to A B qf) : BQ (bO w) (pBss w) 0 to (fo0 w 144) qf := by
  obtain ⟨w1, w2, w3, w4, w5⟩ := h
  have hv : ∀ c v, fo0 w 144 c = some v → v = 1 ∧ c < 144 ∧ srcW w c = true := by
    intro c v hc
    unfold fo0 at hc
    split at hc
    · rename_i h9; cases hc; exact ⟨rfl, h9⟩
    · cases hc
  refine ⟨w3, fun k hk => ⟨(w4 k hk).1, 1, ?_⟩, fun c v hc hcv => w5 c hc (hv c v hcv).2.2, fun c v hc hcv => ?_, fun k k' v v' _ _ h1 h2 => ?_, fun c hc hs hb => ⟨1, ?_, Nat.le_refl 1⟩, fun k hk => by omega⟩
  · unfold fo0; rw [if_pos (w4 k hk)]
  · obtain ⟨rfl, h2, h3⟩ := hv c v hcv
    unfold srcW at h3
    simp only [Bool.and_eq_true, Bool.not_eq_true'] at h3
    obtain ⟨⟨s1, s2⟩, s3⟩ := h3
    exact ⟨1, 1, (bO_iff w c).mpr ⟨s1, s2⟩, Or.inl ⟨by unfold pBss; rw [s1, s3]; rfl, rfl⟩⟩
  · rw [(hv _ v h1).1, (hv _ v' h2).1]; exact Nat.le_refl 1
  · have hb2 := (bO_iff w c).mp hb
    unfold pBss at hs
    simp only [Bool.and_eq_true] at hs
    unfold fo0
    rw [if_pos ⟨hc, by unfold srcW; rw [hb2.1, hb2.2, hs.1]; rfl⟩]
end WY
