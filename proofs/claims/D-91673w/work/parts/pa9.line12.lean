/-! PURE: a text is read: one of words; a condition of a rule -/
set_option maxRecDepth 100000
section SIM2
variable {σ σ' α α' : Type} {F : (σ → Option α) → σ → Option α} {F' : (σ' → Option α') → σ' → Option α'}
/-- two loops side by side; the second may need one turn more to end -/
theorem lp_sim2 {N : Nat} {P : α → α' → Prop} (R : Nat → σ → σ' → Prop) (h : ∀ i s s', i ≤ N → R i s s' → (∃ o o', (∀ rec, F rec s = some o) ∧ ((∀ rec, F' rec s' = some o') ∨ ∃ t', (∀ rec, F' rec s' = rec t') ∧ ∀ rec, F' rec t' = some o') ∧ P o o') ∨ (i < N ∧ ∃ t t', (∀ rec, F rec s = rec t) ∧ (∀ rec, F' rec s' = rec t') ∧ R (i + 1) t t')) : ∀ n n' i s s', i ≤ N → N - i < n → N - i + 1 < n' → R i s s' → ∃ o o', lp F n s = some o ∧ lp F' n' s' = some o' ∧ P o o' := by
  intro n
  induction n with
  | zero => intro n' i s s' _ h1; omega
  | succ n ih =>
    intro n' i s s' hi h1 h2 hR
    cases n' with
    | zero => omega
    | succ n' =>
      rw [lp_s, lp_s]
      rcases h i s s' hi hR with ⟨o, o', e1, e2 | ⟨t', e2, e3⟩, hp⟩ | ⟨hl, t, t', e1, e2, hR'⟩
      · exact ⟨o, o', e1 _, e2 _, hp⟩
      · refine ⟨o, o', e1 _, ?_, hp⟩
        rw [e2]
        cases n' with
        | zero => omega
        | succ n' => rw [lp_s, e3]
      · rw [e1, e2]
        exact ih n' (i + 1) t t' (by omega) (by omega) (by omega) hR'
end SIM2
/-- whether the token is that word -/
def bw (V2 : g_V) (w : Nat) : Bool := tw_is w V2 == some 1
section L12
variable {Sh : g_Sh} {V V' : g_V} {L : g_L} {n r tp ms bg sz w : Nat} {V2 V2' : g_V} {gp : Nat → Nat}
theorem t_isb (h : RW Sh V r tp ms bg V2 sz) (hg : gpI gp) (hw : w < 24) : cm_X3_is gp (Sh, V, L, n) r (gp w) = some (b2i (bw V2 w)) ∧ tw_is w V2 = some (b2i (bw V2 w)) := by
  obtain ⟨b, e1, e2⟩ := t_is (L := L) (n := n) h hg hw
  have : bw V2 w = b := by
    unfold bw
    rw [e2]
    cases b <;> rfl
  rw [this]
  exact ⟨e1, e2⟩
theorem t_oneOf {a len base : Nat} {el : Nat → Option Nat} (h : RW Sh V r tp ms bg V2 sz) (hg : gpI gp) (ha : Sh a = some (d_ref 6 len el)) (hl : len ≤ 9) (hb : base + len ≤ 24) (he : ∀ i, i < len → el i = some (gp (base + i))) : ∃ K, K ≤ len ∧ (∀ j, j < K → bw V2 (base + j) = false) ∧ (K < len → bw V2 (base + K) = true) ∧ cm_X3_oneOf gp (Sh, V, L, n) r a = some (if K < len then nI K else -1) := by
  have hro := h.1
  obtain ⟨K, k1, k2, k3⟩ := first_b (fun i => bw V2 (base + i)) len
  refine ⟨K, k1, k2, k3, ?_⟩
  have ln : ∀ (α : Type) (k : Int32 → Option α), zLen (Sh, V, L, n) a k = k (nI len) := fun α k => zLen_ref ha (by omega)
  have z1 : ¬ (1 : Int32) = 0 := by decide
  have hr := lp_rel (F := cm_X3_oneOf_F2 gp r a (Sh, V, L, n)) (N := K) (P := fun out => out = nI K) (fun i s => s = nI i) ?_ ?_ 1000 0 (nI 0) (by omega) (by omega) rfl
  · obtain ⟨out, e1, rfl⟩ := hr
    have e1 : cm_X3_oneOf_L2 gp r a (Sh, V, L, n) 1000 0 = some (nI K) := e1
    unfold cm_X3_oneOf
    rw [e1, bnd_S, ln]
    by_cases hK : K < len
    · rw [if_neg (by rw [N_le (by omega) (by omega)]; omega), if_pos hK]
    · rw [if_pos (by rw [N_le (by omega) (by omega)]; omega), if_neg hK]
  · intro i s hi hs
    subst hs
    refine ⟨nI (i + 1), fun rec => ?_, rfl⟩
    have e := (t_isb (L := L) (n := n) (w := base + i) h hg (by omega)).1
    rw [k2 i hi] at e
    unfold cm_X3_oneOf_F2
    simp (disch := omega) only [cm_X3_oneOf_B2, ln, N_leF, if_false, zSh_T, zV_T, zL_T, zn_T, caR_eq ha, he i (by omega), nn_eq, r_K hro, e, bnd_S, b2iF, if_true, nmI_S, L_addR]
  · intro s hs
    subst hs
    refine ⟨nI K, fun rec => ?_, rfl⟩
    unfold cm_X3_oneOf_F2
    by_cases hK : K < len
    · have e := (t_isb (L := L) (n := n) (w := base + K) h hg (by omega)).1
      have k3' : bw V2 (base + K) = true := k3 hK
      rw [k3'] at e
      simp (disch := omega) only [cm_X3_oneOf_B2, ln, N_leF, if_false, zSh_T, zV_T, zL_T, zn_T, caR_eq ha, he K (by omega), nn_eq, r_K hro, e, bnd_S, b2iF, Bool.true_eq_false]
    · simp (disch := omega) only [cm_X3_oneOf_B2, ln, N_leT, if_true]
/-- the reference's word of a condition -/
theorem tw_here (h : RW Sh V r tp ms bg V2 sz) (hg : gpI gp) {K : Nat} (hK : K ≤ 4) (k2 : ∀ j, j < K → bw V2 (0 + j) = false) (k3 : K < 4 → bw V2 (0 + K) = true) : tw_wordHere V2 = some (if bw V2 21 = true then 0 else if K < 4 then nI (K + 1) else -1) := by
  have e : ∀ w, w < 24 → tw_is w V2 = some (b2i (bw V2 w)) := fun w hw => (t_isb (L := fun _ _ => 0) (n := 0) h hg hw).2
  unfold tw_wordHere
  simp only [e 21 (by omega), e 0 (by omega), e 1 (by omega), e 2 (by omega), e 3 (by omega), bnd_S, b2iF]
  cases hb : bw V2 21 with
  | true => rfl
  | false =>
    have hh : K = 0 ∨ K = 1 ∨ K = 2 ∨ K = 3 ∨ K = 4 := by omega
    rcases hh with rfl | rfl | rfl | rfl | rfl
    · have a0 : bw V2 0 = true := k3 (by omega)
      simp [a0]; rfl
    · have a0 : bw V2 0 = false := k2 0 (by omega)
      have a1 : bw V2 1 = true := k3 (by omega)
      simp [a0, a1]; rfl
    · have a0 : bw V2 0 = false := k2 0 (by omega)
      have a1 : bw V2 1 = false := k2 1 (by omega)
      have a2 : bw V2 2 = true := k3 (by omega)
      simp [a0, a1, a2]; rfl
    · have a0 : bw V2 0 = false := k2 0 (by omega)
      have a1 : bw V2 1 = false := k2 1 (by omega)
      have a2 : bw V2 2 = false := k2 2 (by omega)
      have a3 : bw V2 3 = true := k3 (by omega)
      simp [a0, a1, a2, a3]; rfl
    · have a0 : bw V2 0 = false := k2 0 (by omega)
      have a1 : bw V2 1 = false := k2 1 (by omega)
      have a2 : bw V2 2 = false := k2 2 (by omega)
      have a3 : bw V2 3 = false := k2 3 (by omega)
      simp [a0, a1, a2, a3]
end L12
/-- the row without the rule in the making -/
def shd (V2 : g_V) (nr : Nat) : g_V := rowV V2 15 (fun j => if 750 + 10 * nr ≤ j ∧ j < 760 + 10 * nr then 0 else V2 15 j)
section SHD
variable {V V' V2 V2' : g_V} {nr r : Nat}
theorem shd_ne {a : Nat} (h : a ≠ 15) : shd V2 nr a = V2 a := rowV_ne h
theorem shd_w {j : Nat} {x : Int32} (h : 750 + 10 * nr ≤ j ∧ j < 760 + 10 * nr) : shd (upd2 V2 15 j x) nr = shd V2 nr := by
  unfold shd
  rw [upd2_row, rowV_over]
  congr 1
  funext i
  by_cases c : 750 + 10 * nr ≤ i ∧ i < 760 + 10 * nr
  · rw [if_pos c, if_pos c]
  · rw [if_neg c, if_neg c, rowV_eq, upd_ne (by omega)]
theorem shd_st (h : Tst r V V' V2 V2') : Tst r V V' (shd V2 nr) (shd V2' nr) := by
  refine ⟨h.1, h.2.1, fun a ha => ?_, fun j hj => ?_⟩
  · by_cases e : a = 15
    · subst e
      unfold shd
      rw [rowV_eq, rowV_eq, h.2.2.1 15 (by omega)]
    · rw [shd_ne e, shd_ne e]; exact h.2.2.1 a ha
  · rw [shd_ne (by omega), shd_ne (by omega)]; exact h.2.2.2 j hj
theorem shd_rw {Sh : g_Sh} {tp ms bg sz : Nat} (h : RW Sh V r tp ms bg V2 sz) : RW Sh V r tp ms bg (shd V2 nr) sz := RW_w h (shd_ne (by omega)) (fun j _ => by rw [shd_ne (by omega)])
theorem shd_wr {Sh : g_Sh} {tp ms bg sz : Nat} (h : RW Sh V r tp ms bg (shd V2 nr) sz) : RW Sh V r tp ms bg V2 sz := RW_w h (shd_ne (by omega)).symm (fun j _ => by rw [shd_ne (by omega)])
end SHD
