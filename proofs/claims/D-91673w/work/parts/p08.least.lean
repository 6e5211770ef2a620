/-! PURE: the reference: the least that a way out costs -/
set_option maxRecDepth 100000
def rO (fo : Nat → Option Nat) (g : Nat → Int32) : Nat → Int32 := fun c => if c < 144 then oI0 (fo c) else g c
def bW (w : Nat → Int32) (fz ot : Option Nat) (c : Nat) : Option Nat := if pShf w c = true then none else if pFro w c = true then fz else ot
theorem rO_at {fo : Nat → Option Nat} {g : Nat → Int32} {c : Nat} (h : c < 144) : rO fo g c = oI0 (fo c) := if_pos h
theorem rO_upd {fo : Nat → Option Nat} {g : Nat → Int32} {c : Nat} {v : Option Nat} (h : c < 144) : upd (rO fo g) c (oI0 v) = rO (updO fo c v) g := by
  funext j
  unfold upd rO updO
  by_cases hj : j = c
  · subst hj; simp [h]
  · simp [hj]
theorem oI0_add (k x : Nat) : oI0 (some k) + nI x = nI (k + x) := nI_add k x
theorem oI0_S (k : Nat) : oI0 (some k) = nI k := rfl
theorem oI0_N : oI0 none = -1 := rfl
theorem m1m1 : ((-1 : Int32) = -1) = True := eq_true rfl
section LO
variable {V : g_V} {g : Nat → Int32} {fo : Nat → Option Nat} {x c : Nat}
theorem lo_95 {x1 x2 x3 : Int32} {l0 : Option Nat} (hfo : ∀ d k, d < 144 → fo d = some k → k ≤ 144) (hx : x ≤ 1) (hc : c < 144) (hl0 : ∀ m, l0 = some m → m ≤ 400) :
    tw_leastOut_L95 x1 x2 x3 (nI c) (nI x) (rowV V 26 (rO fo g)) 100000 (oI0 l0) 0 = some (oI0 (itr (fun i l => omin l (nbr fo x c i)) l0 4)) := by
  have h := lp_itrI (F := tw_leastOut_F95 x1 x2 x3 (nI c) (nI x) (rowV V 26 (rO fo g))) (N := 4) (mk := fun (l : Option Nat) i => (oI0 l, nI i)) (f := fun i l => omin l (nbr fo x c i)) (out := oI0) (fun _ l => ∀ m, l = some m → m ≤ 400) (n := 100000) (a := l0) ?_ ?_ (by omega) hl0
  · simp only [nI_0] at h
    exact h.1
  · intro rec i l hi hl
    have hb4 : ∀ m, omin l (nbr fo x c i) = some m → m ≤ 400 := by
      intro m hm
      rcases omin_le.2.2 m hm with h1 | h1
      · exact hl m h1
      · unfold nbr at h1
        cases hbs : pBes c i with
        | none => rw [hbs] at h1; cases h1
        | some d =>
          rw [hbs] at h1
          simp only at h1
          cases hfd : fo d with
          | none => rw [hfd] at h1; cases h1
          | some k =>
            rw [hfd] at h1
            simp only at h1
            cases h1
            have := hfo d k (pBes_lt hc hbs) hfd
            omega
    refine ⟨?_, hb4⟩
    unfold tw_leastOut_F95
    simp (disch := omega) only [tw_leastOut_B95, L_add, L_addR, L_mul, L_mulR, L_div, N_div, N_rem, L_sub, L_subN, nI_add, nI_mul, L_le, L_leR, L_lt, L_ltR, L_eq, N_leT, N_leF, N_ltT, N_ltF, N_eqT, N_eqF, N_m1, bnd_S, un2_S, un3_S, nmI_S, nmL_S, ptI_S, cs2_L, cs2_R, okI_b, okI_1, okI_0, rdI_in, wrI_in, rdI_L, wrI_L, rdL_in, wrL_in, if_true, if_false, tw_beside_eq hc hi]
    unfold nbr
    cases hbs : pBes c i with
    | none => simp only [oI0_N, m1m1, if_true]; rfl
    | some d =>
      have hd := pBes_lt hc hbs
      simp (disch := omega) only [oI0_S, N_m1, if_false, rdI_in, rowV_eq, rO_at hd]
      cases hfd : fo d with
      | none => simp only [oI0_N, m1m1, if_true]; rfl
      | some k =>
        have hk := hfo d k hd hfd
        simp (disch := omega) only [oI0_S, N_m1, if_false, nI_add, nmI_S]
        cases hlc : l with
        | none => simp only [oI0_N, m1m1, if_true]; rfl
        | some m =>
          have hm := hl m hlc
          simp (disch := omega) only [oI0_S, N_m1, if_false, N_le]
          by_cases hmk : m ≤ k + x
          · simp [omin, hmk, oI0]
          · simp [omin, hmk, oI0]
  · intro rec l hl
    unfold tw_leastOut_F95
    simp (disch := omega) only [tw_leastOut_B95, L_add, L_addR, L_mul, L_mulR, L_div, N_div, N_rem, L_sub, L_subN, nI_add, nI_mul, L_le, L_leR, L_lt, L_ltR, L_eq, N_leT, N_leF, N_ltT, N_ltF, N_eqT, N_eqF, N_m1, bnd_S, un2_S, un3_S, nmI_S, nmL_S, ptI_S, cs2_L, cs2_R, okI_b, okI_1, okI_0, rdI_in, wrI_in, rdI_L, wrI_L, rdL_in, wrL_in, if_true, if_false]
variable {fz ot : Option Nat} (hk : pKok (V 1)) (hfz : ∀ x, fz = some x → x ≤ 1) (hot : ∀ x, ot = some x → x ≤ 1)
theorem bW_1 {w : Nat → Int32} {fz ot : Option Nat} (hfz : ∀ x, fz = some x → x ≤ 1) (hot : ∀ x, ot = some x → x ≤ 1) : ∀ c x, bW w fz ot c = some x → x ≤ 1 := by
  intro c x h
  unfold bW at h
  split at h
  · cases h
  · split at h
    · exact hfz x h
    · exact hot x h
theorem lo_step {m : Bool} {rec : Int32 × Int32 × g_V → Option (Int32 × g_V)} (hk : pKok (V 1)) (hfz : ∀ x, fz = some x → x ≤ 1) (hot : ∀ x, ot = some x → x ≤ 1) (hc : c < 144) (hfo : ∀ d k, d < 144 → fo d = some k → k ≤ 144) :
    tw_leastOut_F33 (oI0 fz) (oI0 ot) rec (b2i m, nI c, rowV V 26 (rO fo g)) = rec (b2i (rlx (bW (V 1) fz ot) (pBss (V 1)) c (m, fo)).1, nI (c + 1), rowV V 26 (rO (rlx (bW (V 1) fz ot) (pBss (V 1)) c (m, fo)).2 g)) := by
  have e1 : (rowV V 26 (rO fo g)) 1 = V 1 := rowV_ne (by omega)
  have hk1 : pKok ((rowV V 26 (rO fo g)) 1) := by rw [e1]; exact hk
  have hF := tw_isFrozen_eq hk1 hc
  have hS := tw_isShaft_eq (V := rowV V 26 (rO fo g)) hc
  have hB := tw_isBesideShaft_eq (V := rowV V 26 (rO fo g)) hc
  rw [e1] at hF hS hB
  have e26 : (rowV V 26 (rO fo g)) 26 = rO fo g := rowV_eq _ _ _
  have j90 : ∀ x, bW (V 1) fz ot c = some x → ∀ z, z = oI0 (if pBss (V 1) c = true then some x else none) → tw_leastOut_J90 (fun x3 x4 V => rec (x3, x4, V)) (oI0 fz) (oI0 ot) (b2i m) (nI c) (nI x) z (rowV V 26 (rO fo g)) = rec (b2i (rlx (bW (V 1) fz ot) (pBss (V 1)) c (m, fo)).1, nI (c + 1), rowV V 26 (rO (rlx (bW (V 1) fz ot) (pBss (V 1)) c (m, fo)).2 g)) := by
    intro x hb z hz
    have hx := bW_1 hfz hot c x hb
    subst hz
    unfold tw_leastOut_J90
    rw [lo_95 hfo hx hc (by intro m hm; split at hm <;> cases hm; omega), bnd_S, show (itr (fun i l => omin l (nbr fo x c i)) (if pBss (V 1) c = true then some x else none) 4) = lwx (pBss (V 1)) fo x c from rfl]
    have hu : ∀ l, wrI (rowV V 26 (rO fo g)) 26 144 (nI c) (nI l) (fun V_73 => nmI (nI c + 1) fun x_74 => rec (1, x_74, V_73)) = rec (b2i true, nI (c + 1), rowV V 26 (rO (updO fo c (some l)) g)) := by
      intro l
      have h := rO_upd (fo := fo) (g := g) (v := some l) hc
      rw [oI0_S] at h
      simp (disch := omega) only [L_add, L_addR, L_mul, L_mulR, L_div, N_div, N_rem, L_sub, L_subN, nI_add, nI_mul, L_le, L_leR, L_lt, L_ltR, L_eq, N_leT, N_leF, N_ltT, N_ltF, N_eqT, N_eqF, N_m1, bnd_S, un2_S, un3_S, nmI_S, nmL_S, ptI_S, cs2_L, cs2_R, okI_b, okI_1, okI_0, rdI_in, wrI_in, rdI_L, wrI_L, rdL_in, wrL_in, if_true, if_false, upd2_row, rowV_over, e26, h]
      rfl
    unfold rlx
    rw [hb]
    simp only
    cases hl : lwx (pBss (V 1)) fo x c with
    | none => simp only [oI0_N, m1m1, if_true, L_add, L_addR, L_mul, L_mulR, L_div, N_div, N_rem, L_sub, L_subN, nI_add, nI_mul, L_le, L_leR, L_lt, L_ltR, L_eq, N_leT, N_leF, N_ltT, N_ltF, N_eqT, N_eqF, N_m1, bnd_S, un2_S, un3_S, nmI_S, nmL_S, ptI_S, cs2_L, cs2_R, okI_b, okI_1, okI_0, rdI_in, wrI_in, rdI_L, wrI_L, rdL_in, wrL_in, if_true, if_false]
    | some l =>
      have hl4 : l ≤ 400 := by
        have h3 := (om_itr (nbr fo x c) (if pBss (V 1) c = true then some x else none) 4).2.2 l hl
        rcases h3 with h1 | ⟨i, hi, h1⟩
        · split at h1
          · cases h1; omega
          · cases h1
        · unfold nbr at h1
          cases hbs : pBes c i with
          | none => rw [hbs] at h1; cases h1
          | some d =>
            rw [hbs] at h1
            simp only at h1
            cases hfd : fo d with
            | none => rw [hfd] at h1; cases h1
            | some k =>
              rw [hfd] at h1
              simp only at h1
              cases h1
              have := hfo d k (pBes_lt hc hbs) hfd
              omega
      simp (disch := omega) only [oI0_S, N_m1, if_false, rdI_in, e26, rO_at hc]
      cases hf : fo c with
      | none =>
        simp only [oI0_N, m1m1, if_true]
        exact hu l
      | some m1 =>
        have hm1 := hfo c m1 hc hf
        simp (disch := omega) only [oI0_S, N_m1, if_false, N_lt]
        by_cases hlm : l < m1
        · simp only [hlm, if_true]
          exact hu l
        · simp only [hlm, if_false, L_add, L_addR, L_mul, L_mulR, L_div, N_div, N_rem, L_sub, L_subN, nI_add, nI_mul, L_le, L_leR, L_lt, L_ltR, L_eq, N_leT, N_leF, N_ltT, N_ltF, N_eqT, N_eqF, N_m1, bnd_S, un2_S, un3_S, nmI_S, nmL_S, ptI_S, cs2_L, cs2_R, okI_b, okI_1, okI_0, rdI_in, wrI_in, rdI_L, wrI_L, rdL_in, wrL_in, if_true, if_false]
  have j55 : ∀ y, y = (if pFro (V 1) c = true then fz else ot) → tw_leastOut_J55 (fun x3 x4 V => rec (x3, x4, V)) (oI0 fz) (oI0 ot) (b2i m) (nI c) (oI0 y) (rowV V 26 (rO fo g)) = rec (b2i (rlx (bW (V 1) fz ot) (pBss (V 1)) c (m, fo)).1, nI (c + 1), rowV V 26 (rO (rlx (bW (V 1) fz ot) (pBss (V 1)) c (m, fo)).2 g)) := by
    intro y hy
    unfold tw_leastOut_J55
    rw [hS, bnd_S]
    simp only [b2iF]
    cases hsh : pShf (V 1) c
    · simp only [if_true]
      have hbw : bW (V 1) fz ot c = y := by unfold bW; rw [hsh, hy]; simp
      cases hyc : y with
      | none =>
        have : rlx (bW (V 1) fz ot) (pBss (V 1)) c (m, fo) = (m, fo) := by unfold rlx; rw [hbw, hyc]
        rw [this]
        simp only [oI0_N, m1m1, if_true, L_add, L_addR, L_mul, L_mulR, L_div, N_div, N_rem, L_sub, L_subN, nI_add, nI_mul, L_le, L_leR, L_lt, L_ltR, L_eq, N_leT, N_leF, N_ltT, N_ltF, N_eqT, N_eqF, N_m1, bnd_S, un2_S, un3_S, nmI_S, nmL_S, ptI_S, cs2_L, cs2_R, okI_b, okI_1, okI_0, rdI_in, wrI_in, rdI_L, wrI_L, rdL_in, wrL_in, if_true, if_false]
      | some x =>
        rw [hyc] at hbw
        have hx := bW_1 hfz hot c x hbw
        simp (disch := omega) only [oI0_S, N_m1, if_false, hB, bnd_S, b2iF]
        have h9 := j90 x hbw
        cases hbs : pBss (V 1) c
        · rw [hbs] at h9
          simp only [if_true]
          exact h9 (-1) rfl
        · rw [hbs] at h9
          simp only [Bool.true_eq_false, if_false]
          exact h9 (nI x) rfl
    · simp only [Bool.true_eq_false, if_false]
      have : rlx (bW (V 1) fz ot) (pBss (V 1)) c (m, fo) = (m, fo) := by unfold rlx bW; rw [hsh]; simp
      rw [this]
      simp only [L_add, L_addR, L_mul, L_mulR, L_div, N_div, N_rem, L_sub, L_subN, nI_add, nI_mul, L_le, L_leR, L_lt, L_ltR, L_eq, N_leT, N_leF, N_ltT, N_ltF, N_eqT, N_eqF, N_m1, bnd_S, un2_S, un3_S, nmI_S, nmL_S, ptI_S, cs2_L, cs2_R, okI_b, okI_1, okI_0, rdI_in, wrI_in, rdI_L, wrI_L, rdL_in, wrL_in, if_true, if_false]
  unfold tw_leastOut_F33
  simp (disch := omega) only [tw_leastOut_B33, L_add, L_addR, L_mul, L_mulR, L_div, N_div, N_rem, L_sub, L_subN, nI_add, nI_mul, L_le, L_leR, L_lt, L_ltR, L_eq, N_leT, N_leF, N_ltT, N_ltF, N_eqT, N_eqF, N_m1, bnd_S, un2_S, un3_S, nmI_S, nmL_S, ptI_S, cs2_L, cs2_R, okI_b, okI_1, okI_0, rdI_in, wrI_in, rdI_L, wrI_L, rdL_in, wrL_in, if_true, if_false, hF, b2iF]
  cases hfr : pFro (V 1) c
  · simp only [if_true]
    exact j55 ot (by rw [hfr]; simp)
  · simp only [Bool.true_eq_false, if_false]
    exact j55 fz (by rw [hfr]; simp)
theorem Snd_144 {b : Nat → Option Nat} {s : Nat → Bool} (hs : Snd b s fo) : ∀ d k, d < 144 → fo d = some k → k ≤ 144 := fun d k hd hk => Nat.le_trans (hs d k hd hk).2 (cnt_le fo)
theorem lo_pass (hk : pKok (V 1)) (hfz : ∀ x, fz = some x → x ≤ 1) (hot : ∀ x, ot = some x → x ≤ 1) (hs : Snd (bW (V 1) fz ot) (pBss (V 1)) fo) :
    ∃ m fo', tw_leastOut_L33 (oI0 fz) (oI0 ot) 100000 0 0 (rowV V 26 (rO fo g)) = some (b2i m, rowV V 26 (rO fo' g)) ∧ rlI (bW (V 1) fz ot) (pBss (V 1)) fo 144 (m, fo') := by
  have h := lp_itrI (F := tw_leastOut_F33 (oI0 fz) (oI0 ot)) (N := 144) (mk := fun (q : Bool × (Nat → Option Nat)) i => (b2i q.1, nI i, rowV V 26 (rO q.2 g))) (f := rlx (bW (V 1) fz ot) (pBss (V 1))) (out := fun q => (b2i q.1, rowV V 26 (rO q.2 g))) (rlI (bW (V 1) fz ot) (pBss (V 1)) fo) (n := 100000) (a := (false, fo)) ?_ ?_ (by omega) ⟨hs, fun _ => ⟨rfl, fun c' h => by omega⟩, fun h => Bool.noConfusion h⟩
  · simp only [nI_0] at h
    exact ⟨_, _, h.1, h.2⟩
  · intro rec i q hi hq
    refine ⟨?_, rlx_I (bW_1 hfz hot) hi hq⟩
    obtain ⟨m, fo1⟩ := q
    exact lo_step hk hfz hot hi (Snd_144 hq.1)
  · intro rec q hq
    unfold tw_leastOut_F33
    simp (disch := omega) only [tw_leastOut_B33, L_add, L_addR, L_mul, L_mulR, L_div, N_div, N_rem, L_sub, L_subN, nI_add, nI_mul, L_le, L_leR, L_lt, L_ltR, L_eq, N_leT, N_leF, N_ltT, N_ltF, N_eqT, N_eqF, N_m1, bnd_S, un2_S, un3_S, nmI_S, nmL_S, ptI_S, cs2_L, cs2_R, okI_b, okI_1, okI_0, rdI_in, wrI_in, rdI_L, wrI_L, rdL_in, wrL_in, if_true, if_false]
theorem lo_all (hk : pKok (V 1)) (hfz : ∀ x, fz = some x → x ≤ 1) (hot : ∀ x, ot = some x → x ≤ 1) (hs : Snd (bW (V 1) fz ot) (pBss (V 1)) fo) (hmu : muO fo < 99990) :
    ∃ fo', tw_leastOut_L24 (oI0 fz) (oI0 ot) 100000 1 (rowV V 26 (rO fo g)) = some (rowV V 26 (rO fo' g)) ∧ Snd (bW (V 1) fz ot) (pBss (V 1)) fo' ∧ ∀ c, c < 144 → Cls (bW (V 1) fz ot) (pBss (V 1)) fo' c := by
  have h := lp_wf (F := tw_leastOut_F24 (oI0 fz) (oI0 ot)) (I := fun s => ∃ m fo', s = (b2i m, rowV V 26 (rO fo' g)) ∧ muO fo' < 99990 ∧ Snd (bW (V 1) fz ot) (pBss (V 1)) fo' ∧ (m = false → ∀ c, c < 144 → Cls (bW (V 1) fz ot) (pBss (V 1)) fo' c))
    (P := fun out => ∃ fo', out = rowV V 26 (rO fo' g) ∧ Snd (bW (V 1) fz ot) (pBss (V 1)) fo' ∧ ∀ c, c < 144 → Cls (bW (V 1) fz ot) (pBss (V 1)) fo' c)
    (fun s => if s.1 = 0 then 0 else sumN (fun c => if s.2 26 c = -1 then 200 else (s.2 26 c).toNatClampNeg) 144 + 1) ?_ 100000 (1, rowV V 26 (rO fo g)) ⟨true, fo, rfl, hmu, hs, fun h => Bool.noConfusion h⟩ ?_
  · obtain ⟨out, h1, fo', rfl, h2, h3⟩ := h
    exact ⟨fo', h1, h2, h3⟩
  · intro rec s hI
    obtain ⟨m, fo', rfl, h1, h2, h3⟩ := hI
    unfold tw_leastOut_F24
    simp only [tw_leastOut_B24, b2iF]
    cases m with
    | false =>
      left
      exact ⟨_, if_pos rfl, fo', rfl, h2, h3 rfl⟩
    | true =>
      right
      simp only [Bool.true_eq_false, if_false]
      obtain ⟨m', fo2, h4, h5, h6, h7⟩ := lo_pass (g := g) hk hfz hot h2
      rw [h4, bnd_S, un2_S]
      refine ⟨_, rfl, ⟨m', fo2, rfl, ?_, h5, fun hm => ?_⟩, ?_⟩
      · cases m' with
        | false =>
          have h8 : fo2 = fo' := (h6 rfl).1
          rw [h8]; exact h1
        | true => have := h7 rfl; simp only at this; omega
      · have := h6 hm
        simp only at this
        rw [this.1]
        exact this.2
      · have mu : ∀ f : Nat → Option Nat, (∀ d k, d < 144 → f d = some k → k ≤ 144) → sumN (fun c => if (rowV V 26 (rO f g)) 26 c = -1 then 200 else ((rowV V 26 (rO f g)) 26 c).toNatClampNeg) 144 = muO f := by
          intro f hf
          apply sumN_congr
          intro i hi
          rw [rowV_eq, rO_at hi]
          cases hfi : f i with
          | none => simp only [oI0_N, m1m1, if_true]
          | some k =>
            have := hf i k hi hfi
            simp (disch := omega) only [oI0_S, N_m1, if_false, nI_clamp]
        have z1 : ¬ b2i true = 0 := by decide
        simp only [z1, if_false, mu fo' (Snd_144 h2)]
        cases m' with
        | false => simp only [show b2i false = 0 from rfl, if_true]; omega
        | true =>
          have := h7 rfl
          simp only at this
          simp only [z1, if_false, mu fo2 (Snd_144 h5)]
          omega
  · have z1 : ¬ (1 : Int32) = 0 := by decide
    have mu : sumN (fun c => if (rowV V 26 (rO fo g)) 26 c = -1 then 200 else ((rowV V 26 (rO fo g)) 26 c).toNatClampNeg) 144 = muO fo := by
      apply sumN_congr
      intro i hi
      rw [rowV_eq, rO_at hi]
      cases hfi : fo i with
      | none => simp only [oI0_N, m1m1, if_true]
      | some k =>
        have := Snd_144 hs i k hi hfi
        simp (disch := omega) only [oI0_S, N_m1, if_false, nI_clamp]
    simp only [z1, if_false, mu]
    omega
theorem lo_best (hfo : ∀ d k, d < 144 → fo d = some k → k ≤ 144) : tw_leastOut_L224 (rowV V 26 (rO fo g)) 100000 (-1) 0 = some (oI0 (bestR fo)) := by
  have h := lp_itrI (F := tw_leastOut_F224 (rowV V 26 (rO fo g))) (N := 144) (mk := fun (l : Option Nat) i => (oI0 l, nI i)) (f := fun c l => omin l (if pRim c = true then fo c else none)) (out := oI0) (fun _ l => ∀ m, l = some m → m ≤ 144) (n := 100000) (a := none) ?_ ?_ (by omega) (fun m h => by cases h)
  · simp only [nI_0] at h
    exact h.1
  · intro rec i l hi hl
    refine ⟨?_, ?_⟩
    · unfold tw_leastOut_F224
      simp (disch := omega) only [tw_leastOut_B224, L_add, L_addR, L_mul, L_mulR, L_div, N_div, N_rem, L_sub, L_subN, nI_add, nI_mul, L_le, L_leR, L_lt, L_ltR, L_eq, N_leT, N_leF, N_ltT, N_ltF, N_eqT, N_eqF, N_m1, bnd_S, un2_S, un3_S, nmI_S, nmL_S, ptI_S, cs2_L, cs2_R, okI_b, okI_1, okI_0, rdI_in, wrI_in, rdI_L, wrI_L, rdL_in, wrL_in, if_true, if_false, tw_isRim_eq hi, b2iF]
      cases hr : pRim i
      · simp only [if_true]; rfl
      · simp (disch := omega) only [Bool.true_eq_false, if_false, if_true, rdI_in, rowV_eq, rO_at hi]
        cases hf : fo i with
        | none => simp only [oI0_N, m1m1, if_true]; rfl
        | some k =>
          have hk := hfo i k hi hf
          simp (disch := omega) only [oI0_S, N_m1, if_false]
          cases hlc : l with
          | none => simp only [oI0_N, m1m1, if_true]; rfl
          | some m =>
            have hm := hl m hlc
            simp (disch := omega) only [oI0_S, N_m1, if_false, N_le]
            by_cases hmk : m ≤ k
            · simp [omin, hmk, oI0]
            · simp [omin, hmk, oI0]
    · intro m hm
      rcases omin_le.2.2 m hm with h1 | h1
      · exact hl m h1
      · split at h1
        · exact hfo i m hi h1
        · cases h1
  · intro rec l hl
    unfold tw_leastOut_F224
    simp (disch := omega) only [tw_leastOut_B224, L_add, L_addR, L_mul, L_mulR, L_div, N_div, N_rem, L_sub, L_subN, nI_add, nI_mul, L_le, L_leR, L_lt, L_ltR, L_eq, N_leT, N_leF, N_ltT, N_ltF, N_eqT, N_eqF, N_m1, bnd_S, un2_S, un3_S, nmI_S, nmL_S, ptI_S, cs2_L, cs2_R, okI_b, okI_1, okI_0, rdI_in, wrI_in, rdI_L, wrI_L, rdL_in, wrL_in, if_true, if_false]
theorem tw_leastOut_eq (hk : pKok (V 1)) (hfz : ∀ x, fz = some x → x ≤ 1) (hot : ∀ x, ot = some x → x ≤ 1) : ∃ r g', tw_leastOut V (oI0 fz) (oI0 ot) = some (oI0 r, rowV V 26 g') ∧ isL (bW (V 1) fz ot) (pBss (V 1)) r := by
  have h1 : tw_leastOut_L2 (oI0 fz) (oI0 ot) 100000 0 V = some (rowV V 26 (rO (fun _ => none) (V 26))) := by
    have h := lp_run (F := tw_leastOut_F2 (oI0 fz) (oI0 ot)) (N := 144) (st := fun i => (nI i, rowV V 26 (fun j => if j < i then -1 else V 26 j))) (out := rowV V 26 (fun j => if j < 144 then -1 else V 26 j)) ?_ ?_ 100000 0 (by omega) (by omega)
    · have e : rowV V 26 (fun j => if j < 0 then -1 else V 26 j) = V := by
        simp only [Nat.not_lt_zero, if_false]
        exact rowV_self V 26
      simp only [e, nI_0] at h
      exact h
    · intro rec i hi
      unfold tw_leastOut_F2
      simp (disch := omega) only [tw_leastOut_B2, L_add, L_addR, L_mul, L_mulR, L_div, N_div, N_rem, L_sub, L_subN, nI_add, nI_mul, L_le, L_leR, L_lt, L_ltR, L_eq, N_leT, N_leF, N_ltT, N_ltF, N_eqT, N_eqF, N_m1, bnd_S, un2_S, un3_S, nmI_S, nmL_S, ptI_S, cs2_L, cs2_R, okI_b, okI_1, okI_0, rdI_in, wrI_in, rdI_L, wrI_L, rdL_in, wrL_in, if_true, if_false, upd2_row, rowV_over, rowV_eq, upd_pre (f := fun _ => -1) rfl]
    · intro rec
      unfold tw_leastOut_F2
      simp (disch := omega) only [tw_leastOut_B2, L_add, L_addR, L_mul, L_mulR, L_div, N_div, N_rem, L_sub, L_subN, nI_add, nI_mul, L_le, L_leR, L_lt, L_ltR, L_eq, N_leT, N_leF, N_ltT, N_ltF, N_eqT, N_eqF, N_m1, bnd_S, un2_S, un3_S, nmI_S, nmL_S, ptI_S, cs2_L, cs2_R, okI_b, okI_1, okI_0, rdI_in, wrI_in, rdI_L, wrI_L, rdL_in, wrL_in, if_true, if_false]
  have hs0 : Snd (bW (V 1) fz ot) (pBss (V 1)) (fun _ => none) := fun c k _ h => by cases h
  have hm0 : muO (fun _ => none) < 99990 := by
    unfold muO
    simp only [sumN_const]
    omega
  obtain ⟨fo', h2, h3, h4⟩ := lo_all (g := V 26) hk hfz hot hs0 hm0
  refine ⟨bestR fo', rO fo' (V 26), ?_, bestR_isL h3 h4⟩
  unfold tw_leastOut
  rw [h1, bnd_S, h2, bnd_S, lo_best (Snd_144 h3), bnd_S]
end LO
