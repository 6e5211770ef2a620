/-! PURE: the component's Cut: its cells (from a on), coming to a node -/
set_option maxRecDepth 100000
/-- a itself, 1 used 2 passable 3 begins 4 goes, 5 + c goes of a cell, 149 by, 150 queue -/
def CuS (Sh : g_Sh) (a f : Nat) : Prop := (∃ rf, Sh a = some (d_obj 13 9 rf) ∧ rf 0 = some (some f) ∧ rf 1 = some (some (a + 1)) ∧ rf 2 = some (some (a + 2)) ∧ rf 3 = some (some (a + 3)) ∧ rf 4 = some (some (a + 4)) ∧ rf 5 = some (some (a + 149)) ∧ rf 6 = some (some (a + 150)) ∧ rf 7 = none ∧ rf 8 = none) ∧ Sh (a + 1) = some (d_int 2 144) ∧ Sh (a + 2) = some (d_int 2 144) ∧ Sh (a + 3) = some (d_int 2 144) ∧ (∃ el, Sh (a + 4) = some (d_ref 11 144 el) ∧ ∀ c, c < 144 → el c = some (a + 5 + c)) ∧ (∀ c, c < 144 → Sh (a + 5 + c) = some (d_int 2 4)) ∧ Sh (a + 149) = some (d_int 0 290) ∧ Sh (a + 150) = some (d_int 0 290)
section CU1
variable {ρ : Type} {Sh : g_Sh} {V : g_V} {L : g_L} {n a f : Nat}
theorem k_1 (h : CuS Sh a f) {k : Nat → Option ρ} : cA Sh a 13 9 1 k = k (a + 1) := by obtain ⟨⟨rf, h1, h2, h3, h4, h5, h6, h7, h8, h9⟩, -⟩ := h; exact cA_eq h1 h3
theorem k_2 (h : CuS Sh a f) {k : Nat → Option ρ} : cA Sh a 13 9 2 k = k (a + 2) := by obtain ⟨⟨rf, h1, h2, h3, h4, h5, h6, h7, h8, h9⟩, -⟩ := h; exact cA_eq h1 h4
theorem k_3 (h : CuS Sh a f) {k : Nat → Option ρ} : cA Sh a 13 9 3 k = k (a + 3) := by obtain ⟨⟨rf, h1, h2, h3, h4, h5, h6, h7, h8, h9⟩, -⟩ := h; exact cA_eq h1 h5
theorem k_4 (h : CuS Sh a f) {k : Nat → Option ρ} : cA Sh a 13 9 4 k = k (a + 4) := by obtain ⟨⟨rf, h1, h2, h3, h4, h5, h6, h7, h8, h9⟩, -⟩ := h; exact cA_eq h1 h6
theorem k_5 (h : CuS Sh a f) {k : Nat → Option ρ} : cA Sh a 13 9 5 k = k (a + 149) := by obtain ⟨⟨rf, h1, h2, h3, h4, h5, h6, h7, h8, h9⟩, -⟩ := h; exact cA_eq h1 h7
theorem k_6 (h : CuS Sh a f) {k : Nat → Option ρ} : cA Sh a 13 9 6 k = k (a + 150) := by obtain ⟨⟨rf, h1, h2, h3, h4, h5, h6, h7, h8, h9⟩, -⟩ := h; exact cA_eq h1 h8
theorem k_I7 (h : CuS Sh a f) {k : Int32 → Option ρ} : cI Sh V a 13 9 7 k = k (V a 7) := by obtain ⟨⟨rf, h1, h2, h3, h4, h5, h6, h7, h8, h9, h10⟩, -⟩ := h; exact cI_eq h1 h9
theorem k_I8 (h : CuS Sh a f) {k : Int32 → Option ρ} : cI Sh V a 13 9 8 k = k (V a 8) := by obtain ⟨⟨rf, h1, h2, h3, h4, h5, h6, h7, h8, h9, h10⟩, -⟩ := h; exact cI_eq h1 h10
theorem k_P7 (h : CuS Sh a f) {x : Int32} {k : c_S → Option ρ} : zPI (Sh, V, L, n) a 13 9 7 x k = k (Sh, upd2 V a 7 x, L, n) := by obtain ⟨⟨rf, h1, h2, h3, h4, h5, h6, h7, h8, h9, h10⟩, -⟩ := h; exact zPI_T h1 h9
theorem k_P8 (h : CuS Sh a f) {x : Int32} {k : c_S → Option ρ} : zPI (Sh, V, L, n) a 13 9 8 x k = k (Sh, upd2 V a 8 x, L, n) := by obtain ⟨⟨rf, h1, h2, h3, h4, h5, h6, h7, h8, h9, h10⟩, -⟩ := h; exact zPI_T h1 h10
theorem k_K (h : CuS Sh a f) {k : Option ρ} : zK (Sh, V, L, n) a 13 9 k = k := by obtain ⟨⟨rf, h1, -⟩, -⟩ := h; exact zK_T h1
theorem k_g (h : CuS Sh a f) {c : Nat} (hc : c < 144) {k : Option Nat → Option ρ} : caR Sh 11 (a + 4) (nI c) k = k (some (a + 5 + c)) := by
  obtain ⟨-, -, -, -, ⟨el, h1, h2⟩, -⟩ := h
  rw [caR_eq h1 hc (by omega), h2 c hc]
end CU1
/-! rows of a search -/
def cC (o : Option (Option Nat)) : Int32 := match o with
  | none => -1
  | some none => 288
  | some (some y) => nI y
theorem cC_n {o : Option (Option Nat)} (h : ∀ y, o = some (some y) → y < 288) : (cC o = -1) = (o = none) := by
  cases o with
  | none => exact propext ⟨fun _ => rfl, fun _ => rfl⟩
  | some o =>
    cases o with
    | none =>
      apply propext
      exact ⟨fun q => absurd q (by decide), fun q => (by cases q)⟩
    | some y =>
      have := h y rfl
      apply propext
      exact ⟨fun q => by rw [show cC (some (some y)) = nI y from rfl, N_m1 (by omega)] at q; exact q.elim, fun q => by cases q⟩
def cT (o : Option Nat) : Int32 := match o with
  | none => -1
  | some c => nI (2 * c + 1)
def tN (o : Option Nat) : Nat := match o with
  | none => 0
  | some _ => 1
/-- tt: the cell at the rim by which the end was come to -/
def CwS (V : g_V) (a : Nat) (by' : Nat → Option (Option Nat)) (qf : Nat → Nat) (to : Nat) (tt : Option Nat) : Prop := (∀ z, z < 288 → V (a + 149) z = cC (by' z)) ∧ V (a + 149) 289 = cT tt ∧ V a 7 = nI (to + tN tt) ∧ (tt = none → ∀ k, k < to → V (a + 150) k = nI (qf k))
/-- what a search changes -/
def EqC (V V' : g_V) (a : Nat) : Prop := (∀ b, b ≠ a → b ≠ a + 149 → b ≠ a + 150 → V' b = V b) ∧ ∀ i, i ≠ 7 → V' a i = V a i
theorem EqC.refl (V : g_V) (a : Nat) : EqC V V a := ⟨fun _ _ _ _ => rfl, fun _ _ => rfl⟩
theorem EqC.trans {A B C : g_V} {a : Nat} (h : EqC A B a) (h' : EqC B C a) : EqC A C a := ⟨fun b x y z => (h'.1 b x y z).trans (h.1 b x y z), fun i x => (h'.2 i x).trans (h.2 i x)⟩
/-- the end may be told -/
def okT (by' : Nat → Option (Option Nat)) (tt : Option Nat) : Prop := ∀ c, tt = some c → c < 144 ∧ pRim c = true ∧ by' (2 * c + 1) ≠ none
/-- while a search goes on -/
def SrC (w : Nat → Int32) (th : Nat → Bool) (on : Nat → Nat → Bool) (a : Nat) (V0 : g_V) (b0 : Nat → Option (Option Nat)) (q0 : Nat → Nat) (t0 : Nat) (V : g_V) (b : Nat → Option (Option Nat)) (d q : Nat → Nat) (t : Nat) (tt : Option Nat) : Prop := SQ (pOp w) (pSr w) th on b d q t ∧ CwS V a b q t tt ∧ EqC V0 V a ∧ SLe b0 b ∧ (∀ k, k < t0 → q k = q0 k) ∧ t0 ≤ t ∧ okT b tt
section CU2
variable {Sh : g_Sh} {L : g_L} {n a f : Nat} {w : Nat → Int32} {th : Nat → Bool} {on : Nat → Nat → Bool} {V0 : g_V} {b0 : Nat → Option (Option Nat)} {q0 : Nat → Nat} {t0 : Nat}
theorem SrC_come (hC : CuS Sh a f) {V : g_V} {b : Nat → Option (Option Nat)} {d q : Nat → Nat} {t z : Nat} {tt : Option Nat} {o : Option Nat} {x : Int32} (h : SrC w th on a V0 b0 q0 t0 V b d q t tt) (hz : z < 288) (hx : x = cC (some o)) (h0 : o = none → z % 2 = 0 ∧ pSr w (z / 2) = true) (h1 : ∀ y, o = some y → y < 288 ∧ b y ≠ none ∧ Rs (pOp w) th on y z) :
    ∃ V' b' d' q' t', cm_X14_come (Sh, V, L, n) a (nI z) x = some (Sh, V', L, n) ∧ SrC w th on a V0 b0 q0 t0 V' b' d' q' t' tt ∧ b' z ≠ none ∧ SLe b b' := by
  obtain ⟨a1, ⟨c1, c2, c3, c4⟩, a3, a4, a5, a6, a7⟩ := h
  have hn := cC_n (SV_y a1.2.2.2 hz)
  have hA5 : Sh (a + 149) = some (d_int 0 290) := hC.2.2.2.2.2.2.1
  have hA6 : Sh (a + 150) = some (d_int 0 290) := hC.2.2.2.2.2.2.2
  have tn : tN tt ≤ 1 := by cases tt <;> simp [tN]
  unfold cm_X14_come
  simp (disch := omega) only [zSh_T, zV_T, zL_T, zn_T, k_5 hC, caI_eq hA5, c1 z hz, hn]
  cases hb : b z with
  | some o' =>
    rw [if_neg (fun q => by cases q)]
    exact ⟨V, b, d, q, t, rfl, ⟨a1, ⟨c1, c2, c3, c4⟩, a3, a4, a5, a6, a7⟩, (fun q => by rw [hb] at q; cases q), SLe.refl⟩
  | none =>
    have hto : t < 288 := by rw [a1.1]; exact cntV_lt hz hb
    rw [if_pos rfl]
    simp (disch := omega) only [zSh_T, zV_T, zL_T, zn_T, k_5 hC, k_6 hC, zsI_T hA5, zsI_T hA6, k_I7 hC, k_P7 hC, upd2_row, rowV_ne, rowV_eq, c3]
    refine ⟨_, updY b z o, updN d z t, updN q t z, t + 1, rfl, ⟨SQ_new a1 hz hb h0 h1, ⟨fun j hj => ?_, ?_, ?_, fun ht k hk => ?_⟩, a3.trans ⟨fun e x y z9 => ?_, fun i hi => ?_⟩, a4.trans (SLe_upd hb), fun k hk => by unfold updN; rw [if_neg (by omega)]; exact a5 k hk, by omega, fun c hc => ?_⟩, (fun q => by unfold updY at q; rw [if_pos rfl] at q; cases q), SLe_upd hb⟩
    · simp (disch := omega) only [rowV_ne, rowV_eq]
      unfold updY
      by_cases hjz : j = z
      · rw [if_pos hjz, hjz, upd_eq, hx]
      · rw [if_neg hjz, upd_ne hjz]; exact c1 j hj
    · simp (disch := omega) only [rowV_ne, rowV_eq]
      rw [upd_ne (by omega)]; exact c2
    · simp (disch := omega) only [rowV_ne, rowV_eq, upd_eq, L_addR]
      congr 1
      omega
    · have e0 : tN tt = 0 := by rw [ht]; rfl
      simp (disch := omega) only [rowV_ne, rowV_eq]
      have e9 : t + tN tt = t := by omega
      rw [e9]
      unfold updN
      by_cases hkt : k = t
      · rw [if_pos hkt, hkt, upd_eq]
      · rw [if_neg hkt, upd_ne hkt]; exact c4 ht k (by omega)
    · rw [rowV_ne x, rowV_ne z9, rowV_ne y]
    · simp (disch := omega) only [rowV_ne, rowV_eq]
      exact upd_ne hi
    · obtain ⟨u1, u2, u3⟩ := a7 c hc
      refine ⟨u1, u2, ?_⟩
      rw [SLe_upd hb _ u3]; exact u3
theorem SrC_comeT (hC : CuS Sh a f) {V : g_V} {b : Nat → Option (Option Nat)} {d q : Nat → Nat} {t c : Nat} {tt : Option Nat} (h : SrC w th on a V0 b0 q0 t0 V b d q t tt) (hc : c < 144) (hr : pRim c = true) (hb : b (2 * c + 1) ≠ none) :
    ∃ V' c', cm_X14_come (Sh, V, L, n) a 289 (nI (2 * c + 1)) = some (Sh, V', L, n) ∧ SrC w th on a V0 b0 q0 t0 V' b d q t (some c') := by
  obtain ⟨a1, ⟨c1, c2, c3, c4⟩, a3, a4, a5, a6, a7⟩ := h
  have hA5 : Sh (a + 149) = some (d_int 0 290) := hC.2.2.2.2.2.2.1
  have hA6 : Sh (a + 150) = some (d_int 0 290) := hC.2.2.2.2.2.2.2
  have ht : t ≤ 288 := by rw [a1.1]; exact cntV_le _
  have e289 : (289 : Int32) = nI 289 := rfl
  unfold cm_X14_come
  rw [e289]
  simp (disch := omega) only [zSh_T, zV_T, zL_T, zn_T, k_5 hC, caI_eq hA5, c2]
  cases htt : tt with
  | some c' =>
    have := a7 c' htt
    rw [if_neg (by rw [show cT (some c') = nI (2 * c' + 1) from rfl, N_m1 (by omega)]; exact fun q => q)]
    refine ⟨V, c', rfl, a1, ⟨c1, ?_, ?_, fun q => by cases q⟩, a3, a4, a5, a6, ?_⟩
    · rw [c2, htt]
    · rw [c3, htt]
    · rw [htt] at a7; exact a7
  | none =>
    rw [htt] at c3 c4
    have c3' : V a 7 = nI t := c3
    rw [if_pos (show cT none = -1 from rfl)]
    simp (disch := omega) only [zSh_T, zV_T, zL_T, zn_T, k_5 hC, k_6 hC, zsI_T hA5, zsI_T hA6, k_I7 hC, k_P7 hC, upd2_row, rowV_ne, rowV_eq, c3']
    refine ⟨_, c, rfl, a1, ⟨fun j hj => ?_, ?_, ?_, fun q => by cases q⟩, a3.trans ⟨fun e x y z9 => ?_, fun i hi => ?_⟩, a4, a5, a6, fun c' hc' => by cases hc'; exact ⟨hc, hr, hb⟩⟩
    · simp (disch := omega) only [rowV_ne, rowV_eq]
      rw [upd_ne (by omega)]; exact c1 j hj
    · simp (disch := omega) only [rowV_ne, rowV_eq, upd_eq]
      rfl
    · simp (disch := omega) only [rowV_ne, rowV_eq, upd_eq, L_addR]
      rfl
    · rw [rowV_ne x, rowV_ne z9, rowV_ne y]
    · simp (disch := omega) only [rowV_ne, rowV_eq]
      exact upd_ne hi
/-- rows of a flow -/
def FlC (V : g_V) (a : Nat) (th : Nat → Bool) (on : Nat → Nat → Bool) : Prop := (∀ c, c < 144 → V (a + 1) c = b2i (th c)) ∧ ∀ c s, c < 144 → s < 4 → V (a + 5 + c) s = b2i (on c (sw s))
theorem FlC.eq {V V' : g_V} (h : FlC V a th on) (he : EqC V V' a) : FlC V' a th on := by
  refine ⟨fun c hc => ?_, fun c s hc hs => ?_⟩
  · rw [he.1 _ (by omega) (by omega) (by omega)]; exact h.1 c hc
  · rw [he.1 _ (by omega) (by omega) (by omega)]; exact h.2 c s hc hs
/-- what may be passed, where ways begin -/
def PaC (V : g_V) (a : Nat) (w : Nat → Int32) : Prop := (∀ c, c < 144 → V (a + 2) c = b2i (pOp w c)) ∧ ∀ c, c < 144 → V (a + 3) c = b2i (pSr w c)
theorem PaC.eq {V V' : g_V} (h : PaC V a w) (he : EqC V V' a) : PaC V' a w := by
  refine ⟨fun c hc => ?_, fun c hc => ?_⟩
  · rw [he.1 _ (by omega) (by omega) (by omega)]; exact h.1 c hc
  · rw [he.1 _ (by omega) (by omega) (by omega)]; exact h.2 c hc
theorem sw_opp {s : Nat} (h : s < 4) : sw (opp s) = opp (sw s) := by
  have h4 : s = 0 ∨ s = 1 ∨ s = 2 ∨ s = 3 := by omega
  rcases h4 with rfl | rfl | rfl | rfl <;> rfl
/-- the sides of a cell that is gone out of -/
theorem cm_side_out (hC : CuS Sh a f) (hP : PaC V0 a w) {c : Nat} (hc : c < 144) {V : g_V} {b : Nat → Option (Option Nat)} {d q : Nat → Nat} {t : Nat} {tt : Option Nat} (h : SrC w th on a V0 b0 q0 t0 V b d q t tt) (hb : b (2 * c + 1) ≠ none) :
    ∃ V' b' d' q' t', cm_X14_goesOut_L42 a (nI c) 1000 0 (Sh, V, L, n) = some (Sh, V', L, n) ∧ SrC w th on a V0 b0 q0 t0 V' b' d' q' t' tt ∧ SLe b b' ∧ ∀ k e, k < 4 → pBes c k = some e → pOp w e = true → b' (2 * e) ≠ none := by
  have hA2 : Sh (a + 2) = some (d_int 2 144) := hC.2.2.1
  have hr := lp_rel (F := cm_X14_goesOut_F42 a (nI c)) (N := 4) (P := fun out => ∃ V' b' d' q' t', out = (Sh, V', L, n) ∧ SrC w th on a V0 b0 q0 t0 V' b' d' q' t' tt ∧ SLe b b' ∧ ∀ k e, k < 4 → pBes c (sw k) = some e → pOp w e = true → b' (2 * e) ≠ none) (fun i s => s.1 = nI i ∧ ∃ V' b' d' q' t', s.2 = (Sh, V', L, n) ∧ SrC w th on a V0 b0 q0 t0 V' b' d' q' t' tt ∧ SLe b b' ∧ ∀ k e, k < i → pBes c (sw k) = some e → pOp w e = true → b' (2 * e) ≠ none) ?_ ?_ 1000 0 (0, (Sh, V, L, n)) (by omega) (by omega) ⟨nI_0.symm, V, b, d, q, t, rfl, h, SLe.refl, fun k e hk => by omega⟩
  · obtain ⟨out, h1, V', b', d', q', t', rfl, h2, h3, h4⟩ := hr
    exact ⟨V', b', d', q', t', h1, h2, h3, fun k e hk he ho => h4 (sw k) e (sw_lt hk) (by rw [sw_sw hk]; exact he) ho⟩
  · intro i s hi hs
    obtain ⟨x, Z1⟩ := s
    obtain ⟨e1, V1, b1, d1, q1, t1, e2, s1, s2, s3⟩ := hs
    simp only at e1 e2
    subst e1 e2
    have keep : (∀ e, pBes c (sw i) = some e → pOp w e = true → b1 (2 * e) ≠ none) → ∀ k e, k < i + 1 → pBes c (sw k) = some e → pOp w e = true → b1 (2 * e) ≠ none := by
      intro hk9 k e hk hb9 ho
      by_cases hki : k = i
      · subst hki; exact hk9 e hb9 ho
      · exact s3 k e (by omega) hb9 ho
    cases hbs : pBes c (sw i) with
    | none =>
      refine ⟨(nI (i + 1), (Sh, V1, L, n)), fun rec => ?_, rfl, V1, b1, d1, q1, t1, rfl, s1, s2, keep (fun e he => by rw [hbs] at he; cases he)⟩
      unfold cm_X14_goesOut_F42
      simp (disch := omega) only [cm_X14_goesOut_B42, L_add, L_addR, L_mul, L_mulR, L_div, N_div, N_rem, L_sub, L_subN, nI_add, nI_mul, L_le, L_leR, L_lt, L_ltR, L_eq, N_leT, N_leF, N_ltT, N_ltF, N_eqT, N_eqF, N_m1, bnd_S, un2_S, un3_S, nmI_S, nmL_S, ptI_S, cs2_L, cs2_R, okI_b, okI_1, okI_0, rdI_in, wrI_in, rdI_L, wrI_L, rdL_in, wrL_in, if_true, if_false, cm_beside_eq hc hi, hbs, oI0_N, m1m1]
    | some e =>
      have he := pBes_lt hc hbs
      have hp2 : V1 (a + 2) e = b2i (pOp w e) := (hP.eq s1.2.2.1).1 e he
      cases ho : pOp w e with
      | false =>
        refine ⟨(nI (i + 1), (Sh, V1, L, n)), fun rec => ?_, rfl, V1, b1, d1, q1, t1, rfl, s1, s2, keep (fun e' he' ho' => by rw [hbs] at he'; cases he'; rw [ho] at ho'; cases ho')⟩
        unfold cm_X14_goesOut_F42
        simp (disch := omega) only [cm_X14_goesOut_B42, zSh_T, zV_T, zL_T, zn_T, L_add, L_addR, L_mul, L_mulR, L_div, N_div, N_rem, L_sub, L_subN, nI_add, nI_mul, L_le, L_leR, L_lt, L_ltR, L_eq, N_leT, N_leF, N_ltT, N_ltF, N_eqT, N_eqF, N_m1, bnd_S, un2_S, un3_S, nmI_S, nmL_S, ptI_S, cs2_L, cs2_R, okI_b, okI_1, okI_0, rdI_in, wrI_in, rdI_L, wrI_L, rdL_in, wrL_in, if_true, if_false, cm_beside_eq hc hi, hbs, oI0_S, k_2 hC, caI_eq hA2, hp2, ho, b2iF]
      | true =>
        obtain ⟨V2, b2, d2, q2, t2, r1, r2, r3, r4⟩ := SrC_come (L := L) (n := n) hC (z := 2 * e) (o := some (2 * c + 1)) (x := nI (2 * c + 1)) s1 (by omega) rfl (fun q => by cases q) (fun y hy => by
          cases hy
          exact ⟨by omega, (by rw [s2 _ hb]; exact hb), Or.inr (Or.inr (Or.inl ⟨by omega, by omega, sw i, sw_lt hi, by rw [show (2 * c + 1) / 2 = c by omega, show 2 * e / 2 = e by omega]; exact hbs, by rw [show 2 * e / 2 = e by omega]; exact ho⟩))⟩)
        refine ⟨(nI (i + 1), (Sh, V2, L, n)), fun rec => ?_, rfl, V2, b2, d2, q2, t2, rfl, r2, s2.trans r4, fun k e' hk he' ho' => ?_⟩
        · unfold cm_X14_goesOut_F42
          simp (disch := omega) only [cm_X14_goesOut_B42, zSh_T, zV_T, zL_T, zn_T, L_add, L_addR, L_mul, L_mulR, L_div, N_div, N_rem, L_sub, L_subN, nI_add, nI_mul, L_le, L_leR, L_lt, L_ltR, L_eq, N_leT, N_leF, N_ltT, N_ltF, N_eqT, N_eqF, N_m1, bnd_S, un2_S, un3_S, nmI_S, nmL_S, ptI_S, cs2_L, cs2_R, okI_b, okI_1, okI_0, rdI_in, wrI_in, rdI_L, wrI_L, rdL_in, wrL_in, if_true, if_false, cm_beside_eq hc hi, hbs, oI0_S, k_2 hC, caI_eq hA2, hp2, ho, b2iF, Bool.true_eq_false, k_K hC, r1]
        · by_cases hki : k = i
          · subst hki; rw [hbs] at he'; cases he'; exact r3
          · have := s3 k e' (by omega) he' ho'
            rw [r4 _ this]; exact this
  · intro s hs
    obtain ⟨x, Z1⟩ := s
    obtain ⟨e1, V1, b1, d1, q1, t1, e2, s1, s2, s3⟩ := hs
    simp only at e1 e2
    subst e1 e2
    refine ⟨_, fun rec => ?_, V1, b1, d1, q1, t1, rfl, s1, s2, s3⟩
    unfold cm_X14_goesOut_F42
    simp (disch := omega) only [cm_X14_goesOut_B42, L_add, L_addR, L_mul, L_mulR, L_div, N_div, N_rem, L_sub, L_subN, nI_add, nI_mul, L_le, L_leR, L_lt, L_ltR, L_eq, N_leT, N_leF, N_ltT, N_ltF, N_eqT, N_eqF, N_m1, bnd_S, un2_S, un3_S, nmI_S, nmL_S, ptI_S, cs2_L, cs2_R, okI_b, okI_1, okI_0, rdI_in, wrI_in, rdI_L, wrI_L, rdL_in, wrL_in, if_true, if_false]
/-- the sides of a cell that is gone into -/
theorem cm_side_in (hC : CuS Sh a f) (hfl : FlC V0 a th on) {c : Nat} (hc : c < 144) {V : g_V} {b : Nat → Option (Option Nat)} {d q : Nat → Nat} {t : Nat} {tt : Option Nat} (h : SrC w th on a V0 b0 q0 t0 V b d q t tt) (hb : b (2 * c) ≠ none) :
    ∃ V' b' d' q' t', cm_X14_goesIn_L23 a (nI c) 1000 0 (Sh, V, L, n) = some (Sh, V', L, n) ∧ SrC w th on a V0 b0 q0 t0 V' b' d' q' t' tt ∧ SLe b b' ∧ ∀ k e, k < 4 → pBes c k = some e → on e (opp k) = true → b' (2 * e + 1) ≠ none := by
  have hr := lp_rel (F := cm_X14_goesIn_F23 a (nI c)) (N := 4) (P := fun out => ∃ V' b' d' q' t', out = (Sh, V', L, n) ∧ SrC w th on a V0 b0 q0 t0 V' b' d' q' t' tt ∧ SLe b b' ∧ ∀ k e, k < 4 → pBes c (sw k) = some e → on e (opp (sw k)) = true → b' (2 * e + 1) ≠ none) (fun i s => s.1 = nI i ∧ ∃ V' b' d' q' t', s.2 = (Sh, V', L, n) ∧ SrC w th on a V0 b0 q0 t0 V' b' d' q' t' tt ∧ SLe b b' ∧ ∀ k e, k < i → pBes c (sw k) = some e → on e (opp (sw k)) = true → b' (2 * e + 1) ≠ none) ?_ ?_ 1000 0 (0, (Sh, V, L, n)) (by omega) (by omega) ⟨nI_0.symm, V, b, d, q, t, rfl, h, SLe.refl, fun k e hk => by omega⟩
  · obtain ⟨out, h1, V', b', d', q', t', rfl, h2, h3, h4⟩ := hr
    exact ⟨V', b', d', q', t', h1, h2, h3, fun k e hk he ho => h4 (sw k) e (sw_lt hk) (by rw [sw_sw hk]; exact he) (by rw [sw_sw hk]; exact ho)⟩
  · intro i s hi hs
    obtain ⟨x, Z1⟩ := s
    obtain ⟨e1, V1, b1, d1, q1, t1, e2, s1, s2, s3⟩ := hs
    simp only at e1 e2
    subst e1 e2
    have keep : (∀ e, pBes c (sw i) = some e → on e (opp (sw i)) = true → b1 (2 * e + 1) ≠ none) → ∀ k e, k < i + 1 → pBes c (sw k) = some e → on e (opp (sw k)) = true → b1 (2 * e + 1) ≠ none := by
      intro hk9 k e hk hb9 ho
      by_cases hki : k = i
      · subst hki; exact hk9 e hb9 ho
      · exact s3 k e (by omega) hb9 ho
    have hback : cm_X14_back (nI i) = some (nI (opp i)) := by unfold cm_X14_back; rw [x1_opp hi]
    have ol := opp_lt i
    cases hbs : pBes c (sw i) with
    | none =>
      refine ⟨(nI (i + 1), (Sh, V1, L, n)), fun rec => ?_, rfl, V1, b1, d1, q1, t1, rfl, s1, s2, keep (fun e he => by rw [hbs] at he; cases he)⟩
      unfold cm_X14_goesIn_F23
      simp (disch := omega) only [cm_X14_goesIn_B23, L_add, L_addR, L_mul, L_mulR, L_div, N_div, N_rem, L_sub, L_subN, nI_add, nI_mul, L_le, L_leR, L_lt, L_ltR, L_eq, N_leT, N_leF, N_ltT, N_ltF, N_eqT, N_eqF, N_m1, bnd_S, un2_S, un3_S, nmI_S, nmL_S, ptI_S, cs2_L, cs2_R, okI_b, okI_1, okI_0, rdI_in, wrI_in, rdI_L, wrI_L, rdL_in, wrL_in, if_true, if_false, cm_beside_eq hc hi, hbs, oI0_N, m1m1]
    | some e =>
      have he := pBes_lt hc hbs
      have hg : V1 (a + 5 + e) (opp i) = b2i (on e (opp (sw i))) := by
        rw [← sw_opp hi]
        exact (hfl.eq s1.2.2.1).2 e (opp i) he ol
      have hAe : Sh (a + 5 + e) = some (d_int 2 4) := hC.2.2.2.2.2.1 e he
      cases hon : on e (opp (sw i)) with
      | false =>
        refine ⟨(nI (i + 1), (Sh, V1, L, n)), fun rec => ?_, rfl, V1, b1, d1, q1, t1, rfl, s1, s2, keep (fun e' he' ho' => by rw [hbs] at he'; cases he'; rw [hon] at ho'; cases ho')⟩
        unfold cm_X14_goesIn_F23
        simp (disch := omega) only [cm_X14_goesIn_B23, zSh_T, zV_T, zL_T, zn_T, L_add, L_addR, L_mul, L_mulR, L_div, N_div, N_rem, L_sub, L_subN, nI_add, nI_mul, L_le, L_leR, L_lt, L_ltR, L_eq, N_leT, N_leF, N_ltT, N_ltF, N_eqT, N_eqF, N_m1, bnd_S, un2_S, un3_S, nmI_S, nmL_S, ptI_S, cs2_L, cs2_R, okI_b, okI_1, okI_0, rdI_in, wrI_in, rdI_L, wrI_L, rdL_in, wrL_in, if_true, if_false, cm_beside_eq hc hi, hbs, oI0_S, k_4 hC, k_g hC he, hback, nn_eq, caI_eq hAe, hg, hon, b2iF]
      | true =>
        obtain ⟨V2, b2, d2, q2, t2, r1, r2, r3, r4⟩ := SrC_come (L := L) (n := n) hC (z := 2 * e + 1) (o := some (2 * c)) (x := nI (2 * c)) s1 (by omega) rfl (fun q => by cases q) (fun y hy => by
          cases hy
          exact ⟨by omega, (by rw [s2 _ hb]; exact hb), Or.inr (Or.inr (Or.inr ⟨by omega, by omega, sw i, sw_lt hi, by rw [show 2 * c / 2 = c by omega, show (2 * e + 1) / 2 = e by omega]; exact hbs, by rw [show (2 * e + 1) / 2 = e by omega]; exact hon⟩))⟩)
        refine ⟨(nI (i + 1), (Sh, V2, L, n)), fun rec => ?_, rfl, V2, b2, d2, q2, t2, rfl, r2, s2.trans r4, fun k e' hk he' ho' => ?_⟩
        · unfold cm_X14_goesIn_F23
          simp (disch := omega) only [cm_X14_goesIn_B23, zSh_T, zV_T, zL_T, zn_T, L_add, L_addR, L_mul, L_mulR, L_div, N_div, N_rem, L_sub, L_subN, nI_add, nI_mul, L_le, L_leR, L_lt, L_ltR, L_eq, N_leT, N_leF, N_ltT, N_ltF, N_eqT, N_eqF, N_m1, bnd_S, un2_S, un3_S, nmI_S, nmL_S, ptI_S, cs2_L, cs2_R, okI_b, okI_1, okI_0, rdI_in, wrI_in, rdI_L, wrI_L, rdL_in, wrL_in, if_true, if_false, cm_beside_eq hc hi, hbs, oI0_S, k_4 hC, k_g hC he, hback, nn_eq, caI_eq hAe, hg, hon, b2iF, Bool.true_eq_false, k_K hC, r1]
        · by_cases hki : k = i
          · subst hki; rw [hbs] at he'; cases he'; exact r3
          · have := s3 k e' (by omega) he' ho'
            rw [r4 _ this]; exact this
  · intro s hs
    obtain ⟨x, Z1⟩ := s
    obtain ⟨e1, V1, b1, d1, q1, t1, e2, s1, s2, s3⟩ := hs
    simp only at e1 e2
    subst e1 e2
    refine ⟨_, fun rec => ?_, V1, b1, d1, q1, t1, rfl, s1, s2, s3⟩
    unfold cm_X14_goesIn_F23
    simp (disch := omega) only [cm_X14_goesIn_B23, L_add, L_addR, L_mul, L_mulR, L_div, N_div, N_rem, L_sub, L_subN, nI_add, nI_mul, L_le, L_leR, L_lt, L_ltR, L_eq, N_leT, N_leF, N_ltT, N_ltF, N_eqT, N_eqF, N_m1, bnd_S, un2_S, un3_S, nmI_S, nmL_S, ptI_S, cs2_L, cs2_R, okI_b, okI_1, okI_0, rdI_in, wrI_in, rdI_L, wrI_L, rdL_in, wrL_in, if_true, if_false]
end CU2
