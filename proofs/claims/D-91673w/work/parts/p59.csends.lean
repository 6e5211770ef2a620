/-! PURE: the component's Cut: ways are sent; made whole -/
set_option maxRecDepth 100000
section SN
variable {Sh : g_Sh} {V : g_V} {L : g_L} {n a f : Nat} {w : Nat → Int32}
theorem cm_side_eq {x4 : Int32} {Z : c_S} {c k d : Nat} (hc : c < 144) (hk : k < 4) (hd : pBes c k = some d) : cm_X14_turns_L85 a x4 (nI c) (nI d) Z 1000 0 = some (nI (sw k)) := by
  have hdl := pBes_lt hc hd
  have skl := sw_lt hk
  have hr := lp_rel (F := cm_X14_turns_F85 a x4 (nI c) (nI d) Z) (N := sw k) (P := fun out => out = nI (sw k)) (fun i s => s = nI i) ?_ ?_ 1000 0 0 (by omega) (by omega) nI_0.symm
  · obtain ⟨out, h1, rfl⟩ := hr
    exact h1
  · intro i s hi hs
    subst hs
    refine ⟨nI (i + 1), fun rec => ?_, rfl⟩
    unfold cm_X14_turns_F85
    simp (disch := omega) only [cm_X14_turns_B85, L_add, L_addR, L_mul, L_mulR, L_div, N_div, N_rem, L_sub, L_subN, nI_add, nI_mul, L_le, L_leR, L_lt, L_ltR, L_eq, N_leT, N_leF, N_ltT, N_ltF, N_eqT, N_eqF, N_m1, bnd_S, un2_S, un3_S, nmI_S, nmL_S, ptI_S, cs2_L, cs2_R, okI_b, okI_1, okI_0, rdI_in, wrI_in, rdI_L, wrI_L, rdL_in, wrL_in, if_true, if_false, cm_beside_eq hc (show i < 4 by omega)]
    rw [if_neg]
    cases hb : pBes c (sw i) with
    | none =>
      intro q
      have h9 := N_m1 (a := d) (by omega)
      rw [← q, oI0_N] at h9
      exact absurd rfl (by rw [h9]; exact fun h => h)
    | some e =>
      intro q
      have he := pBes_lt hc hb
      rw [oI0_S] at q
      have := (nI_eq (by omega) (by omega)).mp q
      subst this
      have hi4 : i < 4 := by omega
      have := pBes_uniq (sw_lt hi4) hk hb hd
      rw [← this, sw_sw hi4] at hi
      omega
  · intro s hs
    subst hs
    refine ⟨nI (sw k), fun rec => ?_, rfl⟩
    unfold cm_X14_turns_F85
    simp (disch := omega) only [cm_X14_turns_B85, L_add, L_addR, L_mul, L_mulR, L_div, N_div, N_rem, L_sub, L_subN, nI_add, nI_mul, L_le, L_leR, L_lt, L_ltR, L_eq, N_leT, N_leF, N_ltT, N_ltF, N_eqT, N_eqF, N_m1, bnd_S, un2_S, un3_S, nmI_S, nmL_S, ptI_S, cs2_L, cs2_R, okI_b, okI_1, okI_0, rdI_in, wrI_in, rdI_L, wrI_L, rdL_in, wrL_in, if_true, if_false, cm_beside_eq hc skl, sw_sw hk, hd, oI0_S]
/-- what sending changes -/
def EqT (V V' : g_V) (a : Nat) : Prop := ∀ b, b ≠ a + 1 → (∀ c, c < 144 → b ≠ a + 5 + c) → V' b = V b
variable {op sr th0 : Nat → Bool} {on0 : Nat → Nat → Bool} {b : Nat → Option (Option Nat)} {d q : Nat → Nat} {t v : Nat}
theorem cm_sends_eq (hC : CuS Sh a f) (hS : SQ op sr th0 on0 b d q t) {c : Nat} (hT : CwS V a b q t (some c)) (hok : okT b (some c)) (hfl : FlC V a th0 on0) (hF : FI op sr th0 on0) (hv : flV th0 on0 v) (hw : V a 8 = nI v) (hso : ∀ c, c < 144 → sr c = true → op c = true) :
    ∃ V' th on, cm_X14_sends (Sh, V, L, n) a = some (Sh, V', L, n) ∧ (∀ b', b' ≠ a → b' ≠ a + 1 → (∀ c, c < 144 → b' ≠ a + 5 + c) → V' b' = V b') ∧ V' a 8 = nI (v + 1) ∧ FlC V' a th on ∧ FI op sr th on ∧ flV th on (v + 1) := by
  obtain ⟨hc, hr, hb⟩ := hok c rfl
  have hSV := hS.2.2.2
  have ht : t ≤ 288 := by rw [hS.1]; exact cntV_le _
  have hA1 : Sh (a + 1) = some (d_int 2 144) := hC.2.1
  have hA5 : Sh (a + 149) = some (d_int 0 290) := hC.2.2.2.2.2.2.1
  have hV1 : ∃ V1, V1 = rowV V a (upd (V a) 8 (nI (v + 1))) := ⟨_, rfl⟩
  obtain ⟨V1, hV1⟩ := hV1
  have v1 : ∀ b', b' ≠ a → V1 b' = V b' := fun b' h => by rw [hV1, rowV_ne h]
  have fl1 : FlC V1 a th0 on0 := ⟨fun c' hc' => by rw [v1 _ (by omega)]; exact hfl.1 c' hc', fun c' s hc' hs => by rw [v1 _ (by omega)]; exact hfl.2 c' s hc' hs⟩
  have hw2 := lp_wf (F := cm_X14_sends_F16 a) (I := fun s => ∃ z k V' th on, s = (nI z, nI k, (Sh, V', L, n)) ∧ EqT V1 V' a ∧ FlC V' a th on ∧ BK op sr th0 on0 b d v z th on ∧ k + d z ≤ 289) (P := fun out => ∃ V' th on, out = (Sh, V', L, n) ∧ EqT V1 V' a ∧ FlC V' a th on ∧ FI op sr th on ∧ flV th on (v + 1)) (fun s => d s.1.toNatClampNeg) ?_ 999 (nI (2 * c + 1), nI 1, (Sh, V1, L, n)) ⟨2 * c + 1, 1, V1, th0, on0, rfl, fun _ _ _ => rfl, fl1, back_start hF hv hc hb hr, by have := (hS.2.2.1 (2 * c + 1) (by omega) hb).1; omega⟩ ?_
  · obtain ⟨out, h1, V', th, on, rfl, h2, h3, h4, h5⟩ := hw2
    refine ⟨V', th, on, ?_, fun b' x y z => by rw [h2 b' y z, v1 b' x], ?_, h3, h4, h5⟩
    · have e289 : (289 : Int32) = nI 289 := rfl
      have e288 : (288 : Int32) = nI 288 := rfl
      have r289 : V1 (a + 149) 289 = nI (2 * c + 1) := by rw [v1 _ (by omega)]; exact hT.2.1
      unfold cm_X14_sends cm_X14_sends_L16
      simp (disch := omega) only [zSh_T, zV_T, zL_T, zn_T, k_I8 hC, hw, L_addR, k_P8 hC, upd2_row]
      rw [← hV1, show (1000 : Nat) = 999 + 1 from rfl, lp_s]
      generalize lp (cm_X14_sends_F16 a) 999 = rec at h1 ⊢
      unfold cm_X14_sends_F16
      have tn : cm_X14_turns (Sh, V1, L, n) a (nI (2 * c + 1)) (nI 289) = some (Sh, V1, L, n) := by
        unfold cm_X14_turns
        rw [if_pos (show nI 289 = 289 from rfl)]
      have z290 : ¬ (290 : Int32) ≤ 0 := by decide
      have z01 : (0 : Int32) + 1 = nI 1 := by decide
      simp only [cm_X14_sends_B16, e289, e288]
      simp (disch := omega) only [zSh_T, zV_T, zL_T, zn_T, k_5 hC, caI_eq hA5, r289, N_eqF, if_false, k_K hC, tn, bnd_S, nmI_S]
      rw [if_neg z290, z01, h1, bnd_S]
    · rw [h2 a (by omega) (fun c' hc' => by omega), hV1, rowV_eq, upd_eq]
  · intro rec s hs
    obtain ⟨z, k, V', th, on, rfl, hE, hfl', hB, hkd⟩ := hs
    have hz := hB.2.1
    have r29 : V' (a + 149) z = cC (b z) := by
      rw [hE (a + 149) (by omega) (fun c' hc' => by omega), v1 _ (by omega)]; exact hT.1 z hz
    have e288 : (288 : Int32) = nI 288 := rfl
    cases hbz : b z with
    | none => exact absurd hbz hB.1
    | some o =>
      rw [hbz] at r29
      unfold cm_X14_sends_F16
      simp only [cm_X14_sends_B16, e288]
      cases o with
      | none =>
        left
        obtain ⟨e1, e2⟩ := back_end hSV hB hbz
        refine ⟨(Sh, V', L, n), ?_, V', th, on, rfl, hE, hfl', e1, e2⟩
        have : cC (some none) = nI 288 := rfl
        rw [this] at r29
        simp (disch := omega) only [zSh_T, zV_T, zL_T, zn_T, L_add, L_addR, L_mul, L_mulR, L_div, N_div, N_rem, L_sub, L_subN, nI_add, nI_mul, L_le, L_leR, L_lt, L_ltR, L_eq, N_leT, N_leF, N_ltT, N_ltF, N_eqT, N_eqF, N_m1, bnd_S, un2_S, un3_S, nmI_S, nmL_S, ptI_S, cs2_L, cs2_R, okI_b, okI_1, okI_0, rdI_in, wrI_in, rdI_L, wrI_L, rdL_in, wrL_in, if_true, if_false, k_5 hC, caI_eq hA5, r29]
      | some y =>
        right
        obtain ⟨y1, y2, y3⟩ := back_step hSV hF hso hB hbz
        have : cC (some (some y)) = nI y := rfl
        rw [this] at r29
        have ym : y / 2 < 144 := by omega
        have zm : z / 2 < 144 := by omega
        have e289 : (289 : Int32) = nI 289 := rfl
        have dec : ∀ Z2 : c_S, d (nI y, nI (k + 1), Z2).1.toNatClampNeg < d (nI z, nI k, (Sh, V', L, n)).1.toNatClampNeg := by
          intro Z2
          show d (nI y).toNatClampNeg < d (nI z).toNatClampNeg
          rw [nI_clamp (by omega), nI_clamp (by omega)]
          exact y2
        have go : ∀ V2 th2 on2, cm_X14_turns (Sh, V', L, n) a (nI y) (nI z) = some (Sh, V2, L, n) → EqT V' V2 a → FlC V2 a th2 on2 → BK op sr th0 on0 b d v y th2 on2 → ∃ s', (if nI 290 ≤ nI k then some (Sh, V', L, n) else (cA Sh a 13 9 5 fun a_4 => caI Sh V' 0 a_4 (nI z) fun x_5 => if x_5 = nI 288 then (some (Sh, V', L, n)) else (cA Sh a 13 9 5 fun a_7 => caI Sh V' 0 a_7 (nI z) fun x_8 => zK (Sh, V', L, n) a 13 9 <| bnd (cm_X14_turns (Sh, V', L, n) a x_8 (nI z)) (fun Z_12 => nmI (nI k + 1) fun x_13 => rec (x_8, x_13, Z_12))))) = rec s' ∧ (∃ z k V' th on, s' = (nI z, nI k, (Sh, V', L, n)) ∧ EqT V1 V' a ∧ FlC V' a th on ∧ BK op sr th0 on0 b d v z th on ∧ k + d z ≤ 289) ∧ d s'.1.toNatClampNeg < d (nI z, nI k, (Sh, V', L, n)).1.toNatClampNeg := by
          intro V2 th2 on2 ht2 hE2 hf2 hB2
          refine ⟨(nI y, nI (k + 1), (Sh, V2, L, n)), ?_, ⟨y, k + 1, V2, th2, on2, rfl, fun b' x1 x2 => by rw [hE2 b' x1 x2, hE b' x1 x2], hf2, hB2, by omega⟩, dec _⟩
          simp (disch := omega) only [L_add, L_addR, L_mul, L_mulR, L_div, N_div, N_rem, L_sub, L_subN, nI_add, nI_mul, L_le, L_leR, L_lt, L_ltR, L_eq, N_leT, N_leF, N_ltT, N_ltF, N_eqT, N_eqF, N_m1, bnd_S, un2_S, un3_S, nmI_S, nmL_S, ptI_S, cs2_L, cs2_R, okI_b, okI_1, okI_0, rdI_in, wrI_in, rdI_L, wrI_L, rdL_in, wrL_in, if_true, if_false, k_5 hC, caI_eq hA5, r29, k_K hC, ht2]
        rcases y3 with ⟨a1, a2, a3⟩ | ⟨a1, a2, a3, k', a4, a5, a6⟩ | ⟨a1, a2, a3, k', a4, a5, a6⟩
        · refine go (rowV V' (a + 1) (upd (V' (a + 1)) (z / 2) (b2i (decide (z % 2 = 1))))) _ _ ?_ (fun b' x1 x2 => rowV_ne x1) ⟨fun c' hc' => ?_, fun c' s hc' hs => ?_⟩ a3
          · have hodd : z % 2 = 0 ∨ z % 2 = 1 := by omega
            unfold cm_X14_turns
            rw [e289]
            rcases hodd with hz0 | hz1
            · simp (disch := omega) only [zSh_T, zV_T, zL_T, zn_T, L_add, L_addR, L_mul, L_mulR, L_div, N_div, N_rem, L_sub, L_subN, nI_add, nI_mul, L_le, L_leR, L_lt, L_ltR, L_eq, N_leT, N_leF, N_ltT, N_ltF, N_eqT, N_eqF, N_m1, bnd_S, un2_S, un3_S, nmI_S, nmL_S, ptI_S, cs2_L, cs2_R, okI_b, okI_1, okI_0, rdI_in, wrI_in, rdI_L, wrI_L, rdL_in, wrL_in, if_true, if_false, a1, k_1 hC, zsI_T hA1, show y % 2 = 1 by omega, upd2_row]
              rw [hz0]; rfl
            · simp (disch := omega) only [zSh_T, zV_T, zL_T, zn_T, L_add, L_addR, L_mul, L_mulR, L_div, N_div, N_rem, L_sub, L_subN, nI_add, nI_mul, L_le, L_leR, L_lt, L_ltR, L_eq, N_leT, N_leF, N_ltT, N_ltF, N_eqT, N_eqF, N_m1, bnd_S, un2_S, un3_S, nmI_S, nmL_S, ptI_S, cs2_L, cs2_R, okI_b, okI_1, okI_0, rdI_in, wrI_in, rdI_L, wrI_L, rdL_in, wrL_in, if_true, if_false, a1, k_1 hC, zsI_T hA1, show y % 2 = 0 by omega, upd2_row]
              rw [hz1]; rfl
          · rw [rowV_eq]
            unfold setB
            by_cases e : c' = z / 2
            · rw [if_pos e, e, upd_eq]
            · rw [if_neg e, upd_ne e]; exact hfl'.1 c' hc'
          · rw [rowV_ne (by omega)]; exact hfl'.2 c' s hc' hs
        · have hAe : Sh (a + 5 + y / 2) = some (d_int 2 4) := hC.2.2.2.2.2.1 _ ym
          have skl := sw_lt a4
          refine go (rowV V' (a + 5 + y / 2) (upd (V' (a + 5 + y / 2)) (sw k') (b2i true))) _ _ ?_ (fun b' x1 x2 => rowV_ne (x2 _ ym)) ⟨fun c' hc' => ?_, fun c' s hc' hs => ?_⟩ a6
          · have z1 : ¬ (1 : Int32) = 0 := by decide
            unfold cm_X14_turns
            rw [e289]
            simp (disch := omega) only [zSh_T, zV_T, zL_T, zn_T, L_add, L_addR, L_mul, L_mulR, L_div, N_div, N_rem, L_sub, L_subN, nI_add, nI_mul, L_le, L_leR, L_lt, L_ltR, L_eq, N_leT, N_leF, N_ltT, N_ltF, N_eqT, N_eqF, N_m1, bnd_S, un2_S, un3_S, nmI_S, nmL_S, ptI_S, cs2_L, cs2_R, okI_b, okI_1, okI_0, rdI_in, wrI_in, rdI_L, wrI_L, rdL_in, wrL_in, if_true, if_false, a3, cm_X14_turns_J51, cm_X14_turns_J67, cm_X14_turns_J83, z1, cm_side_eq ym a4 a5, k_4 hC, k_g hC ym, nn_eq, zsI_T hAe, upd2_row]
            rfl
          · rw [rowV_ne (by omega)]; exact hfl'.1 c' hc'
          · unfold setO
            by_cases ec : c' = y / 2
            · rw [ec, rowV_eq]
              by_cases es : s = sw k'
              · rw [es, upd_eq, sw_sw a4, if_pos ⟨rfl, rfl⟩]
              · rw [upd_ne es, if_neg (fun q => es (by rw [← q.2, sw_sw hs]))]
                exact hfl'.2 _ s ym hs
            · rw [rowV_ne (by omega), if_neg (fun q => ec q.1)]
              exact hfl'.2 c' s hc' hs
        · have hAe : Sh (a + 5 + z / 2) = some (d_int 2 4) := hC.2.2.2.2.2.1 _ zm
          have skl := sw_lt a4
          refine go (rowV V' (a + 5 + z / 2) (upd (V' (a + 5 + z / 2)) (sw k') (b2i false))) _ _ ?_ (fun b' x1 x2 => rowV_ne (x2 _ zm)) ⟨fun c' hc' => ?_, fun c' s hc' hs => ?_⟩ a6
          · unfold cm_X14_turns
            rw [e289]
            simp (disch := omega) only [zSh_T, zV_T, zL_T, zn_T, L_add, L_addR, L_mul, L_mulR, L_div, N_div, N_rem, L_sub, L_subN, nI_add, nI_mul, L_le, L_leR, L_lt, L_ltR, L_eq, N_leT, N_leF, N_ltT, N_ltF, N_eqT, N_eqF, N_m1, bnd_S, un2_S, un3_S, nmI_S, nmL_S, ptI_S, cs2_L, cs2_R, okI_b, okI_1, okI_0, rdI_in, wrI_in, rdI_L, wrI_L, rdL_in, wrL_in, if_true, if_false, a3, cm_X14_turns_J51, cm_X14_turns_J67, cm_X14_turns_J83, cm_side_eq zm a4 a5, k_4 hC, k_g hC zm, nn_eq, zsI_T hAe, upd2_row]
            rfl
          · rw [rowV_ne (by omega)]; exact hfl'.1 c' hc'
          · unfold setO
            by_cases ec : c' = z / 2
            · rw [ec, rowV_eq]
              by_cases es : s = sw k'
              · rw [es, upd_eq, sw_sw a4, if_pos ⟨rfl, rfl⟩]
              · rw [upd_ne es, if_neg (fun q => es (by rw [← q.2, sw_sw hs]))]
                exact hfl'.2 _ s zm hs
            · rw [rowV_ne (by omega), if_neg (fun q => ec q.1)]
              exact hfl'.2 c' s hc' hs
  · show d (nI (2 * c + 1)).toNatClampNeg < 999
    rw [nI_clamp (by omega)]
    have := (hS.2.2.1 (2 * c + 1) (by omega) hb).1
    omega
/-- ways are sent until none is left -/
theorem cm_cut_loop (hC : CuS Sh a f) (hP : PaC V a w) (hfl : FlC V a (fun _ => false) (fun _ _ => false)) (h8 : V a 8 = 0) : ∃ V' v b d th on, cm_X14_init_L139 a 1000 (Sh, V, L, n) = some (Sh, V', L, n) ∧ v ≤ 144 ∧ V' a 8 = nI v ∧ FI (pOp w) (pSr w) th on ∧ flV th on v ∧ SV (pOp w) (pSr w) th on b d ∧ CX (pOp w) (pSr w) th on (xIn b) (xOut b) ∧ (∀ z, z < 288 → (V' (a + 149) z = -1) = (b z = none)) ∧ ∀ b', b' < a → V' b' = V b' := by
  have hl := lp_wf (F := cm_X14_init_F139 a) (I := fun s => ∃ v V3 th on, s = (Sh, V3, L, n) ∧ (∀ b', b' < a → V3 b' = V b') ∧ PaC V3 a w ∧ FlC V3 a th on ∧ FI (pOp w) (pSr w) th on ∧ flV th on v ∧ V3 a 8 = nI v)
    (P := fun out => ∃ V' v b d th on, out = (Sh, V', L, n) ∧ v ≤ 144 ∧ V' a 8 = nI v ∧ FI (pOp w) (pSr w) th on ∧ flV th on v ∧ SV (pOp w) (pSr w) th on b d ∧ CX (pOp w) (pSr w) th on (xIn b) (xOut b) ∧ (∀ z, z < 288 → (V' (a + 149) z = -1) = (b z = none)) ∧ ∀ b', b' < a → V' b' = V b') (fun s => 200 - (s.V a 8).toNatClampNeg) ?_ 1000 (Sh, V, L, n) ⟨0, V, _, _, rfl, fun _ _ => rfl, hP, hfl, FI_0.1, (FI_0 (op := pOp w) (sr := pSr w)).2, by rw [h8]; exact nI_0.symm⟩ (by omega)
  · obtain ⟨out, h1, V', v, b, d, th, on, rfl, h2⟩ := hl
    exact ⟨V', v, b, d, th, on, h1, h2⟩
  · intro rec s hs
    obtain ⟨v, V3, th, on, rfl, k1, k2, k3, k4, k5, k6⟩ := hs
    have hv := flV_le k5
    obtain ⟨V4, b, d, q, t, tt, g1, g2, g3, g4, g5, g6⟩ := cm_finds_eq (L := L) (n := n) hC k2 k3
    unfold cm_X14_init_F139
    simp only [cm_X14_init_B139, k_K hC, g1, bnd_S, un2_S, b2iF]
    cases htt : tt with
    | none =>
      left
      refine ⟨(Sh, V4, L, n), if_pos rfl, V4, v, b, d, th, on, rfl, hv, ?_, k4, k5, g3.2.2.2, g6 htt, fun z hz => ?_, fun b' hb' => ?_⟩
      · rw [g2.2 8 (by omega)]; exact k6
      · rw [g4.1 z hz]; exact cC_n (SV_y g3.2.2.2 hz)
      · rw [g2.1 b' (by omega) (by omega) (by omega)]; exact k1 b' hb'
    | some c =>
      right
      subst htt
      obtain ⟨V5, th5, on5, u1, u2, u3, u4, u5, u6⟩ := cm_sends_eq (L := L) (n := n) hC g3 g4 g5 (k3.eq g2) k4 k5 (by rw [g2.2 8 (by omega)]; exact k6) pSr_op
      have hv1 := flV_le u6
      have p4 := k2.eq g2
      refine ⟨(Sh, V5, L, n), ?_, ⟨v + 1, V5, th5, on5, rfl, fun b' hb' => ?_, ⟨fun c' hc' => ?_, fun c' hc' => ?_⟩, u4, u5, u6, u3⟩, ?_⟩
      · rw [if_neg (by simp), u1, bnd_S]
      · rw [u2 b' (by omega) (by omega) (fun c' hc' => by omega), g2.1 b' (by omega) (by omega) (by omega)]; exact k1 b' hb'
      · rw [u2 _ (by omega) (by omega) (fun c' hc' => by omega)]; exact p4.1 c' hc'
      · rw [u2 _ (by omega) (by omega) (fun c' hc' => by omega)]; exact p4.2 c' hc'
      · show 200 - (V5 a 8).toNatClampNeg < 200 - (V3 a 8).toNatClampNeg
        rw [u3, k6, nI_clamp (by omega), nI_clamp (by omega)]
        omega
end SN
/-! the Cut is made -/
section CN
variable {Sh : g_Sh} {V : g_V} {L : g_L} {n : Nat} {m u : Nat → Nat} {Fz : Nat → Prop} {np nh : Nat} {w : Nat → Int32}
theorem updS_q {Sh : g_Sh} {a b : Nat} {d : g_D} (h : b = a) : updS Sh a d b = some d := if_pos h
theorem rowV_q {V : g_V} {a b : Nat} {g : Nat → Int32} (h : b = a) : rowV V a g b = g := if_pos h
theorem zShM_o {k N M b : Nat} (h : b < k ∨ k + N < b) : zShM (Sh, V, L, k) N M b = Sh b := by
  unfold zShM
  simp only [zSh_T, zV_T, zL_T, zn_T]
  rw [if_neg (by omega), if_neg (by omega)]
theorem zShM_0 {k N M b : Nat} (h : b = k) : zShM (Sh, V, L, k) N M b = some (d_ref 11 N (fun j => if j < N then some (k + 1 + j) else none)) := if_pos h
theorem zShM_i {k N M b : Nat} (h : k < b) (h2 : b ≤ k + N) : zShM (Sh, V, L, k) N M b = some (d_int 2 M) := by
  unfold zShM
  simp only [zSh_T, zV_T, zL_T, zn_T]
  rw [if_neg (by omega), if_pos (by omega)]
theorem zVM_o {k N b : Nat} (h : b ≤ k ∨ k + N < b) : zVM (Sh, V, L, k) N b = V b := by
  unfold zVM
  simp only [zSh_T, zV_T, zL_T, zn_T]
  rw [if_neg (by omega)]
theorem zVM_i {k N b : Nat} (h : k < b) (h2 : b ≤ k + N) : zVM (Sh, V, L, k) N b = fun _ => 0 := by
  unfold zVM
  simp only [zSh_T, zV_T, zL_T, zn_T]
  rw [if_pos (by omega)]
theorem cm_cut_new (f : Nat) : ∃ Sh' V', cm_X14_init (updS Sh n (d_obj 13 9 (zrf tyX14)), rowV V n (fun _ => 0), L, n + 1) n f = bnd (cm_X14_init_L68 n f 1000 0 (Sh', V', L, n + 151)) (fun Z_55 => bnd (cm_X14_init_L139 n 1000 Z_55) (fun Z_68 => some Z_68)) ∧ CuS Sh' n f ∧ (∀ b, b < n → Sh' b = Sh b ∧ V' b = V b) ∧ FlC V' n (fun _ => false) (fun _ _ => false) ∧ V' n 8 = 0 := by
  have z0 : zrf tyX14 0 = some none := by decide
  have z1 : zrf tyX14 1 = some none := by decide
  have z2 : zrf tyX14 2 = some none := by decide
  have z3 : zrf tyX14 3 = some none := by decide
  have z4 : zrf tyX14 4 = some none := by decide
  have z5 : zrf tyX14 5 = some none := by decide
  have z6 : zrf tyX14 6 = some none := by decide
  have z7 : zrf tyX14 7 = none := by decide
  have z8 : zrf tyX14 8 = none := by decide
  unfold cm_X14_init zNewI zNewM
  simp only [zSh_T, zV_T, zL_T, zn_T]
  rw [zPR_T (rf := zrf tyX14) (by rw [updS_ne (by omega), updS_eq]) (by rw [z1]; rfl)]
  simp only [zSh_T, zV_T, zL_T, zn_T]
  rw [zPR_T (rf := updR (zrf tyX14) 1 (some (n + 1))) (by rw [updS_ne (by omega), updS_eq]) (by unfold updR; simp [z2])]
  simp only [zSh_T, zV_T, zL_T, zn_T]
  rw [zPR_T (rf := updR (updR (zrf tyX14) 1 (some (n + 1))) 2 (some (n + 1 + 1))) (by rw [updS_ne (by omega), updS_eq]) (by unfold updR; simp [z3])]
  simp only [zSh_T, zV_T, zL_T, zn_T]
  rw [zPR_T (rf := updR (updR (updR (zrf tyX14) 1 (some (n + 1))) 2 (some (n + 1 + 1))) 3 (some (n + 1 + 1 + 1))) (by unfold zShM; simp only [zSh_T, zV_T, zL_T, zn_T]; rw [if_neg (by omega), if_neg (by omega), updS_eq]) (by unfold updR; simp [z4])]
  simp only [zSh_T, zV_T, zL_T, zn_T]
  rw [zPR_T (rf := updR (updR (updR (updR (zrf tyX14) 1 (some (n + 1))) 2 (some (n + 1 + 1))) 3 (some (n + 1 + 1 + 1))) 4 (some (n + 1 + 1 + 1 + 1))) (by rw [updS_ne (by omega), updS_eq]) (by unfold updR; simp [z5])]
  simp only [zSh_T, zV_T, zL_T, zn_T]
  rw [zPR_T (rf := updR (updR (updR (updR (updR (zrf tyX14) 1 (some (n + 1))) 2 (some (n + 1 + 1))) 3 (some (n + 1 + 1 + 1))) 4 (some (n + 1 + 1 + 1 + 1))) 5 (some (n + 1 + 1 + 1 + 1 + 1 + 144))) (by rw [updS_ne (by omega), updS_eq]) (by unfold updR; simp [z6])]
  rw [zPR_T (rf := updR (updR (updR (updR (updR (updR (zrf tyX14) 1 (some (n + 1))) 2 (some (n + 1 + 1))) 3 (some (n + 1 + 1 + 1))) 4 (some (n + 1 + 1 + 1 + 1))) 5 (some (n + 1 + 1 + 1 + 1 + 1 + 144))) 6 (some (n + 1 + 1 + 1 + 1 + 1 + 144 + 1))) (by rw [updS_eq]) (by unfold updR; simp [z0])]
  refine ⟨_, _, rfl, ⟨⟨_, updS_eq, ?_⟩, ?_⟩, fun b hb => ⟨?_, ?_⟩, ⟨fun c hc => ?_, fun c s hc hs => ?_⟩, ?_⟩
  · unfold updR
    refine ⟨?_, ?_, ?_, ?_, ?_, ?_, ?_, ?_, ?_⟩ <;> simp [z7, z8]
  · refine ⟨?_, ?_, ?_, ⟨fun j => if j < 144 then some (n + 1 + 1 + 1 + 1 + 1 + j) else none, ?_, fun c hc => ?_⟩, fun c hc => ?_, ?_, ?_⟩
    · simp (disch := omega) only [updS_ne, updS_q, zShM_o]
    · simp (disch := omega) only [updS_ne, updS_q, zShM_o]
    · simp (disch := omega) only [updS_ne, updS_q, zShM_o]
    · simp (disch := omega) only [updS_ne, zShM_0]
    · show (if c < 144 then some (n + 1 + 1 + 1 + 1 + 1 + c) else none) = _
      rw [if_pos hc]
    · simp (disch := omega) only [updS_ne, zShM_i]
    · simp (disch := omega) only [updS_ne, updS_q]
    · simp (disch := omega) only [updS_ne, updS_q]
  · simp (disch := omega) only [updS_ne, zShM_o]
  · simp (disch := omega) only [rowV_ne, zVM_o]
  · simp (disch := omega) only [rowV_ne, rowV_q, zVM_o]
    rfl
  · simp (disch := omega) only [rowV_ne, zVM_i]
    rfl
  · simp (disch := omega) only [rowV_ne, rowV_q, zVM_o]
/-- which cells may be passed, where ways begin -/
theorem cm_cut_pass {a : Nat} (hC : CuS Sh a (m 0)) (hR : RD (Sh, V, L, n) m u Fz w) (hlo : ∀ i, i < 5 → m i < a) (hfz : ∀ b, Fz b → b < a) : ∃ V', cm_X14_init_L68 a (m 0) 1000 0 (Sh, V, L, n) = some (Sh, V', L, n) ∧ PaC V' a w ∧ ∀ b, b ≠ a + 2 → b ≠ a + 3 → V' b = V b := by
  have hF : FS0 Sh m (u 0) := hR.1
  have hA2 : Sh (a + 2) = some (d_int 2 144) := hC.2.2.1
  have hA3 : Sh (a + 3) = some (d_int 2 144) := hC.2.2.2.1
  have l1 := hlo 1 (by omega)
  have l2 := hlo 2 (by omega)
  have l4 := hlo 4 (by omega)
  have hRx : ∀ A B, RD (Sh, rowV (rowV V (a + 2) A) (a + 3) B, L, n) m u Fz w := by
    intro A B
    refine RD_frame hR ?_ ?_ ?_ (fun b hb => ?_)
    · rw [rowV_ne (by omega), rowV_ne (by omega)]
    · rw [rowV_ne (by omega), rowV_ne (by omega)]
    · rw [rowV_ne (by omega), rowV_ne (by omega)]
    · have := hfz b hb
      rw [rowV_ne (by omega), rowV_ne (by omega)]
  have hr := lp_run (F := cm_X14_init_F68 a (m 0)) (N := 144) (st := fun i => (nI i, (Sh, rowV (rowV V (a + 2) (fun c => if c < i then b2i (pOp w c) else V (a + 2) c)) (a + 3) (fun c => if c < i then b2i (pSr w c) else V (a + 3) c), L, n))) (out := (Sh, rowV (rowV V (a + 2) (fun c => if c < 144 then b2i (pOp w c) else V (a + 2) c)) (a + 3) (fun c => if c < 144 then b2i (pSr w c) else V (a + 3) c), L, n)) ?_ ?_ 1000 0 (by omega) (by omega)
  · simp only [Nat.not_lt_zero, if_false, nI_0] at hr
    rw [show rowV V (a + 2) (fun c => V (a + 2) c) = V from rowV_self V (a + 2), show rowV V (a + 3) (fun c => V (a + 3) c) = V from rowV_self V (a + 3)] at hr
    refine ⟨_, hr, ⟨fun c hc => ?_, fun c hc => ?_⟩, fun b h2 h3 => ?_⟩
    · rw [rowV_ne (by omega), rowV_eq, if_pos hc]
    · rw [rowV_eq, if_pos hc]
    · rw [rowV_ne h3, rowV_ne h2]
  · intro rec i hi
    have q2 : upd (fun c => if c < i then b2i (pOp w c) else V (a + 2) c) i (b2i (pOp w i)) = fun c => if c < i + 1 then b2i (pOp w c) else V (a + 2) c := upd_pre (f := fun c => b2i (pOp w c)) rfl
    have q3 : ∀ x, x = b2i (pSr w i) → upd (fun c => if c < i then b2i (pSr w c) else V (a + 3) c) i x = fun c => if c < i + 1 then b2i (pSr w c) else V (a + 3) c := fun x hx => upd_pre (f := fun c => b2i (pSr w c)) hx
    have swp : ∀ A B, rowV (rowV (rowV V (a + 2) A) (a + 3) B) (a + 2) (fun c => if c < i + 1 then b2i (pOp w c) else V (a + 2) c) = rowV (rowV V (a + 2) (fun c => if c < i + 1 then b2i (pOp w c) else V (a + 2) c)) (a + 3) B := by
      intro A B
      rw [rowV_swap (by omega), Nat.zero_add, rowV_over]
    generalize hA : (fun c => if c < i then b2i (pOp w c) else V (a + 2) c) = A at q2
    generalize hB : (fun c => if c < i then b2i (pSr w c) else V (a + 3) c) = B at q3
    have hT : TS Sh (rowV (rowV V (a + 2) A) (a + 3) B) Fz u w := (hRx A B).2.2.1
    have hsh : cm_X2_isShaft (Sh, rowV (rowV V (a + 2) A) (a + 3) B, L, n) (u 0) (nI i) = some (b2i (pShf w i)) := cm_isShaft_eq (Z := (Sh, rowV (rowV V (a + 2) A) (a + 3) B, L, n)) hT hi
    have hfr := cm_isFrozen_eq (hRx A B) hi
    have hbs := cm_isBesideShaft_eq (hRx (fun c => if c < i + 1 then b2i (pOp w c) else V (a + 2) c) B) hi
    have tail : cm_X14_init_J104 (fun x2 Z => rec (x2, Z)) a (m 0) (nI i) (a + 2) (nI i) (b2i (pOp w i)) (Sh, rowV (rowV V (a + 2) A) (a + 3) B, L, n) = rec (nI (i + 1), (Sh, rowV (rowV V (a + 2) (fun c => if c < i + 1 then b2i (pOp w c) else V (a + 2) c)) (a + 3) (fun c => if c < i + 1 then b2i (pSr w c) else V (a + 3) c), L, n)) := by
      unfold cm_X14_init_J104
      simp (disch := omega) only [zSh_T, zV_T, zL_T, zn_T, okI_b, zsI_T hA2, upd2_row, rowV_ne, rowV_eq, q2, swp, k_3 hC, k_2 hC, caI_eq hA2, if_true, f_KT hF, hbs, bnd_S, zsI_T hA3, rowV_over, L_add, L_addR, L_mul, L_mulR, L_div, N_div, N_rem, L_sub, L_subN, nI_add, nI_mul, L_le, L_leR, L_lt, L_ltR, L_eq, N_leT, N_leF, N_ltT, N_ltF, N_eqT, N_eqF, N_m1, nmI_S, show i < i + 1 by omega, b2iF]
      cases h7 : pOp w i with
      | false =>
        simp only [if_true]
        rw [q3 0 (by unfold pSr; rw [h7]; rfl)]
      | true =>
        simp only [Bool.true_eq_false, if_false]
        cases h8 : pBs w i with
        | false =>
          simp only [if_true]
          rw [q3 0 (by unfold pSr; rw [h7, h8]; rfl)]
        | true =>
          simp only [Bool.true_eq_false, if_false]
          rw [q3 1 (by unfold pSr; rw [h7, h8]; rfl)]
    unfold cm_X14_init_F68
    simp (disch := omega) only [cm_X14_init_B68, cm_X14_init_J103, zSh_T, zV_T, zL_T, zn_T, L_add, L_addR, L_mul, L_mulR, L_div, N_div, N_rem, L_sub, L_subN, nI_add, nI_mul, L_le, L_leR, L_lt, L_ltR, L_eq, N_leT, N_leF, N_ltT, N_ltF, N_eqT, N_eqF, N_m1, bnd_S, un2_S, un3_S, nmI_S, nmL_S, ptI_S, cs2_L, cs2_R, okI_b, okI_1, okI_0, rdI_in, wrI_in, rdI_L, wrI_L, rdL_in, wrL_in, if_true, if_false, k_2 hC, f_t hF, t_KT hT, hsh, b2iF, f_KT hF, hfr]
    unfold pOp at tail
    cases s1 : pShf w i with
    | false =>
      cases s2 : pFro w i with
      | false => rw [s1, s2] at tail; simp only [if_true]; exact tail
      | true => rw [s1, s2] at tail; simp only [if_true, Bool.true_eq_false, if_false]; exact tail
    | true => rw [s1] at tail; simp only [Bool.true_eq_false, if_false]; exact tail
  · intro rec
    unfold cm_X14_init_F68
    simp (disch := omega) only [cm_X14_init_B68, L_add, L_addR, L_mul, L_mulR, L_div, N_div, N_rem, L_sub, L_subN, nI_add, nI_mul, L_le, L_leR, L_lt, L_ltR, L_eq, N_leT, N_leF, N_ltT, N_ltF, N_eqT, N_eqF, N_m1, bnd_S, un2_S, un3_S, nmI_S, nmL_S, ptI_S, cs2_L, cs2_R, okI_b, okI_1, okI_0, rdI_in, wrI_in, rdI_L, wrI_L, rdL_in, wrL_in, if_true, if_false]
/-- a Cut of a field: how many ways, which cells are gaps -/
theorem cm_isGap_eq {a f c : Nat} {b : Nat → Option (Option Nat)} (hC : CuS Sh a f) (h : ∀ z, z < 288 → (V (a + 149) z = -1) = (b z = none)) (hc : c < 144) : cm_X14_isGap (Sh, V, L, n) a (nI c) = some (b2i (xIn b c && !xOut b c)) := by
  have hA5 : Sh (a + 149) = some (d_int 0 290) := hC.2.2.2.2.2.2.1
  have e1 : (2 : Int32) * nI c = nI (2 * c) := by rw [show (2 : Int32) = nI 2 from rfl, nI_mul]
  have e2 : nI (2 * c) + 1 = nI (2 * c + 1) := by rw [show (1 : Int32) = nI 1 from rfl, nI_add]
  unfold cm_X14_isGap
  simp (disch := omega) only [zSh_T, zV_T, zL_T, zn_T, k_5 hC, e1, e2, caI_eq hA5, h]
  unfold xIn xOut
  cases b (2 * c) with
  | none => rfl
  | some x =>
    cases b (2 * c + 1) with
    | none => rfl
    | some y => rfl
theorem cm_cut_eq (hR : RD (Sh, V, L, n) m u Fz w) (hlo : ∀ i, i < 11 → m i < n) (hfz : ∀ b, Fz b → b < n) : ∃ Sh' V' v g, cm_X14_init (updS Sh n (d_obj 13 9 (zrf tyX14)), rowV V n (fun _ => 0), L, n + 1) n (m 0) = some (Sh', V', L, n + 151) ∧ CuS Sh' n (m 0) ∧ v ≤ 144 ∧ V' n 8 = nI v ∧ isCut (pOp w) (pSr w) v g ∧ (∀ c V2, c < 144 → V2 (n + 149) = V' (n + 149) → cm_X14_isGap (Sh', V2, L, n + 151) n (nI c) = some (b2i (g c))) ∧ ∀ b, b < n → Sh' b = Sh b ∧ V' b = V b := by
  obtain ⟨Sh1, V1, e1, c1, c2, c3, c4⟩ := cm_cut_new (Sh := Sh) (V := V) (L := L) (n := n) (m 0)
  have hR1 : RD (Sh1, V1, L, n + 151) m u Fz w := by
    obtain ⟨⟨rf, q1, q2⟩, hA, hT, hV, hk⟩ := hR
    have s := fun i hi => (c2 (m i) (hlo i hi)).1
    refine ⟨⟨rf, by show Sh1 (m 0) = _; rw [s 0 (by omega)]; exact q1, q2⟩, ?_, TS_mono hT (fun b hb => (c2 b (hfz b hb)).1) (fun b hb => (c2 b (hfz b hb)).2), fun c hc => ?_, hk⟩
    · show FSa Sh1 m
      unfold FSa
      rw [s 1 (by omega), s 2 (by omega), s 3 (by omega), s 4 (by omega), s 7 (by omega), s 8 (by omega), s 9 (by omega), s 10 (by omega)]
      exact hA
    · show V1 (m 1) c = _ ∧ V1 (m 2) c = _ ∧ V1 (m 4) c = _ ∧ _
      rw [(c2 (m 1) (hlo 1 (by omega))).2, (c2 (m 2) (hlo 2 (by omega))).2, (c2 (m 4) (hlo 4 (by omega))).2]
      exact hV c hc
  obtain ⟨V2, p1, p2, p3⟩ := cm_cut_pass (a := n) c1 hR1 (fun i hi => hlo i (by omega)) hfz
  have c3' : FlC V2 n (fun _ => false) (fun _ _ => false) := ⟨fun c hc => by rw [p3 _ (by omega) (by omega)]; exact c3.1 c hc, fun c s hc hs => by rw [p3 _ (by omega) (by omega)]; exact c3.2 c s hc hs⟩
  obtain ⟨V3, v, b, d, th, on, r1, r2, r3, r4, r5, r6, r7, r8, r9⟩ := cm_cut_loop (L := L) (n := n + 151) c1 p2 c3' (by rw [p3 _ (by omega) (by omega)]; exact c4)
  refine ⟨Sh1, V3, v, fun c => xIn b c && !xOut b c, ?_, c1, r2, r3, ⟨th, on, b, d, r4, r5, r6, r7, fun c hc => rfl⟩, fun c V4 hc hV4 => cm_isGap_eq c1 (fun z hz => by rw [hV4]; exact r8 z hz) hc, fun b' hb' => ⟨(c2 b' hb').1, ?_⟩⟩
  · rw [e1, p1, bnd_S, r1, bnd_S]
  · rw [r9 b' hb', p3 b' (by omega) (by omega)]; exact (c2 b' hb').2
end CN
