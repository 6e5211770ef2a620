/-! PURE: a text is read: one condition of a rule -/
set_option maxRecDepth 100000
section RT2
variable {Sh Sh' : g_Sh} {V V' : g_V} {L : g_L} {n n' N0 r tp ms bg sz td np nh nr lc lt ρ0 ρ1 nc kc' : Nat} {V2 V2' : g_V} {κ u gc : Nat → Nat} {gp : Nat → Nat}
theorem Rm_w {j : Nat} {x : Int32} (h : Rm gp N0 Sh V n V2 r tp ms bg sz td κ u np nh nr lc lt ρ0 ρ1 gc nc kc') (hj : 750 + 10 * nr + 1 + 3 * nc ≤ j ∧ j < 760 + 10 * nr) : Rm gp N0 Sh V n (upd2 V2 15 j x) r tp ms bg sz td κ u np nh nr lc lt ρ0 ρ1 gc nc kc' := by
  obtain ⟨h1, h2, h3, h4, h5, h6, h7, h8, h9⟩ := h
  refine ⟨by rw [shd_w (by omega)]; exact h1, h2, h3, h4, h5, by rw [upd2_eq, upd_ne (by omega)]; exact h6, h7, h8, fun c hc => ⟨(h9 c hc).1, RC_k (h9 c hc).2 rfl rfl (fun i hi => by rw [upd2_eq, upd_ne (by omega)])⟩⟩
theorem Rm_c {k : Nat} (h : Rm gp N0 Sh V n V2 r tp ms bg sz td κ u np nh nr lc lt ρ0 ρ1 gc nc kc') : Rm gp N0 Sh V n (upd2 V2 15 (750 + 10 * nr) (nI k)) r tp ms bg sz td κ u np nh nr lc lt ρ0 ρ1 gc nc k := by
  obtain ⟨h1, h2, h3, h4, h5, h6, h7, h8, h9⟩ := h
  refine ⟨by rw [shd_w (by omega)]; exact h1, h2, h3, h4, h5, by rw [upd2_eq, upd_eq], h7, h8, fun c hc => ⟨(h9 c hc).1, RC_k (h9 c hc).2 rfl rfl (fun i hi => by rw [upd2_eq, upd_ne (by omega)])⟩⟩
theorem Rm_new {d : g_D} {f : Nat → Int32} (h : Rm gp N0 Sh V n V2 r tp ms bg sz td κ u np nh nr lc lt ρ0 ρ1 gc nc kc') : Rm gp N0 (updS Sh n d) (rowV V n f) (n + 1) V2 r tp ms bg sz td (fun a => if a = n then 9 else κ a) u np nh nr lc lt ρ0 ρ1 gc nc kc' := by
  obtain ⟨h1, h2, h3, ⟨rf, r1, r2⟩, h5, h6, h7, ⟨el, e1, e2⟩, h9⟩ := h
  have kk := h1.2.2.2.2.2.1.2.2.2.2.2
  have kN := Ps_N h1
  have lt : ∀ a, κ a ≠ 0 → a ≠ n := fun a ha => by have := kk a ha; omega
  refine ⟨Ps_free h1 (fun a a1 a8 => ⟨updS_ne (lt a (by omega)), rowV_ne (lt a (by omega)), if_neg (lt a (by omega))⟩) (fun a ha => ⟨updS_ne (by omega), rowV_ne (by omega)⟩) (by omega) (fun a ha => ?_), ?_, ?_, ⟨rf, by rw [updS_ne (lt _ (by omega))]; exact r1, r2⟩, h5, h6, by rw [rowV_ne (lt _ (by omega))]; exact h7, ⟨el, by rw [updS_ne (lt _ (by omega))]; exact e1, e2⟩, fun c hc => ?_⟩
  · by_cases e : a = n
    · right; omega
    · have ha : (if a = n then 9 else κ a) ≠ 0 := ha
      rw [if_neg e] at ha; exact Or.inl ha
  · dsimp only; rw [if_neg (lt _ (by omega))]; exact h2
  · dsimp only; rw [if_neg (lt _ (by omega))]; exact h3
  · have z := (h9 c hc).1
    dsimp only
    rw [if_neg (lt _ (by omega))]
    exact ⟨z, RC_k (h9 c hc).2 (updS_ne (lt _ (by omega))) (rowV_ne (lt _ (by omega))) (fun _ _ => rfl)⟩
theorem Rm_v {i : Nat} {x : Int32} {y : Nat} (h : Rm gp N0 Sh V n V2 r tp ms bg sz td κ u np nh nr lc lt ρ0 ρ1 gc nc kc') (hy : κ y = 9) (hy0 : y ≠ ρ0) (hyc : ∀ c, c < nc → gc c ≠ y) : Rm gp N0 Sh (upd2 V y i x) n V2 r tp ms bg sz td κ u np nh nr lc lt ρ0 ρ1 gc nc kc' := by
  obtain ⟨h1, h2, h3, h4, h5, h6, h7, h8, h9⟩ := h
  have kk := h1.2.2.2.2.2.1.2.2.2.2.2 y (by omega)
  refine ⟨Ps_free h1 (fun a a1 a8 => ⟨rfl, upd2_ne _ (fun e => by rw [e] at a8; omega), rfl⟩) (fun a ha => ⟨rfl, upd2_ne _ (by omega)⟩) (Nat.le_refl n) (fun a ha => Or.inl ha), h2, h3, h4, h5, h6, by rw [upd2_ne _ (Ne.symm hy0)]; exact h7, h8, fun c hc => ⟨(h9 c hc).1, RC_k (h9 c hc).2 rfl (upd2_ne _ (hyc c hc)) (fun _ _ => rfl)⟩⟩
theorem d_J92 {W : g_V} {a b : Int32} (dd : ¬ W 0 13 = 0) : tw_readCond_J92 a b W = some W := by
  unfold tw_readCond_J92
  rw [d_good dd, bnd_S, if_pos rfl]
theorem d_J33 {W : g_V} {a b : Int32} (dd : ¬ W 0 13 = 0) : tw_readCond_J33 a b W = some W := by
  unfold tw_readCond_J33
  rw [d_good dd, bnd_S, if_pos rfl]
/-- both fail at a condition -/
def RF (gp : Nat → Nat) (N0 : Nat) (Sh : g_Sh) (V : g_V) (L : g_L) (n : Nat) (V2 : g_V) (r td ρ0 : Nat) (kI : Int32) : Prop := ∃ x Z' Vd, (∀ rec, cm_X3_rule_F16 gp r td ρ0 rec (1, (Sh, V, L, n)) = some (.inr (x, Z'))) ∧ (∀ rec, tw_readRule_F22 kI rec (1, V2) = rec (0, Vd)) ∧ (∀ rec, tw_readRule_F22 kI rec (0, Vd) = some Vd) ∧ ¬ Vd 0 13 = 0 ∧ ∀ (β : Type) (c' : Option (β ⊕ (Nat × c_S))), c' = some (.inr (x, Z')) → FL0 N0 Sh V L V2 c' Vd
set_option maxHeartbeats 2000000 in
theorem rule_turn (h : Rm gp N0 Sh V n V2 r tp ms bg sz td κ u np nh nr lc lt ρ0 ρ1 gc nc nc) (h4 : nr < 4) (h01 : ρ0 ≠ ρ1) (hg : gpI gp) : RF gp N0 Sh V L n V2 r td ρ0 (nI (750 + 10 * nr)) ∨ (nc < 3 ∧ ∃ Sh' V' n' V2' κ' gc' b, (∀ rec, cm_X3_rule_F16 gp r td ρ0 rec (1, (Sh, V, L, n)) = rec (b2i b, (Sh', V', L, n'))) ∧ (∀ rec, tw_readRule_F22 (nI (750 + 10 * nr)) rec (1, V2) = rec (b2i b, V2')) ∧ Rm gp N0 Sh' V' n' V2' r tp ms bg sz td κ' u np nh nr lc lt ρ0 ρ1 gc' (nc + 1) (nc + 1) ∧ (∀ a, a < N0 → Sh' a = Sh a ∧ V' a = V a) ∧ TF V2 V2') := by
  have hP := h.1
  have R0 : RW Sh V r tp ms bg V2 sz := shd_wr hP.1
  have hro := R0.1
  have rk := Ps_rk hP
  have kN := Ps_N hP
  have k8 : κ r = 8 := hP.2.2.2.2.2.1.1
  obtain ⟨em, m1, m2⟩ := hP.2.2.2.2.2.2.1
  obtain ⟨-, hk0, hk1, ⟨rf, r1, r2, r3⟩, h5, h6, h7, ⟨el, e1, e2⟩, h9⟩ := id h
  have z1 : ¬ (1 : Int32) = 0 := by decide
  have gd : tw_good V2 = some 1 := if_pos R0.2.2.2.2.2.1
  obtain ⟨K, q1, q2, q3, q4⟩ := t_oneOf (L := L) (n := n) (base := 0) R0 hg m1 (by omega) (by omega) (fun i hi => by rw [Nat.zero_add]; exact m2 i hi)
  have hw := tw_here R0 hg q1 q2 q3
  have is21 := (t_isb (L := L) (n := n) (w := 21) R0 hg (by omega)).1
  have cF : ∀ rec, cm_X3_rule_F16 gp r td ρ0 rec (1, (Sh, V, L, n)) = (if (if K < 4 then nI K else -1) = (-1) then (if bw V2 21 = false then (bnd (cm_X3_fails gp (Sh, V, L, n) r 1) (cs2 (fun Z_64 => cm_X3_rule_J54 gp (fun x3 Z => rec (x3, Z)) r td ρ0 (if K < 4 then nI K else -1) (b2i (bw V2 21)) Z_64) (un2 fun x_65 Z_66 => some (.inr (x_65, Z_66))))) else (cm_X3_rule_J54 gp (fun x3 Z => rec (x3, Z)) r td ρ0 (if K < 4 then nI K else -1) (b2i (bw V2 21)) (Sh, V, L, n))) else (cm_X3_rule_J54 gp (fun x3 Z => rec (x3, Z)) r td ρ0 (if K < 4 then nI K else -1) (b2i (bw V2 21)) (Sh, V, L, n))) := by
    intro rec
    unfold cm_X3_rule_F16
    simp only [cm_X3_rule_B16, z1, if_false, zSh_T, zV_T, zL_T, zn_T, r_ms hro, r_K hro, q4, is21, bnd_S, b2iF]
  have tF : ∀ rec, tw_readRule_F22 (nI (750 + 10 * nr)) rec (1, V2) = bnd (tw_readCond V2 (nI (750 + 10 * nr))) (fun V_16 => bnd (tw_takes 22 V_16) (un2 fun x_19 V_20 => rec (x_19, V_20))) := by
    intro rec
    unfold tw_readRule_F22
    simp only [tw_readRule_B22, z1, if_false, gd, bnd_S]
  have tE : ∀ (Vd : g_V) rec, tw_readRule_F22 (nI (750 + 10 * nr)) rec (0, Vd) = some Vd := by
    intro Vd rec
    unfold tw_readRule_F22
    simp only [tw_readRule_B22, if_true]
  have rk0 : rdI (V2 15) 810 (nI (750 + 10 * nr)) = fun (k : Int32 → Option g_V) => k (nI nc) := by
    funext k
    rw [rdI_in (by omega) (by omega), h6]
  by_cases cA : ¬ K < 4 ∧ bw V2 21 = false
  · -- no word
    left
    obtain ⟨x, Z', Vd, f1, f2, f3⟩ := t_fail (gp := gp) (L := L) R0 rk.2 (show ¬ (1 : Int32) = 0 by decide)
    have FF := f3 c_S _ rfl
    have dd := Fl_dead FF
    obtain ⟨x', Z'', w1, w2⟩ := FL0_of kN rk.1 (fun a _ => ⟨rfl, rfl⟩) TF_rf FF Dd_rf
    injection w1 with w1
    injection w1 with w1
    injection w1 with wx wz
    refine ⟨x, Z', Vd, fun rec => ?_, fun rec => ?_, tE Vd, dd, fun β c' hc => w2 β c' (by rw [hc, wx, wz])⟩
    · rw [cF, if_neg cA.1, if_pos rfl, if_pos cA.2, f1, bnd_S, cs2_R, un2_S]
    · rw [tF]
      unfold tw_readCond
      rw [hw, cA.2, if_neg (by decide), if_neg cA.1, bnd_S, if_pos rfl, f2, bnd_S, d_J33 dd, bnd_S, d_takes dd, bnd_S, un2_S]
  · have cJ : ∀ rec, cm_X3_rule_F16 gp r td ρ0 rec (1, (Sh, V, L, n)) = cm_X3_rule_J54 gp (fun x3 Z => rec (x3, Z)) r td ρ0 (if K < 4 then nI K else -1) (b2i (bw V2 21)) (Sh, V, L, n) := by
      intro rec
      rw [cF]
      by_cases c : K < 4
      · rw [if_neg (show ¬ (if K < 4 then nI K else -1) = (-1 : Int32) by rw [if_pos c, N_m1 (by omega)]; exact id)]
      · have : bw V2 21 = true := by
          cases hb : bw V2 21 with
          | true => rfl
          | false => exact absurd ⟨c, hb⟩ cA
        rw [if_pos (show (if K < 4 then nI K else -1) = (-1 : Int32) from if_neg c), if_neg (by rw [this]; decide)]
    obtain ⟨wd, ewd⟩ : ∃ wd : Int32, wd = if bw V2 21 = true then 0 else if K < 4 then nI (K + 1) else -1 := ⟨_, rfl⟩
    have wd1 : ¬ wd = -1 := by
      rw [ewd]
      cases hb : bw V2 21 with
      | true => rw [if_pos rfl]; decide
      | false =>
        have c : K < 4 := Classical.byContradiction fun c => cA ⟨c, hb⟩
        rw [if_neg (by decide), if_pos c, N_m1 (by omega)]; exact id
    rw [← ewd] at hw
    have tC : tw_readCond V2 (nI (750 + 10 * nr)) = if nI nc = 3 then (bnd (tw_wrong V2 3) (fun V_67 => tw_readCond_J33 (nI (750 + 10 * nr)) wd V_67)) else (tw_readCond_J33 (nI (750 + 10 * nr)) wd V2) := by
      unfold tw_readCond
      rw [hw, bnd_S, if_neg wd1, rk0]
    by_cases c3 : nc = 3
    · left
      subst c3
      obtain ⟨x, Z', Vd, f1, f2, f3⟩ := t_fail (gp := gp) (L := L) R0 rk.2 (show ¬ (3 : Int32) = 0 by decide)
      have FF := f3 c_S _ rfl
      have dd := Fl_dead FF
      obtain ⟨x', Z'', w1, w2⟩ := FL0_of kN rk.1 (fun a _ => ⟨rfl, rfl⟩) TF_rf FF Dd_rf
      injection w1 with w1
      injection w1 with w1
      injection w1 with wx wz
      refine ⟨x, Z', Vd, fun rec => ?_, fun rec => ?_, tE Vd, dd, fun β c' hc => w2 β c' (by rw [hc, wx, wz])⟩
      · rw [cJ]
        unfold cm_X3_rule_J54
        simp only [zSh_T, zV_T, zL_T, zn_T]
        rw [cI_eq r1 r3, h7, if_pos (show nI 3 = (3 : Int32) from rfl), r_K hro, f1, bnd_S, cs2_R, un2_S]
      · rw [tF, tC, if_pos (show nI 3 = (3 : Int32) from rfl), f2, bnd_S, d_J33 dd, bnd_S, d_takes dd, bnd_S, un2_S]
    · have nc3 : nc < 3 := by omega
      have n3 : ¬ nI nc = 3 := fun e => c3 ((nI_eq (b := 3) (by omega) (by omega)).mp e)
      obtain ⟨V1, W1, s1, s2, s3, s4⟩ := t_next (L := L) (n := n) R0
      have M1 := Rm_tok h s3 s4
      have h71 : V1 ρ0 1 = nI nc := M1.2.2.2.2.2.2.1
      have w1k : W1 15 (750 + 10 * nr) = nI nc := M1.2.2.2.2.2.1
      have cK : ∀ rec, cm_X3_rule_F16 gp r td ρ0 rec (1, (Sh, V, L, n)) = if bw V2 21 = false then (bnd (cm_X3_measure gp (Sh, V1, L, n) r (if K < 4 then nI K else -1)) (cs2 (un2 fun o_36 Z_37 => cm_X3_rule_J100 gp (fun x3 Z => rec (x3, Z)) r td ρ0 ρ1 (nI nc) o_36 Z_37) (un2 fun x_38 Z_39 => some (.inr (x_38, Z_39))))) else (zNew (Sh, V1, L, n) 11 0 tyX12 fun Z_49 a_50 => bnd (cm_X12_init a_50) (fun _ => cm_X3_rule_J100 gp (fun x3 Z => rec (x3, Z)) r td ρ0 ρ1 (nI nc) (some a_50) Z_49)) := by
        intro rec
        rw [cJ]
        unfold cm_X3_rule_J54
        simp only [zSh_T, zV_T, zL_T, zn_T]
        rw [cI_eq r1 r3, h7, if_neg n3]
        unfold cm_X3_rule_J67
        simp only [r_K hro, s1, bnd_S, zSh_T, zV_T, zL_T, zn_T]
        rw [cA_eq r1 r2, cI_eq r1 r3, h71]
        simp only [b2iF, r_K hro]
      have tK : ∀ rec, tw_readRule_F22 (nI (750 + 10 * nr)) rec (1, V2) = bnd (wrI W1 15 810 (nI (750 + 10 * nr + 1 + 3 * nc)) wd fun V_23 => if wd ≤ 0 then (rdI (V_23 15) 810 (nI (750 + 10 * nr)) fun x_25 => wrI V_23 15 810 (nI (750 + 10 * nr)) (x_25 + 1) fun V_30 => some V_30) else (bnd (tw_isSign V_23 60) (fun x_33 => if x_33 = 0 then (bnd (tw_isSign V_23 62) (fun x_60 => if x_60 = 0 then (bnd (tw_wrong V_23 1) (fun V_64 => tw_readCond_J92 (nI (750 + 10 * nr)) (nI (750 + 10 * nr + 1 + 3 * nc)) V_64)) else (tw_readCond_J92 (nI (750 + 10 * nr)) (nI (750 + 10 * nr + 1 + 3 * nc)) V_23))) else (tw_readCond_J92 (nI (750 + 10 * nr)) (nI (750 + 10 * nr + 1 + 3 * nc)) V_23)))) (fun V_16 => bnd (tw_takes 22 V_16) (un2 fun x_19 V_20 => rec (x_19, V_20))) := by
        intro rec
        rw [tF, tC, if_neg n3]
        unfold tw_readCond_J33
        rw [gd, bnd_S, if_neg z1, s2, bnd_S, rdI_in (by omega) (by omega), w1k]
        simp only [nmI_S, L_addR, L_mul, nI_add]
      cases hb : bw V2 21 with
      | true =>
        right
        refine ⟨nc3, ?_⟩
        have wd0 : wd = 0 := by rw [ewd, hb]; rfl
        have M2 := Rm_new (d := d_obj 11 0 (zrf tyX12)) (f := fun _ => 0) (Rm_c (k := nc + 1) (Rm_w (j := 750 + 10 * nr + 1 + 3 * nc) (x := 0) M1 (by omega)))
        obtain ⟨Sh', V', V2', b, a1, a2, a3, a4, a5⟩ := rule_end (L := L) (y := n) M2 nc3 (if_pos rfl) (Or.inl ⟨by dsimp only; rw [upd2_eq, upd_ne (by omega), upd2_eq]; exact upd_eq _ _ _, _, updS_eq⟩) h01 hg
        refine ⟨Sh', V', n + 1, V2', _, _, b, fun rec => ?_, fun rec => ?_, a3, fun a ha => ?_, TF_tr (TF_st s3) (TF_tr (TF_w (a := 15) (by omega)) (TF_tr (TF_w (a := 15) (by omega)) a5))⟩
        · rw [cK, hb, if_neg (by decide)]
          unfold zNew cm_X12_init cm_X11_init
          exact a1 _
        · rw [tK, wd0, wrI_in (by omega) (by omega), if_pos (by decide), rdI_in (by omega) (by omega), upd2_eq, upd_ne (by omega), w1k, L_addR, wrI_in (by omega) (by omega), bnd_S, a2, bnd_S, un2_S]
        · have := a4 a ha
          rw [this.1, this.2, updS_ne (by omega), rowV_ne (by omega), s3.1 a (by omega)]
          exact ⟨rfl, rfl⟩
      | false =>
        have cK4 : K < 4 := Classical.byContradiction fun c => cA ⟨c, hb⟩
        have wdK : wd = nI (K + 1) := by rw [ewd, hb, if_neg (by decide), if_pos cK4]
        have wdn : ¬ wd ≤ 0 := by rw [wdK, ← nI_0, N_le (by omega) (by omega)]; omega
        obtain ⟨Wa, eWa⟩ : ∃ Wa, Wa = upd2 W1 15 (750 + 10 * nr + 1 + 3 * nc) wd := ⟨_, rfl⟩
        have Ra : RW Sh V1 r tp ms bg Wa sz := by rw [eWa]; exact RW_15 (by omega) s4
        obtain ⟨b6, t60, u60, v60⟩ := t_sign (L := L) (n := n) (k := 60) Ra
        obtain ⟨b62, t62, u62, v62⟩ := t_sign (L := L) (n := n) (k := 62) Ra
        have tfa : TF V2 Wa := by rw [eWa]; exact TF_tr (TF_st s3) (TF_w (a := 15) (by omega))
        have fr1 : ∀ a, a < N0 → Sh a = Sh a ∧ V1 a = V a := fun a ha => ⟨rfl, s3.1 a (by omega)⟩
        by_cases sg : b6 = false ∧ b62 = false
        · left
          obtain ⟨x, Z', Vd, f1, f2, f3⟩ := t_fail (gp := gp) (L := L) Ra rk.2 (show ¬ (1 : Int32) = 0 by decide)
          have FF := f3 c_S _ rfl
          have dd := Fl_dead FF
          obtain ⟨x', Z'', w1, w2⟩ := FL0_of (V20 := V2) (Sh0 := Sh) (V0 := V) kN rk.1 fr1 tfa FF Dd_rf
          injection w1 with w1
          injection w1 with w1
          injection w1 with wx wz
          refine ⟨x, Z', Vd, fun rec => ?_, fun rec => ?_, tE Vd, dd, fun β c' hc => w2 β c' (by rw [hc, wx, wz])⟩
          · rw [cK, hb, if_pos rfl]
            unfold cm_X3_measure
            simp only [r_K hro, t60, t62, sg.1, sg.2, bnd_S, b2iF, if_true, f1, cs2_R, un2_S]
          · rw [tK, wrI_in (by omega) (by omega), ← eWa, if_neg wdn]
            simp only [u60, u62, sg.1, sg.2, bnd_S, b2iF, if_true, f2, d_J92 dd, d_takes dd, un2_S]
        · -- a sign: which
          have vs : ∃ sv lv : Int32, V1 r 8 = sv ∧ Wa 0 12 = sv ∧ ((sv = 60 ∧ lv = 1) ∨ (¬ sv = 60 ∧ lv = 0)) ∧ isB lv = true ∧ cm_X3_measure gp (Sh, V1, L, n) r (nI K) = cm_X3_measure_J37 gp r (nI K) lv (Sh, V1, L, n) := by
            cases h60 : b6 with
            | true =>
              refine ⟨60, 1, (v60 h60).1, (v60 h60).2, Or.inl ⟨rfl, rfl⟩, rfl, ?_⟩
              unfold cm_X3_measure cm_X3_measure_J23
              simp (disch := omega) only [r_K hro, t60, h60, bnd_S, b2iF, Bool.true_eq_false, if_false, zSh_T, zV_T, zL_T, zn_T, r_I hro, (v60 h60).1, if_true]
            | false =>
              have h62 : b62 = true := by
                cases hh : b62 with
                | true => rfl
                | false => exact absurd ⟨h60, hh⟩ sg
              refine ⟨62, 0, (v62 h62).1, (v62 h62).2, Or.inr ⟨by decide, rfl⟩, rfl, ?_⟩
              unfold cm_X3_measure cm_X3_measure_J23
              simp (disch := omega) only [r_K hro, t60, t62, h60, h62, bnd_S, b2iF, Bool.true_eq_false, if_false, if_true, zSh_T, zV_T, zL_T, zn_T, r_I hro, (v62 h62).1, show ¬ (62 : Int32) = 60 by decide]
          obtain ⟨sv, lv, vs1, vs2, vs3, vs4, vs5⟩ := vs
          have tS : ∀ rec, tw_readRule_F22 (nI (750 + 10 * nr)) rec (1, V2) = bnd (tw_readCond_J92 (nI (750 + 10 * nr)) (nI (750 + 10 * nr + 1 + 3 * nc)) Wa) (fun V_16 => bnd (tw_takes 22 V_16) (un2 fun x_19 V_20 => rec (x_19, V_20))) := by
            intro rec
            rw [tK, wrI_in (by omega) (by omega), ← eWa, if_neg wdn]
            cases h60 : b6 with
            | true => simp only [u60, h60, bnd_S, b2iF, Bool.true_eq_false, if_false]
            | false =>
              have h62 : b62 = true := by
                cases hh : b62 with
                | true => rfl
                | false => exact absurd ⟨h60, hh⟩ sg
              simp only [u60, u62, h60, h62, bnd_S, b2iF, Bool.true_eq_false, if_false, if_true]
          obtain ⟨Wb, eWb⟩ : ∃ Wb, Wb = upd2 Wa 15 (750 + 10 * nr + 1 + 3 * nc + 1) sv := ⟨_, rfl⟩
          have gda : tw_good Wa = some 1 := if_pos Ra.2.2.2.2.2.1
          have Rb : RW Sh V1 r tp ms bg Wb sz := by rw [eWb]; exact RW_15 (by omega) Ra
          obtain ⟨V3, W3, p1, p2, p3, p4⟩ := t_next (L := L) (n := n) Rb
          have rn : r ≠ n := by omega
          have ktp : tp < N0 := hP.2.2.2.2.2.1.2.2.2.1
          have M3 : Rm gp N0 Sh V3 n W3 r tp ms bg sz td κ u np nh nr lc lt ρ0 ρ1 gc nc nc := Rm_tok (by rw [eWb, eWa]; exact Rm_w (Rm_w M1 (by omega)) (by omega)) p3 p4
          have M4 := Rm_new (d := d_obj 12 3 (zrf tyX13)) (f := fun _ => 0) M3
          have R4 : RW (updS Sh n (d_obj 12 3 (zrf tyX13))) (rowV V3 n (fun _ => 0)) r tp ms bg W3 sz := shd_wr M4.1.1
          have tfb : TF V2 W3 := TF_tr tfa (TF_tr (by rw [eWb]; exact TF_w (a := 15) (by omega)) (TF_st p3))
          have fr3 : ∀ a, a < N0 → updS Sh n (d_obj 12 3 (zrf tyX13)) a = Sh a ∧ rowV V3 n (fun _ => 0) a = V a := fun a ha => ⟨updS_ne (by omega), by rw [rowV_ne (by omega), p3.1 a (by omega), s3.1 a (by omega)]⟩
          have W3k : ∀ j, W3 15 j = Wb 15 j := fun j => by rw [p3.2.2.1 15 (by omega)]
          have e99 : (99999 : Int32).toInt = 99999 := rfl
          rcases t_number (gp := gp) (L := L) (n := n + 1) (lo := 0) (hi := 99999) R4 (by omega) (by decide) (by decide) with ⟨v, V5, W5, d1, d2, ⟨mm, rfl, -, mm2⟩, d4, d5⟩ | ⟨W5, d1, d2⟩
          · right
            refine ⟨nc3, ?_⟩
            have M5 := Rm_tok M4 d4 d5
            have hrc : ∀ i, i < 3 → zrf tyX13 i = none := by decide
            have en : updS Sh n (d_obj 12 3 (zrf tyX13)) n = some (d_obj 12 3 (zrf tyX13)) := updS_eq
            have kk := hP.2.2.2.2.2.1.2.2.2.2.2
            have yn0 : n ≠ ρ0 := by have := kk ρ0 (by omega); omega
            have ync : ∀ c, c < nc → gc c ≠ n := fun c hc => by have := kk (gc c) (by have := (h9 c hc).1; omega); omega
            have hyn : (if n = n then 9 else κ n) = 9 := if_pos rfl
            have M6 := Rm_v (i := 1) (x := nI mm) (Rm_v (i := 2) (x := lv) (Rm_v (i := 0) (x := nI K) M5 hyn yn0 ync) hyn yn0 ync) hyn yn0 ync
            have M7 := Rm_c (k := nc + 1) (Rm_w (j := 750 + 10 * nr + 1 + 3 * nc + 2) (x := nI mm) M6 (by omega))
            have W5k : ∀ j, W5 15 j = Wb 15 j := fun j => by rw [d4.2.2.1 15 (by omega)]; exact W3k j
            have wb0 : Wb 15 (750 + 10 * nr + 1 + 3 * nc) = nI (K + 1) := by rw [eWb, upd2_eq, upd_ne (by omega), eWa, upd2_eq, upd_eq]; exact wdK
            have wb1 : Wb 15 (750 + 10 * nr + 1 + 3 * nc + 1) = sv := by rw [eWb, upd2_eq, upd_eq]
            have wbk : Wb 15 (750 + 10 * nr) = nI nc := by rw [eWb, upd2_eq, upd_ne (by omega), eWa, upd2_eq, upd_ne (by omega)]; exact w1k
            obtain ⟨Sh', V', V2', b, a1, a2, a3, a4, a5⟩ := rule_end (L := L) (y := n) M7 nc3 hyn (Or.inr ⟨K, cK4, by
                dsimp only
                rw [upd2_eq, upd_ne (by omega), upd2_eq, upd_ne (by omega), Nat.add_zero, W5k]; exact wb0, ⟨_, en, hrc⟩, by rw [upd2_eq, upd_ne (by omega), upd2_eq, upd_ne (by omega), upd2_eq, upd_eq], by dsimp only; rw [upd2_eq, upd_eq, upd2_eq, upd_ne (by omega), upd2_eq, upd_eq], by
                dsimp only
                rw [upd2_eq, upd_ne (by omega), upd2_eq, upd_ne (by omega), W5k, wb1, upd2_eq, upd_ne (by omega), upd2_eq, upd_eq]; exact vs3⟩) h01 hg
            refine ⟨Sh', V', n + 1, V2', _, _, b, fun rec => ?_, fun rec => ?_, a3, fun a ha => ?_, TF_tr tfb (TF_tr (TF_st d4) (TF_tr (TF_w (a := 15) (by omega)) (TF_tr (TF_w (a := 15) (by omega)) a5)))⟩
            · rw [cK, hb, if_pos rfl, if_pos cK4, vs5]
              unfold cm_X3_measure_J37
              simp only [r_K hro, p1, bnd_S, zNew, zSh_T, zV_T, zL_T, zn_T, r_K R4.1, d1, cs2_L, un2_S]
              unfold cm_X13_init cm_X11_init
              simp (disch := decide) only [bnd_S, zPI_T en (hrc _ _), okI, vs4, if_true, cs2_L, un2_S]
              exact a1 _
            · rw [tS]
              unfold tw_readCond_J92
              rw [gda, bnd_S, if_neg z1, vs2]
              simp only [L_addR]
              rw [wrI_in (by omega) (by omega), ← eWb, p2, bnd_S, d2, bnd_S, un2_S, wrI_in (by omega) (by omega), rdI_in (by omega) (by omega), upd2_eq, upd_ne (by omega), W5k, wbk, L_addR, wrI_in (by omega) (by omega), bnd_S, a2, bnd_S, un2_S]
            · have := a4 a ha
              have y := fr3 a ha
              rw [this.1, this.2, upd2_ne _ (by omega), upd2_ne _ (by omega), upd2_ne _ (by omega), d4.1 a (by omega), y.1, y.2]
              exact ⟨rfl, rfl⟩
          · left
            have dd := Fl_dead d1
            have D1 : Dd W5 (upd2 W5 15 (750 + 10 * nr + 1 + 3 * nc + 2) 0) := Dw
            have D2 : Dd W5 (upd2 (upd2 W5 15 (750 + 10 * nr + 1 + 3 * nc + 2) 0) 15 (750 + 10 * nr) (upd2 W5 15 (750 + 10 * nr + 1 + 3 * nc + 2) 0 15 (750 + 10 * nr) + 1)) := Dd_tr D1 Dw
            obtain ⟨x, Z', w1, w2⟩ := FL0_of (V20 := V2) (Sh0 := Sh) (V0 := V) (show N0 ≤ n + 1 by omega) rk.1 fr3 tfb d1 D2
            refine ⟨x, Z', _, fun rec => ?_, fun rec => ?_, tE _, Dd_d D2 dd, fun β c' hc => w2 β c' hc⟩
            · rw [cK, hb, if_pos rfl, if_pos cK4, vs5]
              unfold cm_X3_measure_J37
              simp only [r_K hro, p1, bnd_S, zNew, zSh_T, zV_T, zL_T, zn_T, r_K R4.1, w1, cs2_R, un2_S]
            · rw [tS]
              unfold tw_readCond_J92
              rw [gda, bnd_S, if_neg z1, vs2]
              simp only [L_addR]
              rw [wrI_in (by omega) (by omega), ← eWb, p2, bnd_S, d2, bnd_S, un2_S, wrI_in (by omega) (by omega), rdI_in (by omega) (by omega), wrI_in (by omega) (by omega), bnd_S, d_takes (Dd_d D2 dd), bnd_S, un2_S]
end RT2
