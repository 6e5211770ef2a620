/-! PURE: a text is read: one turn, all lines -/
set_option maxRecDepth 100000
/-- how the reading of the lines ends on both sides -/
def EndL (gp : Nat → Nat) (N0 : Nat) (Sh0 : g_Sh) (V0 : g_V) (L : g_L) (V20 : g_V) (r tp ms bg sz td : Nat) (o : c_S ⊕ (Nat × c_S)) (o' : g_V) : Prop := (∃ Sh V n κ u np nh nr l, o = .inl (Sh, V, L, n) ∧ Ps gp N0 Sh V n o' r tp ms bg sz td κ u np nh nr l l ∧ (∀ a, a < N0 → Sh a = Sh0 a ∧ V a = V0 a) ∧ TF V20 o') ∨ FL0 N0 Sh0 V0 L V20 (some o) o'
section TU
variable {Sh Sh0 : g_Sh} {V V0 : g_V} {L : g_L} {n N0 r tp ms bg sz td np nh nr lc lt : Nat} {V2 V20 : g_V} {κ u : Nat → Nat} {gp : Nat → Nat}
theorem fl_of {x : Nat} {Z' : c_S} {Vd : g_V} (h : Ps gp N0 Sh V n V2 r tp ms bg sz td κ u np nh nr lc lt) (hf : ∀ a, a < N0 → Sh a = Sh0 a ∧ V a = V0 a) (tf : TF V20 V2) (F : ∀ (β : Type) (c : Option (β ⊕ (Nat × c_S))), c = some (.inr (x, Z')) → Fl Sh V L n r V2 c Vd) : FL0 N0 Sh0 V0 L V20 (some (.inr (x, Z')) : Option (c_S ⊕ (Nat × c_S))) Vd := by
  obtain ⟨x1, Z1, e, q⟩ := FL0_of (Ps_N h) (Ps_rk h).1 hf tf (F c_S _ rfl) Dd_rf
  exact q _ _ e
theorem FL0_dead {α : Type} {c : Option (α ⊕ (Nat × c_S))} {Vd : g_V} (h : FL0 N0 Sh0 V0 L V20 c Vd) : ¬ Vd 0 13 = 0 := by
  obtain ⟨x, Z', k, f, -, -, -, -, -, -, h1, -, h2, -⟩ := h
  rw [h1]; exact h2
theorem turn_fail {o : c_S ⊕ (Nat × c_S)} {Vd : g_V} (h13 : V2 0 13 = 0) (ht : ¬ V2 0 11 = 0) (hc : ∀ rec, cm_X3_whole_2_F12 gp r td rec (Sh, V, L, n) = some o) (hr : tw_readLine V2 = some Vd) (hF : FL0 N0 Sh0 V0 L V20 (some o) Vd) : ∃ o o', (∀ rec, cm_X3_whole_2_F12 gp r td rec (Sh, V, L, n) = some o) ∧ ((∀ rec, tw_text_F90 rec V2 = some o') ∨ ∃ t', (∀ rec, tw_text_F90 rec V2 = rec t') ∧ ∀ rec, tw_text_F90 rec t' = some o') ∧ EndL gp N0 Sh0 V0 L V20 r tp ms bg sz td o o' := by
  have z1 : ¬ (1 : Int32) = 0 := by decide
  refine ⟨o, Vd, hc, Or.inr ⟨Vd, fun rec => ?_, fun rec => ?_⟩, Or.inr hF⟩
  · unfold tw_text_F90 tw_text_B90 tw_good
    rw [if_pos h13, bnd_S, if_neg z1, if_neg ht, hr, bnd_S]
  · unfold tw_text_F90 tw_text_B90
    rw [d_good (FL0_dead hF), bnd_S, if_pos rfl]
theorem turn {i : Nat} (h : Ps gp N0 Sh V n V2 r tp ms bg sz td κ u np nh nr i i) (hi : i ≤ 40) (hg : gpI gp) (hf : ∀ a, a < N0 → Sh a = Sh0 a ∧ V a = V0 a) (tf : TF V20 V2) : (∃ o o', (∀ rec, cm_X3_whole_2_F12 gp r td rec (Sh, V, L, n) = some o) ∧ ((∀ rec, tw_text_F90 rec V2 = some o') ∨ ∃ t', (∀ rec, tw_text_F90 rec V2 = rec t') ∧ ∀ rec, tw_text_F90 rec t' = some o') ∧ EndL gp N0 Sh0 V0 L V20 r tp ms bg sz td o o') ∨ (i < 40 ∧ ∃ Sh' V' n' V2' κ' u' np' nh' nr', (∀ rec, cm_X3_whole_2_F12 gp r td rec (Sh, V, L, n) = rec (Sh', V', L, n')) ∧ (∀ rec, tw_text_F90 rec V2 = rec V2') ∧ Ps gp N0 Sh' V' n' V2' r tp ms bg sz td κ' u' np' nh' nr' (i + 1) (i + 1) ∧ (∀ a, a < N0 → Sh' a = Sh0 a ∧ V' a = V0 a) ∧ TF V20 V2') := by
  have h1 := h.1
  have hro := h1.1
  have h13 : V2 0 13 = 0 := h1.2.2.2.2.2.1
  have z1 : ¬ (1 : Int32) = 0 := by decide
  have z3 : ¬ (3 : Int32) = 0 := by decide
  have rk := Ps_rk h
  obtain ⟨-, -, t, -, -, k3, -, -, -, -, -, k6, k11, -, -⟩ := h1.2.2.2.2.2.2
  by_cases t0 : t = 0
  · subst t0
    left
    refine ⟨.inl (Sh, V, L, n), V2, fun rec => ?_, Or.inl fun rec => ?_, Or.inl ⟨Sh, V, n, κ, u, np, nh, nr, i, rfl, h, hf, tf⟩⟩
    · unfold cm_X3_whole_2_F12 cm_X3_whole_2_B12
      simp only [zSh_T, zV_T, zL_T, zn_T]
      rw [r_I hro (by omega) (by omega), k6, if_pos nI_0]
    · unfold tw_text_F90 tw_text_B90 tw_good
      rw [if_pos h13, bnd_S, if_neg z1, if_pos (by rw [k11]; exact nI_0)]
  have tn : ¬ nI t = 0 := fun e => t0 ((nI_eq (b := 0) (by omega) (by omega)).mp e)
  have ht : ¬ V2 0 11 = 0 := by rw [k11]; exact tn
  obtain ⟨eb, hb1, hb2⟩ := h.2.2.2.2.2.2.2
  obtain ⟨K, K1, K2, K3, c1⟩ := t_oneOf (L := L) (n := n) (base := 4) h1 hg hb1 (by omega) (by omega) hb2
  have rF : ∀ rec, cm_X3_whole_2_F12 gp r td rec (Sh, V, L, n) = if (if K < 9 then nI K else -1) = -1 then (bnd (cm_X3_fails gp (Sh, V, L, n) r 1) (cs2 (fun Z_62 => cm_X3_whole_2_J38 gp (fun Z => rec Z) r td (if K < 9 then nI K else -1) Z_62) (un2 fun x_63 Z_64 => some (.inr (x_63, Z_64))))) else cm_X3_whole_2_J38 gp (fun Z => rec Z) r td (if K < 9 then nI K else -1) (Sh, V, L, n) := fun rec => by
    unfold cm_X3_whole_2_F12 cm_X3_whole_2_B12
    simp only [zSh_T, zV_T, zL_T, zn_T]
    rw [r_I hro (by omega) (by omega), k6, if_neg tn, r_bg hro, r_K hro, c1, bnd_S, r_K hro]
  by_cases hK : K < 9
  · have hb := K3 hK
    have fr := tw_front h hg hK hb
    have nm : ¬ nI K = -1 := by rw [N_m1 (by omega)]; exact id
    have rF : ∀ rec, cm_X3_whole_2_F12 gp r td rec (Sh, V, L, n) = cm_X3_whole_2_J38 gp (fun Z => rec Z) r td (nI K) (Sh, V, L, n) := fun rec => by rw [rF, if_pos hK, if_neg nm]
    have fu := c_full (L := L) h hK
    cases hF : fullB V2 K i np nh nr with
    | true =>
      left
      rw [hF] at fu fr
      obtain ⟨x, Z', Vd, f1, f2, f3⟩ := t_fail (gp := gp) (L := L) (k := 3) h1 rk.2 z3
      have FF := fl_of h hf tf f3
      refine turn_fail (o := .inr (x, Z')) (Vd := Vd) h13 ht (fun rec => ?_) ?_ FF
      · rw [rF]
        unfold cm_X3_whole_2_J38
        rw [r_K hro, fu, bnd_S, if_neg b2i_T0, r_K hro, f1, bnd_S, cs2_R, un2_S]
      · rw [fr, if_pos rfl, f2, bnd_S, d_J250 (FL0_dead FF)]
    | false =>
      rw [hF] at fu fr
      have ff : ¬ (i = 40 ∨ (K = 3 ∧ ¬ V2 0 18 = 0) ∨ (K = 4 ∧ V2 15 7 = 1) ∨ (K = 5 ∧ np = 12) ∨ (K = 6 ∧ ¬ V2 0 19 = 0) ∨ (K = 7 ∧ nh = 6) ∨ (K = 8 ∧ nr = 4)) := of_decide_eq_false hF
      have hi40 : i < 40 := by omega
      have q5 : np ≤ 12 := h.2.2.1.2.2.2.2.1.1
      have q6 : nh ≤ 6 := h.2.2.1.2.2.2.2.2.1.1
      have q7 : nr ≤ 4 := h.2.2.1.2.2.2.2.2.2.1.1
      have fr : tw_readLine V2 = bnd (tw_step (upd2 V2 15 0 (nI (i + 1)))) (fun W => bnd (lnT K W) (fun W' => tw_readLine_J547 W')) := by
        rw [fr, if_neg (by decide)]
        exact tw_ln h hg hK hb hi
      have P0 := Ps_lt (l := i + 1) h (by omega)
      have tf0 : TF V20 (upd2 V2 15 0 (nI (i + 1))) := TF_tr tf (TF_w (by omega))
      obtain ⟨V1, W1, s1, s2, s3, s4⟩ := t_next (L := L) (n := n) P0.1
      have P1 := Ps_tok P0 s3 s4
      have tf1 := TF_tr tf0 (TF_st s3)
      have hf1 : ∀ a, a < N0 → Sh a = Sh0 a ∧ V1 a = V0 a := fun a ha => ⟨(hf a ha).1, by rw [s3.1 a (by omega)]; exact (hf a ha).2⟩
      rw [s2, bnd_S] at fr
      have rF : ∀ rec, cm_X3_whole_2_F12 gp r td rec (Sh, V, L, n) = bnd (cm_X3_line gp (Sh, V1, L, n) r td (nI K)) (cs2 (fun Z_30 => zK Z_30 r 3 11 <| bnd (cm_X3_isSign Z_30 r 59) (fun x_37 => if x_37 = 0 then (zK Z_30 r 3 11 <| bnd (cm_X3_fails gp Z_30 r 1) (cs2 (fun Z_48 => cm_X3_whole_2_J76 gp (fun Z => rec Z) r td Z_48) (un2 fun x_49 Z_50 => some (.inr (x_49, Z_50))))) else (cm_X3_whole_2_J76 gp (fun Z => rec Z) r td Z_30))) (un2 fun x_31 Z_32 => some (.inr (x_31, Z_32)))) := fun rec => by
        rw [rF]
        unfold cm_X3_whole_2_J38
        rw [r_K hro, fu, bnd_S, if_pos b2i_F0]
        unfold cm_X3_whole_2_J52
        rw [r_K hro, s1, bnd_S, r_K hro]
      rcases OL_tr hf1 tf1 (c_line (L := L) P1 hg hK (fun e => by omega) (fun e => by omega) (fun e => by omega)) with ⟨Sa, Va, na, Wa, κa, ua, pa, ha, ra, a1, a2, a3, a4, a5⟩ | ⟨Wd, a1, a2⟩
      · rw [a2, bnd_S] at fr
        have hra := a3.1.1
        obtain ⟨b, b1, b2, -⟩ := t_sign (L := L) (n := na) (k := 59) a3.1
        have rF : ∀ rec, cm_X3_whole_2_F12 gp r td rec (Sh, V, L, n) = if b2i b = 0 then (bnd (cm_X3_fails gp (Sa, Va, L, na) r 1) (cs2 (fun Z_48 => cm_X3_whole_2_J76 gp (fun Z => rec Z) r td Z_48) (un2 fun x_49 Z_50 => some (.inr (x_49, Z_50))))) else (cm_X3_whole_2_J76 gp (fun Z => rec Z) r td (Sa, Va, L, na)) := fun rec => by
          rw [rF, a1, bnd_S, cs2_L, r_K hra, b1, bnd_S, r_K hra]
        have e547 : tw_readLine_J547 Wa = if b2i b = 0 then (bnd (tw_wrong Wa 1) (fun V_102 => tw_readLine_J561 V_102)) else (tw_readLine_J561 Wa) := by
          unfold tw_readLine_J547
          rw [b2, bnd_S]
        rw [e547] at fr
        cases b with
        | false =>
          left
          obtain ⟨x, Z', Vd, f1, f2, f3⟩ := t_fail (gp := gp) (L := L) (k := 1) a3.1 (Ps_rk a3).2 z1
          have FF := fl_of a3 a4 a5 f3
          refine turn_fail (o := .inr (x, Z')) (Vd := Vd) h13 ht (fun rec => ?_) ?_ FF
          · rw [rF, if_pos b2i_F0, f1, bnd_S, cs2_R, un2_S]
          · rw [fr, if_pos b2i_F0, f2, bnd_S]
            unfold tw_readLine_J561
            rw [d_good (FL0_dead FF), bnd_S, if_pos rfl]
        | true =>
          right
          obtain ⟨Vb, Wb, w1, w2, w3, w4⟩ := t_next (L := L) (n := na) a3.1
          have P2 := Ps_tok a3 w3 w4
          have hub := P2.2.1
          have g1 := P2.2.2.1.1
          have lb : Vb (ua 0) 12 = nI i := P2.2.2.2.2.1.1
          have k0 : κa (ua 0) = 1 := g1.2.1
          have kr : κa r = 8 := P2.2.2.2.2.2.1.1
          have kk := P2.2.2.2.2.2.1.2.2.2.2.2
          have ktp := P2.2.2.2.2.2.1.2.2.2.1
          have u0N := (kk (ua 0) (by omega)).1
          refine ⟨hi40, Sa, upd2 Vb (ua 0) 12 (nI (i + 1)), na, Wb, κa, ua, pa, ha, ra, fun rec => ?_, fun rec => ?_, ?_, fun a haN => ⟨(a4 a haN).1, ?_⟩, TF_tr a5 (TF_st w3)⟩
          · rw [rF, if_neg b2i_T0]
            unfold cm_X3_whole_2_J76
            rw [r_K hra, w1, bnd_S, ← hub]
            simp (disch := omega) only [zSh_T, zV_T, zL_T, zn_T, td_I g1, lb, td_P g1, L_addR]
          · unfold tw_text_F90 tw_text_B90 tw_good
            rw [if_pos h13, bnd_S, if_neg z1, if_neg ht, fr, if_neg b2i_T0]
            unfold tw_readLine_J561 tw_good
            rw [if_pos a3.1.2.2.2.2.2.1, bnd_S, if_neg z1, w2, bnd_S, bnd_S]
          · obtain ⟨p1, pu, p2, p3, ⟨l1, l2, l3, l4⟩, p5, p6⟩ := P2
            have vn : ∀ a, a ≠ ua 0 → upd2 Vb (ua 0) 12 (nI (i + 1)) a = Vb a := fun a hn => upd2_ne _ hn
            have ur : r ≠ ua 0 := fun e => by rw [e] at kr; omega
            have ut : tp ≠ ua 0 := by omega
            obtain ⟨-, n2, n3, n4, n5, n6, n7, n8⟩ := Td_keep (Sh' := Sa) (V' := upd2 Vb (ua 0) 12 (nI (i + 1))) (κ' := κa) (u' := ua) (V2' := Wb) 1 p2 (fun a _ _ aK => ⟨rfl, vn a (fun e => by rw [e] at aK; omega), rfl⟩) (fun _ _ => rfl) (fun j hj => rfl) (fun _ => rfl) (fun _ => rfl)
            refine ⟨RW_s p1 ⟨rfl, rfl⟩ ⟨fun j _ => by rw [vn r ur], vn tp ut⟩, pu, ⟨?_, n2 (by omega), n3 (by omega), n4 (by omega), n5 (by omega), n6 (by omega), n7 (by omega), n8⟩, by rw [vn r ur]; exact p3, ⟨by rw [upd2_eq, upd_eq], l2, by omega, l4⟩, p5, p6⟩
            exact G1_k p2.1 rfl (fun j hj => by rw [upd2_eq, upd_ne (by omega)]) rfl (fun _ _ => rfl) (fun _ _ _ => rfl)
          · rw [upd2_ne _ (by omega), w3.1 a (by have := (Ps_rk a3).1; omega)]; exact (a4 a haN).2
      · left
        obtain ⟨x, Z', k, f, e1, e2⟩ := id a1
        refine turn_fail (o := .inr (x, Z')) (Vd := Wd) h13 ht (fun rec => ?_) ?_ (by rw [← e1]; exact a1)
        · rw [rF, e1, bnd_S, cs2_R, un2_S]
        · rw [fr, a2, bnd_S, d_J547 (FL0_dead a1)]
  · left
    have K9 : K = 9 := by omega
    subst K9
    obtain ⟨x, Z', Vd, f1, f2, f3⟩ := t_fail (gp := gp) (L := L) (k := 1) h1 rk.2 z1
    have FF := fl_of h hf tf f3
    refine turn_fail (o := .inr (x, Z')) (Vd := Vd) h13 ht (fun rec => ?_) ?_ FF
    · rw [rF, if_neg hK, if_pos rfl, f1, bnd_S, cs2_R, un2_S]
    · rw [tw_front0 h hg (fun w w4 w13 => by have := K2 (w - 4) (by omega); rwa [show 4 + (w - 4) = w by omega] at this), f2, bnd_S, d_J250 (FL0_dead FF)]
theorem lines (h : Ps gp N0 Sh V n V2 r tp ms bg sz td κ u np nh nr 0 0) (hg : gpI gp) : ∃ o o', cm_X3_whole_2_L12 gp r td 42 (Sh, V, L, n) = some o ∧ tw_text_L90 1000 V2 = some o' ∧ EndL gp N0 Sh V L V2 r tp ms bg sz td o o' := by
  unfold cm_X3_whole_2_L12 tw_text_L90
  refine lp_sim2 (F := cm_X3_whole_2_F12 gp r td) (F' := tw_text_F90) (N := 40) (P := EndL gp N0 Sh V L V2 r tp ms bg sz td) (fun i s s' => ∃ Sa Va na κa ua pa ha ra, s = (Sa, Va, L, na) ∧ Ps gp N0 Sa Va na s' r tp ms bg sz td κa ua pa ha ra i i ∧ (∀ a, a < N0 → Sa a = Sh a ∧ Va a = V a) ∧ TF V2 s') ?_ 42 1000 0 _ _ (by omega) (by omega) (by omega) ⟨Sh, V, n, κ, u, np, nh, nr, rfl, h, fun _ _ => ⟨rfl, rfl⟩, TF_rf⟩
  intro i s s' hi hs
  obtain ⟨Sa, Va, na, κa, ua, pa, ha, ra, rfl, q1, q2, q3⟩ := hs
  rcases turn (L := L) q1 hi hg q2 q3 with e | ⟨e1, Sb, Vb, nb, Wb, κb, ub, pb, hb, rb, e2, e3, e4, e5, e6⟩
  · exact Or.inl e
  · exact Or.inr ⟨e1, (Sb, Vb, L, nb), Wb, e2, e3, Sb, Vb, nb, κb, ub, pb, hb, rb, rfl, e4, e5, e6⟩
end TU
