/-! PURE: a text is read: one group changed; lines cold, stream -/
set_option maxRecDepth 100000
section TK6
variable {Sh Sh' : g_Sh} {V V' : g_V} {L : g_L} {n n' N0 r tp ms bg sz td np nh nr np' nh' nr' lc lt K : Nat} {V2 V2' : g_V} {κ κ' u u' : Nat → Nat} {gp : Nat → Nat}
/-- all groups but one are kept -/
theorem Td_keep (K : Nat) (h : Td Sh V κ u V2 np nh nr) (hz : ∀ a, 1 ≤ κ a → κ a ≤ 7 → κ a ≠ K → Sh' a = Sh a ∧ V' a = V a ∧ κ' a = κ a) (hu : ∀ j, ¬ ((K = 2 ∧ 4 ≤ j ∧ j < 8) ∨ (K = 5 ∧ (j = 9 ∨ (20 ≤ j ∧ j < 40))) ∨ (K = 6 ∧ (j = 11 ∨ (40 ≤ j ∧ j < 60))) ∨ (K = 7 ∧ (j = 13 ∨ 60 ≤ j))) → u' j = u j) (hw : ∀ j, ¬ (j = 0 ∨ (K = 1 ∧ 5 ≤ j ∧ j < 12) ∨ (K = 2 ∧ 20 ≤ j ∧ j < 36) ∨ (K = 3 ∧ 48 ≤ j ∧ j < 192) ∨ (K = 4 ∧ 36 ≤ j ∧ j < 48) ∨ (K = 5 ∧ (j = 2 ∨ (624 ≤ j ∧ j < 732))) ∨ (K = 6 ∧ (j = 3 ∨ (732 ≤ j ∧ j < 750))) ∨ (K = 7 ∧ (j = 4 ∨ (750 ≤ j ∧ j < 790)))) → V2' 15 j = V2 15 j) (h16 : K ≠ 2 → V2' 16 = V2 16) (h17 : K ≠ 4 → V2' 17 = V2 17) : (K ≠ 1 → G1 Sh' V' κ' u' (V2' 15)) ∧ (K ≠ 2 → G2 Sh' V' κ' u' (V2' 15) (V2' 16)) ∧ (K ≠ 3 → G3 Sh' V' κ' u' (V2' 15)) ∧ (K ≠ 4 → G4 Sh' V' κ' u' (V2' 15) (V2' 17)) ∧ (K ≠ 5 → G5 Sh' V' κ' u' (V2' 15) np) ∧ (K ≠ 6 → G6 Sh' V' κ' u' (V2' 15) nh) ∧ (K ≠ 7 → G7 Sh' V' κ' u' (V2' 15) nr) ∧ G8 (V2' 15) := by
  obtain ⟨g1, g2, g3, g4, g5, g6, g7, g8⟩ := h
  have k0 := g1.2.1
  refine ⟨fun hK => ?_, fun hK => ?_, fun hK => ?_, fun hK => ?_, fun hK => ?_, fun hK => ?_, fun hK => ?_, fun j hj => ?_⟩
  · have z := hz (u 0) (by omega) (by omega) (by omega)
    exact G1_k g1 z.1 (fun i _ => by rw [z.2.1]) z.2.2 (fun j _ => hu j (by omega)) (fun j _ _ => hw j (by omega))
  · exact G2_k g2 (fun a ha => hz a (by omega) (by omega) (by omega)) (fun j _ => hu j (by omega)) (fun j _ _ => hw j (by omega)) (fun g _ => by rw [h16 hK])
  · exact G3_k g3 (fun a ha => hz a (by omega) (by omega) (by omega)) (hu 2 (by omega)) (fun j _ _ => hw j (by omega))
  · exact G4_k g4 (fun a ha => hz a (by omega) (by omega) (by omega)) (hu 3 (by omega)) (fun j _ _ => hw j (by omega)) (fun g _ => by rw [h17 hK])
  · exact G5_k g5 (fun a ha => hz a (by omega) (by omega) (by omega)) (fun j _ => hu j (by omega)) (fun j _ => hw j (by omega))
  · exact G6_k g6 (fun a ha => hz a (by omega) (by omega) (by omega)) (fun j _ => hu j (by omega)) (fun j _ => hw j (by omega))
  · exact G7_k g7 (fun a ha => hz a (by omega) (by omega) (by omega)) (fun j _ => hu j (by omega)) (fun j _ => hw j (by omega))
  · rw [hw j (by omega)]; exact g8 j hj
theorem Ps_set (h : Ps gp N0 Sh V n V2 r tp ms bg sz td κ u np nh nr lc lt) (hT : Td Sh' V' κ' u' V2' np' nh' nr') (h8 : ∀ a, κ a = 8 → Sh' a = Sh a ∧ V' a = V a ∧ κ' a = κ a) (hN : ∀ a, a < N0 → Sh' a = Sh a ∧ V' a = V a) (h5 : V2' 5 = V2 5) (h0 : ∀ j, j < 20 → V2' 0 j = V2 0 j) (hl : V' (u 0) 12 = V (u 0) 12) (hu : u' 0 = u 0) (hl2 : V2' 15 0 = V2 15 0) (hn : n ≤ n') (hk : ∀ a, κ' a ≠ 0 → κ a ≠ 0 ∨ (n ≤ a ∧ a < n')) : Ps gp N0 Sh' V' n' V2' r tp ms bg sz td κ' u' np' nh' nr' lc lt := by
  obtain ⟨h1, hu0, h2, ⟨f1, f2⟩, ⟨l1, l2, l3, l4⟩, ⟨kr, kms, kbg, ktp, kN, kk⟩, hm⟩ := h
  have zr := h8 r kr
  have zm := h8 ms kms
  have zb := h8 bg kbg
  have zt := hN tp ktp
  refine ⟨RW_w (RW_s h1 ⟨zr.1, zt.1⟩ ⟨fun j _ => by rw [zr.2.1], zt.2⟩) h5 (fun j hj => h0 j (by omega)), by rw [hu]; exact hu0, hT, ⟨by rw [zr.2.1, h0 18 (by omega)]; exact f1, by rw [zr.2.1, h0 19 (by omega)]; exact f2⟩, ⟨by rw [hu, hl]; exact l1, by rw [hl2]; exact l2, l3, l4⟩, ⟨by rw [zr.2.2]; exact kr, by rw [zm.2.2]; exact kms, by rw [zb.2.2]; exact kbg, ktp, by omega, fun a ha => ?_⟩, by rw [zm.1, zb.1]; exact hm⟩
  rcases hk a ha with q | q
  · have := kk a q
    omega
  · omega
theorem l_cold (h : Ps gp N0 Sh V n V2 r tp ms bg sz td κ u np nh nr lc lt) : OL gp N0 Sh V L V2 r tp ms bg sz td lc lt (bnd (cm_X3_number gp (Sh, V, L, n) r 0 99999) (cs2 (un2 fun x_29 Z_30 => zPI Z_30 td 2 13 11 x_29 fun Z_34 => zPI Z_34 r 3 11 10 1 fun Z_35 => some (.inl Z_35)) (un2 fun x_31 Z_32 => some (.inr (x_31, Z_32))))) (bnd (tw_number (upd2 V2 0 19 1) 0 99999) (un2 fun x V => wrI V 15 810 6 x fun V' => some V')) := by
  obtain ⟨h1, rfl, h2, ⟨f1, f2⟩, ⟨l1, l2, l3, l4⟩, ⟨kr, kms, kbg, ktp, kN, kk⟩, hm⟩ := h
  have rk := kk r (by omega)
  have hR : RW Sh V r tp ms bg (upd2 V2 0 19 1) sz := RW_w h1 (upd2_ne _ (by omega)) (fun j hj => by rw [upd2_eq, upd_ne (by omega)])
  have tfa : TF V2 (upd2 V2 0 19 1) := ⟨fun a a0 _ _ _ => upd2_ne _ a0, fun j hj => by rw [upd2_eq, upd_ne (by omega)]⟩
  have hro := h1.1
  rcases t_number (gp := gp) (L := L) (lo := 0) (hi := 99999) hR rk.2 (by decide) (by decide) with ⟨v, V', V2', c1, c2, ⟨y, c3, c6, c7⟩, c4, c5⟩ | ⟨Vb, c1, c2⟩
  · have k0 : κ (u 0) = 1 := h2.1.2.1
    have u0r : u 0 ≠ r := fun e => by rw [e, kr] at k0; omega
    have rt : tp ≠ r := h1.2.1.2.2.1
    have u0t : tp ≠ u 0 := by have := (kk (u 0) (by omega)).1; omega
    have T1 : Td Sh V' κ u V2' np nh nr := Td_tok h2 kr c4.1 (by rw [c4.2.2.1 15 (by omega), upd2_ne _ (by omega)]) (by rw [c4.2.2.1 16 (by omega), upd2_ne _ (by omega)]) (by rw [c4.2.2.1 17 (by omega), upd2_ne _ (by omega)])
    have g1 := T1.1
    have hw : ∀ j, j ≠ 6 → upd2 V2' 15 6 v 15 j = V2' 15 j := fun j hj => by rw [upd2_eq, upd_ne hj]
    obtain ⟨-, n2, n3, n4, n5, n6, n7, n8⟩ := Td_keep (Sh' := Sh) (V' := upd2 (upd2 V' (u 0) 11 v) r 10 1) (κ' := κ) (u' := u) (V2' := upd2 V2' 15 6 v) 1 T1 (fun a a1 a7 aK => ⟨rfl, by rw [upd2_ne _ (fun e => by rw [e] at a7; omega), upd2_ne _ (fun e => by rw [e] at aK; omega)], rfl⟩) (fun _ _ => rfl) (fun j hj => hw j (by omega)) (fun _ => upd2_ne _ (by omega)) (fun _ => upd2_ne _ (by omega))
    have e300 : (99999 : Int32).toInt = 99999 := rfl
    left
    refine ⟨Sh, upd2 (upd2 V' (u 0) 11 v) r 10 1, n, upd2 V2' 15 6 v, κ, u, np, nh, nr, ?_, ?_, ⟨RW_w (V2 := V2') (RW_s c5 ⟨rfl, rfl⟩ ⟨fun j hj => ?_, ?_⟩) (upd2_ne _ (by omega)) (fun j hj => by rw [upd2_ne _ (by omega)]), rfl, ⟨?_, n2 (by omega), n3 (by omega), n4 (by omega), n5 (by omega), n6 (by omega), n7 (by omega), n8⟩, ⟨?_, ?_⟩, ⟨?_, ?_, l3, l4⟩, ⟨kr, kms, kbg, ktp, kN, kk⟩, hm⟩, fun a ha => ⟨rfl, ?_⟩, TF_tr tfa (TF_tr (TF_st c4) (TF_r (by omega)))⟩
    · simp (disch := omega) only [c1, bnd_S, cs2_L, un2_S, td_P g1, r_P hro]
    · simp (disch := omega) only [c2, bnd_S, un2_S, wrI_L, wrI_in]
    · rw [upd2_eq, upd_ne (by omega), upd2_ne _ (Ne.symm u0r)]
    · rw [upd2_ne _ rt, upd2_ne _ u0t]
    · have vv : upd2 (upd2 V' (u 0) 11 v) r 10 1 (u 0) = upd (V' (u 0)) 11 v := by rw [upd2_ne _ u0r, upd2_eq]
      obtain ⟨a1, a2, a3, a4, a5, a6, a7⟩ := g1
      refine ⟨a1, a2, ?_, ?_, ?_, ?_, ⟨y, ?_, by omega⟩⟩
      · rw [vv, upd_ne (by omega), hw 5 (by omega)]; exact a3
      · rw [vv, upd_eq, upd2_eq, upd_eq]
      · rw [vv, upd_ne (by omega), upd_ne (by omega), upd_ne (by omega), upd_ne (by omega), hw 7 (by omega), hw 8 (by omega), hw 9 (by omega), hw 10 (by omega), hw 11 (by omega)]; exact a5
      · rw [hw 5 (by omega)]; exact a6
      · rw [upd2_eq, upd_eq]; exact c3
    · rw [upd2_eq, upd_ne (by omega), upd2_ne _ (Ne.symm u0r), upd2_ne _ (by omega), c4.2.1 9 (by omega), c4.2.2.2 18 (by omega), upd2_eq, upd_ne (by omega)]; exact f1
    · rw [upd2_eq, upd_eq, upd2_ne _ (by omega), c4.2.2.2 19 (by omega), upd2_eq, upd_eq]
    · rw [upd2_ne _ u0r, upd2_eq, upd_ne (by omega), c4.1 _ u0r]; exact l1
    · rw [hw 0 (by omega), c4.2.2.1 15 (by omega), upd2_ne _ (by omega)]; exact l2
    · rw [upd2_ne _ (by omega), upd2_ne _ (by have := (kk (u 0) (by omega)).1; omega), c4.1 a (by omega)]
  · right
    obtain ⟨x, Z', q1, q2⟩ := FL0_of kN rk.1 (fun a _ => ⟨rfl, rfl⟩) tfa c1 (Dd_r (V2 := Vb) (g := upd (Vb 15) 6 0) (a := 15) (by omega))
    refine ⟨_, q2 _ _ ?_, ?_⟩
    · simp only [q1, bnd_S, cs2_R, un2_S]
    · simp (disch := omega) only [c2, bnd_S, un2_S, wrI_L, wrI_in]
      rfl
end TK6
