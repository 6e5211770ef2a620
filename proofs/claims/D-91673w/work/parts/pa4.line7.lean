/-! PURE: a text is read: line lay, house -/
set_option maxRecDepth 100000
section L7
variable {Sh : g_Sh} {V V' : g_V} {L : g_L} {n N0 r tp ms bg sz td np nh nr lc lt : Nat} {V2 V2' : g_V} {κ u : Nat → Nat} {gp : Nat → Nat}
theorem l_lay (h : Ps gp N0 Sh V n V2 r tp ms bg sz td κ u np nh nr lc lt) (hg : gpI gp) : OL gp N0 Sh V L V2 r tp ms bg sz td lc lt (cm_X3_lay gp (Sh, V, L, n) r td) (tw_readLay V2) := by
  have hu := h.2.1
  subst hu
  have rk := Ps_rk h
  have kN := Ps_N h
  have h1 := h.1
  have hro := h1.1
  have g1 := h.2.2.1.1
  have e11 : (11 : Int32).toInt = 11 := rfl
  have e3 : (3 : Int32).toInt = 3 := rfl
  unfold tw_readLay
  rw [tw_box]
  unfold cm_X3_lay
  rw [r_K hro]
  -- what the reference does once it failed
  have fin : ∀ W : g_V, ¬ W 0 13 = 0 → (bnd (tw_told 4 W 0 3) (un2 fun x_6 V_7 => bnd (tw_good V_7) (fun x_10 => if x_10 = 0 then (some V_7) else (nmI (V_7 0 21) fun x_12 => bnd (tw_readLay_L29 x_6 1000 x_12 V_7) (fun V_30 => some V_30))))) = some W := fun W hd => by
    simp only [d_told hd, bnd_S, un2_S, d_good hd, if_true]
  rcases t_number (gp := gp) (L := L) (lo := 0) (hi := 11) h1 rk.2 (by decide) (by decide) with ⟨v, V1, W1, c1, c2, ⟨a, rfl, a1, a2⟩, c4, c5⟩ | ⟨W1, c1, c2⟩
  · rw [c1, c2, bnd_S, bnd_S, cs2_L, un2_S, un2_S, r_K hro]
    unfold bx0
    rw [ptI_S]
    have R1 := RW_p (i := 20) (x := nI a) c5 (by omega)
    rcases t_number (gp := gp) (L := L) (lo := 0) (hi := 11) R1 rk.2 (by decide) (by decide) with ⟨v, V3, W3, d1, d2, ⟨b, rfl, b1, b2⟩, d4, d5⟩ | ⟨W3, d1, d2⟩
    · rw [d1, d2, bnd_S, bnd_S, cs2_L, un2_S, un2_S, r_K hro]
      unfold bx1
      rw [ptI_S]
      have R3 := RW_p (i := 21) (x := nI b) d5 (by omega)
      unfold cm_X3_number_2
      simp only [r_K hro]
      rcases t_word (gp := gp) (L := L) (w := 17) R3 rk.2 hg (by omega) with ⟨V4, W4, p1, p2, p4, p5⟩ | ⟨W4, p1, p2⟩
      · rw [p1, p2, bnd_S, bnd_S, cs2_L, r_K hro]
        unfold bx2
        have w20 : W4 0 20 = nI a := by rw [p4.2.2.2 20 (by omega), upd2_eq, upd_ne (by omega), d4.2.2.2 20 (by omega), upd2_eq, upd_eq]
        rw [w20]
        rcases t_number (gp := gp) (L := L) (lo := nI a) (hi := 11) p5 rk.2 (by rw [nI_toInt (by omega)]; omega) (by decide) with ⟨v, V5, W5, q1, q2, ⟨c, rfl, c6, c7⟩, q4, q5⟩ | ⟨W5, q1, q2⟩
        · rw [nI_toInt (by omega)] at c6
          simp only [q1, q2, bnd_S, cs2_L, un2_S, r_K hro]
          unfold bx3
          rw [ptI_S]
          have R5 := RW_p (i := 22) (x := nI c) q5 (by omega)
          have w21 : upd2 W5 0 22 (nI c) 0 21 = nI b := by rw [upd2_eq, upd_ne (by omega), q4.2.2.2 21 (by omega), p4.2.2.2 21 (by omega), upd2_eq, upd_eq]
          rw [w21]
          rcases t_number (gp := gp) (L := L) (lo := nI b) (hi := 11) R5 rk.2 (by rw [nI_toInt (by omega)]; omega) (by decide) with ⟨v, V7, W7, s1, s2, ⟨d, rfl, d6, d7⟩, s4, s5⟩ | ⟨W7, s1, s2⟩
          · rw [nI_toInt (by omega)] at d6
            simp only [s1, s2, bnd_S, cs2_L, un2_S, ptI_S, r_K hro]
            have R7 := RW_p (i := 23) (x := nI d) s5 (by omega)
            have tl := t_told (gp := gp) (L := L) (w := 4) (lo := 0) (hi := 3) R7 rk.2 hg (by omega) (by decide) (by decide)
            unfold cm_X3_number_2 at tl
            simp only [r_K hro] at tl
            rcases tl with ⟨v, V9, W9, t1, t2, ⟨g, rfl, -, g7⟩, t4, t5⟩ | ⟨W9, t1, t2⟩
            · have gd : tw_good W9 = some 1 := if_pos t5.2.2.2.2.2.1
              have z1 : ¬ (1 : Int32) = 0 := by decide
              have x20 : W9 0 20 = nI a := by rw [t4.2.2.2 20 (by omega), upd2_eq, upd_ne (by omega), s4.2.2.2 20 (by omega), upd2_eq, upd_ne (by omega), q4.2.2.2 20 (by omega)]; exact w20
              have x21 : W9 0 21 = nI b := by rw [t4.2.2.2 21 (by omega), upd2_eq, upd_ne (by omega), s4.2.2.2 21 (by omega)]; exact w21
              have x22 : W9 0 22 = nI c := by rw [t4.2.2.2 22 (by omega), upd2_eq, upd_ne (by omega), s4.2.2.2 22 (by omega), upd2_eq, upd_eq]
              have x23 : W9 0 23 = nI d := by rw [t4.2.2.2 23 (by omega), upd2_eq, upd_eq]
              have wr : ∀ x, x ≠ 0 → W9 x = V2 x := fun x x0 => by
                rw [t4.2.2.1 x x0, upd2_ne _ x0, s4.2.2.1 x x0, upd2_ne _ x0, q4.2.2.1 x x0, p4.2.2.1 x x0, upd2_ne _ x0, d4.2.2.1 x x0, upd2_ne _ x0, c4.2.2.1 x x0]
              have w0 : ∀ j, (j < 9 ∨ (12 < j ∧ j < 20) ∨ 24 ≤ j) → W9 0 j = V2 0 j := fun j hj => by
                rw [t4.2.2.2 j (by omega), upd2_eq, upd_ne (by omega), s4.2.2.2 j (by omega), upd2_eq, upd_ne (by omega), q4.2.2.2 j (by omega), p4.2.2.2 j (by omega), upd2_eq, upd_ne (by omega), d4.2.2.2 j (by omega), upd2_eq, upd_ne (by omega), c4.2.2.2 j (by omega)]
              have F : ∀ x, x ≠ r → V9 x = V x := fun x xr => by rw [t4.1 _ xr, s4.1 _ xr, q4.1 _ xr, p4.1 _ xr, d4.1 _ xr, c4.1 _ xr]
              have Fr : ∀ j, 8 < j → V9 r j = V r j := fun j hj => by rw [t4.2.1 j (by omega), s4.2.1 j (by omega), q4.2.1 j (by omega), p4.2.1 j (by omega), d4.2.1 j (by omega), c4.2.1 j (by omega)]
              obtain ⟨-, -, h2, ⟨f1, f2⟩, ⟨l1, l2, l3, l4⟩, ⟨kr, kms, kbg, ktp, -, kk⟩, hm⟩ := h
              have k0 : κ (u 0) = 1 := g1.2.1
              have u0r : u 0 ≠ r := fun e => by rw [e, kr] at k0; omega
              have P9 : Ps gp N0 Sh V9 n W9 r tp ms bg sz (u 0) κ u np nh nr lc lt := ⟨t5, rfl, Td_tok h2 kr F (wr 15 (by omega)) (wr 16 (by omega)) (wr 17 (by omega)), ⟨by rw [Fr 9 (by omega), w0 18 (by omega)]; exact f1, by rw [Fr 10 (by omega), w0 19 (by omega)]; exact f2⟩, ⟨by rw [F _ u0r]; exact l1, by rw [wr 15 (by omega)]; exact l2, l3, l4⟩, ⟨kr, kms, kbg, ktp, kN, kk⟩, hm⟩
              have hT := P9.2.2.1
              have g3 := hT.2.2.1
              have k2 := g3.1
              have un2' := kk (u 2) (by omega)
              rw [t1, t2, bnd_S, bnd_S, cs2_L, un2_S, un2_S, gd, bnd_S, if_neg z1, nmI_S, x21, cm_lay_out g1 g3.2.1 (by omega) (by omega) (by omega) (by omega), tw_lay_out x20 x22 x23 (by omega) (by omega) (by omega) (by omega), bnd_S, bnd_S]
              obtain ⟨n1, n2, -, n4, n5, n6, n7, n8⟩ := Td_keep (Sh' := Sh) (V' := rowV V9 (u 2) (layO 0 (V9 (u 2)) a c b (nI g) (d + 1 - b))) (κ' := κ) (u' := u) (V2' := rowV W9 15 (layO 48 (W9 15) a c b (nI g) (d + 1 - b))) 3 hT (fun x x1 x7 xK => ⟨rfl, rowV_ne (fun e => xK (by rw [e]; exact k2)), rfl⟩) (fun _ _ => rfl) (fun j hj => by rw [rowV_eq]; exact layO_out (by omega) (show c ≤ 11 by omega) (show d ≤ 11 by omega) _ (by omega)) (fun _ => rowV_ne (by omega)) (fun _ => rowV_ne (by omega))
              left
              refine ⟨Sh, _, n, _, κ, u, np, nh, nr, rfl, rfl, Ps_set P9 ⟨n1 (by omega), n2 (by omega), ⟨k2, g3.2.1, fun x hx => ?_⟩, n4 (by omega), n5 (by omega), n6 (by omega), n7 (by omega), n8⟩ (fun x hx => ⟨rfl, rowV_ne (fun e => by rw [e] at hx; omega), rfl⟩) (fun x hx => ⟨rfl, rowV_ne (by omega)⟩) (rowV_ne (by omega)) (fun j _ => by rw [rowV_ne (by omega)]) (by rw [rowV_ne (fun e => by rw [e] at k0; omega)]) rfl (by rw [rowV_eq]; exact layO_out (by omega) (show c ≤ 11 by omega) (show d ≤ 11 by omega) _ (by omega)) (Nat.le_refl n) (fun _ hx => Or.inl hx), fun x hx => ⟨rfl, by rw [rowV_ne (by omega)]; exact F x (by omega)⟩, ⟨fun x x0 x15 _ _ => by rw [rowV_ne x15]; exact wr x x0, fun j hj => by rw [rowV_ne (by omega)]; exact w0 j (by omega)⟩⟩
              obtain ⟨q1', q2', q3', q4'⟩ := g3.2.2 x hx
              have lt := layO_two (a := a) (c := c) (b := b) (g := nI g) q1' (d + 1 - b)
              rw [rowV_eq, rowV_eq, ← lt.1]
              refine ⟨rfl, ?_⟩
              rcases lt.2 with e | e
              · exact ⟨g, by omega, e⟩
              · exact ⟨q2', q3', by rw [e, q1']; exact q4'⟩
            · right
              have dd := Fl_dead t1
              obtain ⟨x, Z', z1, z2⟩ := FL0_of (V20 := V2) (Sh0 := Sh) (V0 := V) kN rk.1 (fun x hx => ⟨rfl, by rw [s4.1 _ (by omega), q4.1 _ (by omega), p4.1 _ (by omega), d4.1 _ (by omega), c4.1 _ (by omega)]⟩) (TF_tr (TF_st c4) (TF_tr (TF_p (by omega) (by omega)) (TF_tr (TF_st d4) (TF_tr (TF_p (by omega) (by omega)) (TF_tr (TF_st p4) (TF_tr (TF_st q4) (TF_tr (TF_p (by omega) (by omega)) (TF_tr (TF_st s4) (TF_p (by omega) (by omega)))))))))) t1 Dd_rf
              refine ⟨W9, z2 _ _ ?_, ?_⟩
              · rw [z1]; rfl
              · simp only [t2, bnd_S, un2_S, d_good dd, if_true]
          · right
            have dd := Fl_dead s1
            obtain ⟨x, Z', z1, z2⟩ := FL0_of (V20 := V2) (Sh0 := Sh) (V0 := V) kN rk.1 (fun x hx => ⟨rfl, by rw [q4.1 _ (by omega), p4.1 _ (by omega), d4.1 _ (by omega), c4.1 _ (by omega)]⟩) (TF_tr (TF_st c4) (TF_tr (TF_p (by omega) (by omega)) (TF_tr (TF_st d4) (TF_tr (TF_p (by omega) (by omega)) (TF_tr (TF_st p4) (TF_tr (TF_st q4) (TF_p (by omega) (by omega)))))))) s1 (Dd_p (x := 0) (i := 23) (by omega) (by omega))
            refine ⟨_, z2 _ _ ?_, ?_⟩
            · rw [z1]; rfl
            · simp only [s2, bnd_S, un2_S, ptI_S]
              exact fin _ (Dd_d (Dd_p (by omega) (by omega)) dd)
        · right
          have dd := Fl_dead q1
          obtain ⟨Wd, w1, w2⟩ := bx3_d (x := 0) (hi := 11) dd
          obtain ⟨x, Z', z1, z2⟩ := FL0_of (V20 := V2) (Sh0 := Sh) (V0 := V) kN rk.1 (fun x hx => ⟨rfl, by rw [p4.1 _ (by omega), d4.1 _ (by omega), c4.1 _ (by omega)]⟩) (TF_tr (TF_st c4) (TF_tr (TF_p (by omega) (by omega)) (TF_tr (TF_st d4) (TF_tr (TF_p (by omega) (by omega)) (TF_st p4))))) q1 w2
          refine ⟨_, z2 _ _ ?_, ?_⟩
          · rw [z1]; rfl
          · simp only [q2, bnd_S, un2_S, w1]
            exact fin _ (Dd_d w2 dd)
      · right
        have dd := Fl_dead p1
        obtain ⟨Wd, w1, w2⟩ := bx2_d (hi := 11) dd
        obtain ⟨x, Z', z1, z2⟩ := FL0_of (V20 := V2) (Sh0 := Sh) (V0 := V) kN rk.1 (fun x hx => ⟨rfl, by rw [d4.1 _ (by omega), c4.1 _ (by omega)]⟩) (TF_tr (TF_st c4) (TF_tr (TF_p (by omega) (by omega)) (TF_tr (TF_st d4) (TF_p (by omega) (by omega))))) p1 w2
        refine ⟨_, z2 _ _ ?_, ?_⟩
        · rw [z1]; rfl
        · simp only [p2, bnd_S, w1]
          exact fin _ (Dd_d w2 dd)
    · right
      have dd := Fl_dead d1
      obtain ⟨Wd, w1, w2⟩ := bx1_d (x := 0) (hi := 11) dd
      obtain ⟨x, Z', z1, z2⟩ := FL0_of (V20 := V2) (Sh0 := Sh) (V0 := V) kN rk.1 (fun x hx => ⟨rfl, c4.1 _ (by omega)⟩) (TF_tr (TF_st c4) (TF_p (by omega) (by omega))) d1 w2
      refine ⟨_, z2 _ _ ?_, ?_⟩
      · rw [z1]; rfl
      · simp only [d2, bnd_S, un2_S, w1]
        exact fin _ (Dd_d w2 dd)
  · right
    have dd := Fl_dead c1
    obtain ⟨Wd, w1, w2⟩ := bx0_d (x := 0) (lo := 0) (hi := 11) dd
    obtain ⟨x, Z', z1, z2⟩ := FL0_of kN rk.1 (fun a _ => ⟨rfl, rfl⟩) TF_rf c1 w2
    refine ⟨_, z2 _ _ ?_, ?_⟩
    · rw [z1]; rfl
    · simp only [c2, bnd_S, un2_S, w1]
      exact fin _ (Dd_d w2 dd)
end L7
