/-! PURE: a text is read: a box; line shaft -/
set_option maxRecDepth 100000
def bx3 (V : g_V) (x hi : Int32) : Option g_V := ptI V 0 22 x fun V_20 => bnd (tw_number V_20 (V_20 0 21) hi) (un2 fun x_24 V_25 => ptI V_25 0 23 x_24 fun V_26 => some V_26)
def bx2 (V : g_V) (hi : Int32) : Option g_V := bnd (tw_number V (V 0 20) hi) (un2 fun x V => bx3 V x hi)
def bx1 (V : g_V) (x hi : Int32) : Option g_V := ptI V 0 21 x fun V_11 => bnd (tw_needs 17 V_11) (fun V => bx2 V hi)
def bx0 (V : g_V) (x lo hi : Int32) : Option g_V := ptI V 0 20 x fun V_5 => bnd (tw_number V_5 lo hi) (un2 fun x V => bx1 V x hi)
theorem tw_box (V : g_V) (lo hi : Int32) : tw_readBox V lo hi = bnd (tw_number V lo hi) (un2 fun x V => bx0 V x lo hi) := rfl
section BX
variable {V2 V2' V2'' : g_V} {x lo hi : Int32}
theorem Dd_tr (h : Dd V2 V2') (h' : Dd V2' V2'') : Dd V2 V2'' := ⟨fun a a0 a1 a2 a3 => (h'.1 a a0 a1 a2 a3).trans (h.1 a a0 a1 a2 a3), fun j hj => (h'.2 j hj).trans (h.2 j hj)⟩
theorem Dd_p {i : Nat} (h : 18 ≤ i) (h' : i < 24) : Dd V2 (upd2 V2 0 i x) := ⟨fun a a0 _ _ _ => upd2_ne _ a0, fun j hj => by rw [upd2_eq, upd_ne (by omega)]⟩
theorem Dd_d (h : Dd V2 V2') (hd : ¬ V2 0 13 = 0) : ¬ V2' 0 13 = 0 := by rw [h.2 13 (by omega)]; exact hd
theorem bx3_d (hd : ¬ V2 0 13 = 0) : ∃ V2', bx3 V2 x hi = some V2' ∧ Dd V2 V2' := by
  have d1 : Dd V2 (upd2 V2 0 22 x) := Dd_p (by omega) (by omega)
  unfold bx3
  simp only [ptI_S, d_number (Dd_d d1 hd), bnd_S, un2_S]
  exact ⟨_, rfl, Dd_tr d1 (Dd_p (by omega) (by omega))⟩
theorem bx2_d (hd : ¬ V2 0 13 = 0) : ∃ V2', bx2 V2 hi = some V2' ∧ Dd V2 V2' := by
  unfold bx2
  simp only [d_number hd, bnd_S, un2_S]
  exact bx3_d hd
theorem bx1_d (hd : ¬ V2 0 13 = 0) : ∃ V2', bx1 V2 x hi = some V2' ∧ Dd V2 V2' := by
  have d1 : Dd V2 (upd2 V2 0 21 x) := Dd_p (by omega) (by omega)
  unfold bx1
  simp only [ptI_S, d_needs (Dd_d d1 hd), bnd_S]
  obtain ⟨W, e1, e2⟩ := bx2_d (hi := hi) (Dd_d d1 hd)
  exact ⟨W, e1, Dd_tr d1 e2⟩
theorem bx0_d (hd : ¬ V2 0 13 = 0) : ∃ V2', bx0 V2 x lo hi = some V2' ∧ Dd V2 V2' := by
  have d1 : Dd V2 (upd2 V2 0 20 x) := Dd_p (by omega) (by omega)
  unfold bx0
  simp only [ptI_S, d_number (Dd_d d1 hd), bnd_S, un2_S]
  obtain ⟨W, e1, e2⟩ := bx1_d (x := 0) (hi := hi) (Dd_d d1 hd)
  exact ⟨W, e1, Dd_tr d1 e2⟩
/-- the shaft's cells of the row -/
def shW (V_105 : g_V) : Option g_V := wrI V_105 15 810 7 1 fun V_108 => wrI V_108 15 810 8 (V_108 0 20) fun V_111 => wrI V_111 15 810 9 (V_111 0 21) fun V_114 => wrI V_114 15 810 10 (V_114 0 22) fun V_117 => wrI V_117 15 810 11 (V_117 0 23) fun V_120 => some V_120
theorem shW_eq (V : g_V) : shW V = some (rowV V 15 (upd (upd (upd (upd (upd (V 15) 7 1) 8 (V 0 20)) 9 (V 0 21)) 10 (V 0 22)) 11 (V 0 23))) := by
  unfold shW
  simp (disch := omega) only [wrI_L, wrI_in, upd2_row, rowV_eq, rowV_ne, rowV_over]
end BX
section L5
variable {Sh : g_Sh} {V V' : g_V} {L : g_L} {n N0 r tp ms bg sz td np nh nr lc lt : Nat} {V2 V2' : g_V} {κ u : Nat → Nat} {gp : Nat → Nat}
theorem RW_p {i : Nat} {x : Int32} (h : RW Sh V r tp ms bg V2 sz) (hi : 18 ≤ i) : RW Sh V r tp ms bg (upd2 V2 0 i x) sz := RW_w h (upd2_ne _ (by omega)) (fun j hj => by rw [upd2_eq, upd_ne (by omega)])
theorem TF_p {i : Nat} {x : Int32} (h : 18 ≤ i) (h' : i < 24) : TF V2 (upd2 V2 0 i x) := ⟨fun a a0 _ _ _ => upd2_ne _ a0, fun j hj => by rw [upd2_eq, upd_ne (by omega)]⟩
theorem l_shaft (h : Ps gp N0 Sh V n V2 r tp ms bg sz td κ u np nh nr lc lt) (hg : gpI gp) : OL gp N0 Sh V L V2 r tp ms bg sz td lc lt (cm_X3_shaft gp (Sh, V, L, n) r td) (bnd (tw_readBox V2 1 10) shW) := by
  have hu := h.2.1
  subst hu
  have rk := Ps_rk h
  obtain ⟨h1, -, h2, ⟨f1, f2⟩, ⟨l1, l2, l3, l4⟩, ⟨kr, kms, kbg, ktp, kN, kk⟩, hm⟩ := h
  have hro := h1.1
  have g1 := h2.1
  have k0 : κ (u 0) = 1 := g1.2.1
  have u0r : u 0 ≠ r := fun e => by rw [e, kr] at k0; omega
  have rt : tp ≠ r := h1.2.1.2.2.1
  have u0n := (kk (u 0) (by omega)).1
  have u0t : tp ≠ u 0 := by omega
  have e1 : (1 : Int32).toInt = 1 := rfl
  have e10 : (10 : Int32).toInt = 10 := rfl
  have RWs : ∀ {V' : g_V} {W : g_V} {i : Nat} {v : Int32}, RW Sh V' r tp ms bg W sz → RW Sh (upd2 V' (u 0) i v) r tp ms bg W sz := fun hR => RW_s hR ⟨rfl, rfl⟩ ⟨fun j _ => by rw [upd2_ne _ (Ne.symm u0r)], upd2_ne _ u0t⟩
  rw [tw_box]
  unfold cm_X3_shaft
  rw [r_K hro]
  rcases t_number (gp := gp) (L := L) (lo := 1) (hi := 10) h1 rk.2 (by decide) (by decide) with ⟨v, V1, W1, c1, c2, ⟨a, rfl, a1, a2⟩, c4, c5⟩ | ⟨W1, c1, c2⟩
  · rw [c1, c2, bnd_S, bnd_S, cs2_L, un2_S, un2_S, r_K hro]
    unfold bx0
    rw [ptI_S]
    have R1 := RW_p (i := 20) (x := nI a) c5 (by omega)
    rcases t_number (gp := gp) (L := L) (lo := 1) (hi := 10) R1 rk.2 (by decide) (by decide) with ⟨v, V3, W3, d1, d2, ⟨b, rfl, b1, b2⟩, d4, d5⟩ | ⟨W3, d1, d2⟩
    · rw [d1, d2, bnd_S, bnd_S, cs2_L, un2_S, un2_S, td_P g1 (by omega) (by omega), r_K hro]
      unfold bx1
      rw [ptI_S]
      have R3 := RWs (i := 8) (v := nI b) (RW_p (i := 21) (x := nI b) d5 (by omega))
      unfold cm_X3_number_2
      rw [r_K hro]
      rcases t_word (gp := gp) (L := L) (w := 17) R3 rk.2 hg (by omega) with ⟨V4, W4, p1, p2, p4, p5⟩ | ⟨W4, p1, p2⟩
      · rw [p1, p2, bnd_S, bnd_S, cs2_L, r_K hro]
        unfold bx2
        have w20 : W4 0 20 = nI a := by rw [p4.2.2.2 20 (by omega), upd2_eq, upd_ne (by omega), d4.2.2.2 20 (by omega), upd2_eq, upd_eq]
        rw [w20]
        rcases t_number (gp := gp) (L := L) (lo := nI a) (hi := 10) p5 rk.2 (by rw [nI_toInt (by omega)]; omega) (by decide) with ⟨v, V5, W5, q1, q2, ⟨c, rfl, c6, c7⟩, q4, q5⟩ | ⟨W5, q1, q2⟩
        · rw [nI_toInt (by omega)] at c6
          simp only [q1, q2, bnd_S, cs2_L, un2_S, td_P g1 (i := 9) (by omega) (by omega), zSh_T, zV_T, zL_T, zn_T, td_I g1 (i := 8) (by omega) (by omega), r_K hro]
          unfold bx3
          rw [ptI_S]
          have R5 := RWs (i := 9) (v := nI c) (RW_p (i := 22) (x := nI c) q5 (by omega))
          have v8 : upd2 V5 (u 0) 9 (nI c) (u 0) 8 = nI b := by rw [upd2_eq, upd_ne (by omega), q4.1 _ u0r, p4.1 _ u0r, upd2_eq, upd_eq]
          have w21 : upd2 W5 0 22 (nI c) 0 21 = nI b := by rw [upd2_eq, upd_ne (by omega), q4.2.2.2 21 (by omega), p4.2.2.2 21 (by omega), upd2_eq, upd_eq]
          rw [v8, w21]
          rcases t_number (gp := gp) (L := L) (lo := nI b) (hi := 10) R5 rk.2 (by rw [nI_toInt (by omega)]; omega) (by decide) with ⟨v, V7, W7, s1, s2, ⟨d, rfl, d6, d7⟩, s4, s5⟩ | ⟨W7, s1, s2⟩
          · rw [nI_toInt (by omega)] at d6
            simp only [s1, s2, bnd_S, cs2_L, un2_S, td_P g1 (i := 10) (by omega) (by omega), td_P g1 (i := 7) (by omega) (by omega), ptI_S, shW_eq]
            have E : upd2 (upd2 V7 (u 0) 10 (nI d)) (u 0) 7 (nI a) (u 0) = upd (upd (upd (upd (V (u 0)) 8 (nI b)) 9 (nI c)) 10 (nI d)) 7 (nI a) := by
              rw [upd2_eq, upd2_eq, s4.1 _ u0r, upd2_eq, q4.1 _ u0r, p4.1 _ u0r, upd2_eq, d4.1 _ u0r, c4.1 _ u0r]
            have F : ∀ x, x ≠ r → x ≠ u 0 → upd2 (upd2 V7 (u 0) 10 (nI d)) (u 0) 7 (nI a) x = V x := fun x xr x0 => by
              rw [upd2_ne _ x0, upd2_ne _ x0, s4.1 _ xr, upd2_ne _ x0, q4.1 _ xr, p4.1 _ xr, upd2_ne _ x0, d4.1 _ xr, c4.1 _ xr]
            have Fr : ∀ j, 8 < j → upd2 (upd2 V7 (u 0) 10 (nI d)) (u 0) 7 (nI a) r j = V r j := fun j hj => by
              rw [upd2_ne _ (Ne.symm u0r), upd2_ne _ (Ne.symm u0r), s4.2.1 j (by omega), upd2_ne _ (Ne.symm u0r), q4.2.1 j (by omega), p4.2.1 j (by omega), upd2_ne _ (Ne.symm u0r), d4.2.1 j (by omega), c4.2.1 j (by omega)]
            have w0 : ∀ j, 12 < j → j < 20 → upd2 W7 0 23 (nI d) 0 j = V2 0 j := fun j j1 j2 => by
              rw [upd2_eq, upd_ne (by omega), s4.2.2.2 j (by omega), upd2_eq, upd_ne (by omega), q4.2.2.2 j (by omega), p4.2.2.2 j (by omega), upd2_eq, upd_ne (by omega), d4.2.2.2 j (by omega), upd2_eq, upd_ne (by omega), c4.2.2.2 j (by omega)]
            have wr : ∀ x, x ≠ 0 → upd2 W7 0 23 (nI d) x = V2 x := fun x x0 => by
              rw [upd2_ne _ x0, s4.2.2.1 x x0, upd2_ne _ x0, q4.2.2.1 x x0, p4.2.2.1 x x0, upd2_ne _ x0, d4.2.2.1 x x0, upd2_ne _ x0, c4.2.2.1 x x0]
            have x20 : upd2 W7 0 23 (nI d) 0 20 = nI a := by rw [upd2_eq, upd_ne (by omega), s4.2.2.2 20 (by omega), upd2_eq, upd_ne (by omega), q4.2.2.2 20 (by omega)]; exact w20
            have x21 : upd2 W7 0 23 (nI d) 0 21 = nI b := by rw [upd2_eq, upd_ne (by omega), s4.2.2.2 21 (by omega)]; exact w21
            have x22 : upd2 W7 0 23 (nI d) 0 22 = nI c := by rw [upd2_eq, upd_ne (by omega), s4.2.2.2 22 (by omega), upd2_eq, upd_eq]
            have x23 : upd2 W7 0 23 (nI d) 0 23 = nI d := by rw [upd2_eq, upd_eq]
            rw [x20, x21, x22, x23, wr 15 (by omega)]
            have hw : ∀ j, j < 7 ∨ 11 < j → upd (upd (upd (upd (upd (V2 15) 7 1) 8 (nI a)) 9 (nI b)) 10 (nI c)) 11 (nI d) j = V2 15 j := fun j hj => by
              rw [upd_ne (by omega), upd_ne (by omega), upd_ne (by omega), upd_ne (by omega), upd_ne (by omega)]
            obtain ⟨-, n2, n3, n4, n5, n6, n7, n8⟩ := Td_keep (Sh' := Sh) (V' := upd2 (upd2 V7 (u 0) 10 (nI d)) (u 0) 7 (nI a)) (κ' := κ) (u' := u) (V2' := rowV (upd2 W7 0 23 (nI d)) 15 (upd (upd (upd (upd (upd (V2 15) 7 1) 8 (nI a)) 9 (nI b)) 10 (nI c)) 11 (nI d))) 1 h2 (fun x x1 x7 xK => ⟨rfl, F x (fun e => by rw [e] at x7; omega) (fun e => by rw [e] at xK; omega), rfl⟩) (fun _ _ => rfl) (fun j hj => by rw [rowV_eq]; exact hw j (by omega)) (fun _ => by rw [rowV_ne (by omega)]; exact wr 16 (by omega)) (fun _ => by rw [rowV_ne (by omega)]; exact wr 17 (by omega))
            left
            refine ⟨Sh, _, n, _, κ, u, np, nh, nr, rfl, rfl, ⟨RW_w (V2 := upd2 W7 0 23 (nI d)) (RWs (RWs (RW_p s5 (show 18 ≤ 23 by omega)))) ?_ (fun j hj => ?_), rfl, ⟨?_, n2 (by omega), n3 (by omega), n4 (by omega), n5 (by omega), n6 (by omega), n7 (by omega), n8⟩, ⟨?_, ?_⟩, ⟨?_, ?_, l3, l4⟩, ⟨kr, kms, kbg, ktp, kN, kk⟩, hm⟩, fun x hx => ⟨rfl, F x (by omega) (by omega)⟩, ⟨fun x x0 x15 x16 x17 => ?_, fun j hj => ?_⟩⟩
            · rw [rowV_ne (by omega)]
            · rw [rowV_ne (by omega)]
            · obtain ⟨a1', a2', a3', a4', a5', a6', a7'⟩ := g1
              rw [rowV_eq]
              refine ⟨a1', a2', ?_, ?_, Or.inr ⟨?_, ⟨a, b, c, d, ?_, ?_, ?_, ?_, by omega, by omega, by omega, by omega, by omega, by omega⟩, ?_, ?_, ?_, ?_⟩, ?_, ?_⟩
              · rw [E, upd_ne (by omega), upd_ne (by omega), upd_ne (by omega), upd_ne (by omega), hw 5 (by omega)]; exact a3'
              · rw [E, upd_ne (by omega), upd_ne (by omega), upd_ne (by omega), upd_ne (by omega), hw 6 (by omega)]; exact a4'
              · rw [upd_ne (by omega), upd_ne (by omega), upd_ne (by omega), upd_ne (by omega), upd_eq]
              · rw [upd_ne (by omega), upd_ne (by omega), upd_ne (by omega), upd_eq]
              · rw [upd_ne (by omega), upd_ne (by omega), upd_eq]
              · rw [upd_ne (by omega), upd_eq]
              · rw [upd_eq]
              · rw [E, upd_eq, upd_ne (by omega), upd_ne (by omega), upd_ne (by omega), upd_eq]
              · rw [E, upd_ne (by omega), upd_ne (by omega), upd_ne (by omega), upd_eq, upd_ne (by omega), upd_ne (by omega), upd_eq]
              · rw [E, upd_ne (by omega), upd_ne (by omega), upd_eq, upd_ne (by omega), upd_eq]
              · rw [E, upd_ne (by omega), upd_eq, upd_eq]
              · rw [hw 5 (by omega)]; exact a6'
              · rw [hw 6 (by omega)]; exact a7'
            · rw [Fr 9 (by omega), rowV_ne (by omega), w0 18 (by omega) (by omega)]; exact f1
            · rw [Fr 10 (by omega), rowV_ne (by omega), w0 19 (by omega) (by omega)]; exact f2
            · rw [E, upd_ne (by omega), upd_ne (by omega), upd_ne (by omega), upd_ne (by omega)]; exact l1
            · rw [rowV_eq, hw 0 (by omega)]; exact l2
            · rw [rowV_ne x15, wr x x0]
            · rw [rowV_ne (by omega), upd2_eq, upd_ne (by omega), s4.2.2.2 j (by omega), upd2_eq, upd_ne (by omega), q4.2.2.2 j (by omega), p4.2.2.2 j (by omega), upd2_eq, upd_ne (by omega), d4.2.2.2 j (by omega), upd2_eq, upd_ne (by omega), c4.2.2.2 j (by omega)]
          · right
            have dd := Fl_dead s1
            obtain ⟨x, Z', z1, z2⟩ := FL0_of (V20 := V2) (Sh0 := Sh) (V0 := V) kN rk.1 (fun x hx => ⟨rfl, by rw [upd2_ne _ (by omega), q4.1 _ (by omega), p4.1 _ (by omega), upd2_ne _ (by omega), d4.1 _ (by omega), c4.1 _ (by omega)]⟩) (TF_tr (TF_st c4) (TF_tr (TF_p (by omega) (by omega)) (TF_tr (TF_st d4) (TF_tr (TF_p (by omega) (by omega)) (TF_tr (TF_st p4) (TF_tr (TF_st q4) (TF_p (by omega) (by omega)))))))) s1 (Dd_tr (Dd_p (x := 0) (i := 23) (by omega) (by omega)) (Dd_r (a := 15) (by omega)))
            refine ⟨_, z2 _ _ ?_, ?_⟩
            · simp only [z1, bnd_S, cs2_R, un2_S]
            · simp only [s2, bnd_S, un2_S, ptI_S, shW_eq] <;> rfl
        · right
          have dd := Fl_dead q1
          obtain ⟨Wd, w1, w2⟩ := bx3_d (x := 0) (hi := 10) dd
          obtain ⟨x, Z', z1, z2⟩ := FL0_of (V20 := V2) (Sh0 := Sh) (V0 := V) kN rk.1 (fun x hx => ⟨rfl, by rw [p4.1 _ (by omega), upd2_ne _ (by omega), d4.1 _ (by omega), c4.1 _ (by omega)]⟩) (TF_tr (TF_st c4) (TF_tr (TF_p (by omega) (by omega)) (TF_tr (TF_st d4) (TF_tr (TF_p (by omega) (by omega)) (TF_st p4))))) q1 (Dd_tr w2 (Dd_r (a := 15) (by omega)))
          refine ⟨_, z2 _ _ ?_, ?_⟩
          · simp only [z1, bnd_S, cs2_R, un2_S]
          · simp only [q2, bnd_S, un2_S, w1, shW_eq] <;> rfl
      · right
        have dd := Fl_dead p1
        obtain ⟨Wd, w1, w2⟩ := bx2_d (hi := 10) dd
        obtain ⟨x, Z', z1, z2⟩ := FL0_of (V20 := V2) (Sh0 := Sh) (V0 := V) kN rk.1 (fun x hx => ⟨rfl, by rw [upd2_ne _ (by omega), d4.1 _ (by omega), c4.1 _ (by omega)]⟩) (TF_tr (TF_st c4) (TF_tr (TF_p (by omega) (by omega)) (TF_tr (TF_st d4) (TF_p (by omega) (by omega))))) p1 (Dd_tr w2 (Dd_r (a := 15) (by omega)))
        refine ⟨_, z2 _ _ ?_, ?_⟩
        · simp only [z1, bnd_S, cs2_R, un2_S]
        · simp only [p2, bnd_S, w1, shW_eq] <;> rfl
    · right
      have dd := Fl_dead d1
      obtain ⟨Wd, w1, w2⟩ := bx1_d (x := 0) (hi := 10) dd
      obtain ⟨x, Z', z1, z2⟩ := FL0_of (V20 := V2) (Sh0 := Sh) (V0 := V) kN rk.1 (fun x hx => ⟨rfl, c4.1 _ (by omega)⟩) (TF_tr (TF_st c4) (TF_p (by omega) (by omega))) d1 (Dd_tr w2 (Dd_r (a := 15) (by omega)))
      refine ⟨_, z2 _ _ ?_, ?_⟩
      · simp only [z1, bnd_S, cs2_R, un2_S]
      · simp only [d2, bnd_S, un2_S, w1, shW_eq] <;> rfl
  · right
    have dd := Fl_dead c1
    obtain ⟨Wd, w1, w2⟩ := bx0_d (x := 0) (lo := 1) (hi := 10) dd
    obtain ⟨x, Z', z1, z2⟩ := FL0_of kN rk.1 (fun a _ => ⟨rfl, rfl⟩) TF_rf c1 (Dd_tr w2 (Dd_r (a := 15) (by omega)))
    refine ⟨_, z2 _ _ ?_, ?_⟩
    · simp only [z1, bnd_S, cs2_R, un2_S]
    · simp only [c2, bnd_S, un2_S, w1, shW_eq] <;> rfl
end L5
