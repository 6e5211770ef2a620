/-! PURE: a text is read: line ground -/
set_option maxRecDepth 100000
def gT3 (V : g_V) (g : Int32) : Option g_V := bnd (tw_below 16 V (-30)) (un2 fun x_39 V_40 => wrI V_40 15 810 ((20 + (4 * g)) + 3) x_39 fun V_43 => some V_43)
def gT2 (V : g_V) (g : Int32) : Option g_V := bnd (tw_told 15 V 1 999) (un2 fun x_32 V_33 => wrI V_33 15 810 ((20 + (4 * g)) + 2) x_32 fun V_36 => gT3 V_36 g)
def gT1 (V : g_V) (g : Int32) : Option g_V := bnd (tw_told 14 V 0 15) (un2 fun x_25 V_26 => wrI V_26 15 810 ((20 + (4 * g)) + 1) x_25 fun V_29 => gT2 V_29 g)
def gT0 (V : g_V) (g : Int32) : Option g_V := bnd (tw_told 13 V 0 15) (un2 fun x_18 V_19 => wrI V_19 15 810 (20 + (4 * g)) x_18 fun V_22 => gT1 V_22 g)
theorem tw_gr (V : g_V) : tw_readGround_J47 V = bnd (tw_number V 0 3) (un2 fun x_7 V_8 => bnd (tw_good V_8) (fun x_11 => if x_11 = 0 then (some V_8) else (wrI V_8 16 4 x_7 1 fun V_15 => gT0 V_15 x_7))) := rfl
section GT
variable {W : g_V} {g : Nat} {x : Int32}
theorem gw {i : Nat} (hg : g < 4) (hi : i < 4) (k : g_V → Option g_V) : wrI W 15 810 ((20 + (4 * nI g)) + nI i) x k = k (upd2 W 15 (20 + 4 * g + i) x) := by
  have e : (20 : Int32) + 4 * nI g + nI i = nI (20 + 4 * g + i) := by simp only [L_mul, L_add, nI_add]
  rw [e]
  exact wrI_in (by omega) (by omega)
theorem gw0 (hg : g < 4) (k : g_V → Option g_V) : wrI W 15 810 (20 + (4 * nI g)) x k = k (upd2 W 15 (20 + 4 * g) x) := by
  have e : (20 : Int32) + 4 * nI g = nI (20 + 4 * g) := by simp only [L_mul, L_add]
  rw [e]
  exact wrI_in (by omega) (by omega)
theorem Dw {i : Nat} : Dd W (upd2 W 15 i x) := Dd_r (by omega)
theorem gT3_d (hg : g < 4) (dd : ¬ W 0 13 = 0) : ∃ W', gT3 W (nI g) = some W' ∧ Dd W W' := by
  unfold gT3
  rw [d_below dd, bnd_S, un2_S, show (3 : Int32) = nI 3 from rfl, gw hg (by omega)]
  exact ⟨_, rfl, Dw⟩
theorem gT2_d (hg : g < 4) (dd : ¬ W 0 13 = 0) : ∃ W', gT2 W (nI g) = some W' ∧ Dd W W' := by
  unfold gT2
  rw [d_told dd, bnd_S, un2_S, show (2 : Int32) = nI 2 from rfl, gw hg (by omega)]
  obtain ⟨W', e1, e2⟩ := gT3_d hg (Dd_d (Dw (i := 20 + 4 * g + 2) (x := 0)) dd)
  exact ⟨W', e1, Dd_tr Dw e2⟩
theorem gT1_d (hg : g < 4) (dd : ¬ W 0 13 = 0) : ∃ W', gT1 W (nI g) = some W' ∧ Dd W W' := by
  unfold gT1
  rw [d_told dd, bnd_S, un2_S, show ((20 : Int32) + 4 * nI g + 1) = 20 + 4 * nI g + nI 1 from rfl, gw hg (by omega)]
  obtain ⟨W', e1, e2⟩ := gT2_d hg (Dd_d (Dw (i := 20 + 4 * g + 1) (x := 0)) dd)
  exact ⟨W', e1, Dd_tr Dw e2⟩
end GT
section L11
variable {Sh Sh1 : g_Sh} {V V1 V' : g_V} {L : g_L} {n N0 r tp ms bg sz td np nh nr lc lt : Nat} {V2 V2' : g_V} {κ u : Nat → Nat} {gp : Nat → Nat}
theorem TF_w {W : g_V} {i : Nat} {x : Int32} {a : Nat} (ha : a = 15 ∨ a = 16 ∨ a = 17) : TF W (upd2 W a i x) := TF_r ha
theorem RW_15 {W : g_V} {i : Nat} {x : Int32} {a : Nat} (ha : a = 15 ∨ a = 16 ∨ a = 17) (h : RW Sh V r tp ms bg W sz) : RW Sh V r tp ms bg (upd2 W a i x) sz := RW_w h (upd2_ne _ (by omega)) (fun j _ => by rw [upd2_ne _ (by omega)])
set_option maxHeartbeats 2000000 in
theorem l_groundJ (h : Ps gp N0 Sh V n V2 r tp ms bg sz td κ u np nh nr lc lt) (hg : gpI gp) : OL gp N0 Sh V L V2 r tp ms bg sz td lc lt (cm_X3_ground_J33 gp r td (Sh, V, L, n)) (tw_readGround_J47 V2) := by
  have hu := h.2.1
  subst hu
  have rk := Ps_rk h
  have kN := Ps_N h
  have h1 := h.1
  have hro := h1.1
  have g1 := h.2.2.1.1
  have e3 : (3 : Int32).toInt = 3 := rfl
  have e15 : (15 : Int32).toInt = 15 := rfl
  have e1 : (1 : Int32).toInt = 1 := rfl
  have e999 : (999 : Int32).toInt = 999 := rfl
  have z1 : ¬ (1 : Int32) = 0 := by decide
  rw [tw_gr]
  unfold cm_X3_ground_J33
  rw [r_K hro]
  rcases t_number (gp := gp) (L := L) (lo := 0) (hi := 3) h1 rk.2 (by decide) (by decide) with ⟨v, V1, W1, c1, c2, ⟨g, rfl, -, g2⟩, c4, c5⟩ | ⟨W1, c1, c2⟩
  · have hg4 : g < 4 := by omega
    have gd : tw_good W1 = some 1 := if_pos c5.2.2.2.2.2.1
    rw [c1, c2, bnd_S, bnd_S, cs2_L, un2_S, un2_S, gd, bnd_S, if_neg z1, wrI_in hg4 (by omega), r_K hro]
    unfold gT0
    have fr1 : ∀ a, a < N0 → Sh a = Sh a ∧ V1 a = V a := Ps_fr h c4
    rcases t_told (gp := gp) (L := L) (w := 13) (lo := 0) (hi := 15) (RW_15 (a := 16) (i := g) (x := 1) (by omega) c5) rk.2 hg (by omega) (by decide) (by decide) with ⟨v, Va, Wa, a1, a2, ⟨b1, rfl, -, b1h⟩, a4, a5⟩ | ⟨Wa, a1, a2⟩
    · rw [a1, a2, bnd_S, bnd_S, cs2_L, un2_S, un2_S, gw0 hg4, r_K hro]
      unfold gT1
      have fra : ∀ a, a < N0 → Sh a = Sh a ∧ Va a = V a := fun a ha => ⟨rfl, (a4.1 a (by omega)).trans (fr1 a ha).2⟩
      have tfa : TF V2 (upd2 Wa 15 (20 + 4 * g) (nI b1)) := TF_tr (TF_st c4) (TF_tr (TF_w (a := 16) (by omega)) (TF_tr (TF_st a4) (TF_w (a := 15) (by omega))))
      rcases t_told (gp := gp) (L := L) (w := 14) (lo := 0) (hi := 15) (RW_15 (a := 15) (i := 20 + 4 * g) (x := nI b1) (by omega) a5) rk.2 hg (by omega) (by decide) (by decide) with ⟨v, Vb, Wb, b1', b2', ⟨b2, rfl, -, b2h⟩, b4, b5⟩ | ⟨Wb, b1', b2'⟩
      · rw [b1', b2', bnd_S, bnd_S, cs2_L, un2_S, un2_S, show ((20 : Int32) + 4 * nI g + 1) = 20 + 4 * nI g + nI 1 from rfl, gw hg4 (by omega), r_K hro]
        unfold gT2
        have frb : ∀ a, a < N0 → Sh a = Sh a ∧ Vb a = V a := fun a ha => ⟨rfl, (b4.1 a (by omega)).trans (fra a ha).2⟩
        have tfb : TF V2 (upd2 Wb 15 (20 + 4 * g + 1) (nI b2)) := TF_tr tfa (TF_tr (TF_st b4) (TF_w (a := 15) (by omega)))
        rcases t_told (gp := gp) (L := L) (w := 15) (lo := 1) (hi := 999) (RW_15 (a := 15) (i := 20 + 4 * g + 1) (x := nI b2) (by omega) b5) rk.2 hg (by omega) (by decide) (by decide) with ⟨v, Vc, Wc, c1', c2', ⟨b3, rfl, b3l, b3h⟩, c4', c5'⟩ | ⟨Wc, c1', c2'⟩
        · rw [c1', c2', bnd_S, bnd_S, cs2_L, un2_S, un2_S, show ((20 : Int32) + 4 * nI g + 2) = 20 + 4 * nI g + nI 2 from rfl, gw hg4 (by omega)]
          simp only [zSh_T, zV_T, zL_T, zn_T, td_A g1 (i := 0) (j := 1) (by omega), zNew]
          unfold gT3
          have frc : ∀ a, a < N0 → Sh a = Sh a ∧ Vc a = V a := fun a ha => ⟨rfl, (c4'.1 a (by omega)).trans (frb a ha).2⟩
          have tfc : TF V2 (upd2 Wc 15 (20 + 4 * g + 2) (nI b3)) := TF_tr tfb (TF_tr (TF_st c4') (TF_w (a := 15) (by omega)))
          have rn : r ≠ n := by omega
          have ktp : tp < N0 := h.2.2.2.2.2.1.2.2.2.1
          have hs : ∀ a, a ≠ n → updS Sh n (d_obj 4 4 (zrf tyX4)) a = Sh a := fun a ha => updS_ne ha
          have R1 : RW (updS Sh n (d_obj 4 4 (zrf tyX4))) (rowV Vc n (fun _ => 0)) r tp ms bg (upd2 Wc 15 (20 + 4 * g + 2) (nI b3)) sz := RW_s (RW_15 (by omega) c5') ⟨hs _ rn, hs _ (by omega)⟩ ⟨fun j _ => by rw [rowV_ne rn], rowV_ne (by omega)⟩
          have hro1 := R1.1
          rw [r_K hro1]
          have fr2 : ∀ a, a < N0 → updS Sh n (d_obj 4 4 (zrf tyX4)) a = Sh a ∧ rowV Vc n (fun _ => 0) a = V a := fun a ha => ⟨hs _ (by omega), by rw [rowV_ne (by omega)]; exact (frc a ha).2⟩
          rcases t_below (gp := gp) (L := L) (n := n + 1) (w := 16) (lo := -30) (M := 30) R1 (by omega) hg (by omega) (by omega) (by decide) with ⟨v, Vd, Wd, d1, d2, ⟨b4', rfl, b4h⟩, d4, d5⟩ | ⟨Wd, d1, d2⟩
          · rw [d1, d2, bnd_S, bnd_S, cs2_L, un2_S, un2_S, show ((20 : Int32) + 4 * nI g + 3) = 20 + 4 * nI g + nI 3 from rfl, gw hg4 (by omega)]
            obtain ⟨-, -, h2, ⟨f1, f2⟩, ⟨l1, l2, l3, l4⟩, ⟨kr, kms, kbg, -, -, kk⟩, hm⟩ := h
            obtain ⟨q1, ge, q2, q3⟩ := h2.2.1
            have n1' := kk (u 1) (by omega)
            have u1n : u 1 ≠ n := by omega
            have hrc : ∀ i, i < 4 → zrf tyX4 i = none := by decide
            have en : updS Sh n (d_obj 4 4 (zrf tyX4)) n = some (d_obj 4 4 (zrf tyX4)) := updS_eq
            have eu : updS Sh n (d_obj 4 4 (zrf tyX4)) (u 1) = some (d_ref 8 4 ge) := by rw [hs _ u1n]; exact q2
            obtain ⟨Vi, eVi⟩ : ∃ Vi, Vi = upd2 (upd2 (upd2 (upd2 Vd n 0 (nI b1)) n 1 (nI b2)) n 2 (nI b3)) n 3 (-(nI b4')) := ⟨_, rfl⟩
            have Vi_ne : ∀ x, x ≠ n → Vi x = Vd x := fun x hx => by rw [eVi, upd2_ne _ hx, upd2_ne _ hx, upd2_ne _ hx, upd2_ne _ hx]
            have za : ∀ W, zAl [4] (updS Sh n (d_obj 4 4 (zrf tyX4)), W, L, n + 1) n = true := fun W => by
              unfold zAl
              simp only [zSh_T, en, d_obj]
              decide
            obtain ⟨Sh5, eS5⟩ : ∃ Sh5, Sh5 = updS (updS Sh n (d_obj 4 4 (zrf tyX4))) (u 1) (d_ref 8 4 (va_up ge g (some n))) := ⟨_, rfl⟩
            have FS : ∀ x, x < n → x ≠ u 1 → Sh5 x = Sh x := fun x xn x1 => by rw [eS5, updS_ne x1, hs _ (by omega)]
            have F : ∀ x, x < n → x ≠ r → Vi x = V x := fun x xn xr => by rw [Vi_ne _ (by omega), d4.1 _ xr, rowV_ne (by omega), c4'.1 _ xr, b4.1 _ xr, a4.1 _ xr, c4.1 _ xr]
            obtain ⟨W5, eW5⟩ : ∃ W5, W5 = upd2 Wd 15 (20 + 4 * g + 3) (-(nI b4')) := ⟨_, rfl⟩
            have w15 : W5 15 = upd (upd (upd (upd (V2 15) (20 + 4 * g) (nI b1)) (20 + 4 * g + 1) (nI b2)) (20 + 4 * g + 2) (nI b3)) (20 + 4 * g + 3) (-(nI b4')) := by
              rw [eW5, upd2_eq, d4.2.2.1 15 (by omega), upd2_eq, c4'.2.2.1 15 (by omega), upd2_eq, b4.2.2.1 15 (by omega), upd2_eq, a4.2.2.1 15 (by omega), upd2_ne _ (by omega), c4.2.2.1 15 (by omega)]
            have w16 : W5 16 = upd (V2 16) g 1 := by
              rw [eW5, upd2_ne _ (by omega), d4.2.2.1 16 (by omega), upd2_ne _ (by omega), c4'.2.2.1 16 (by omega), upd2_ne _ (by omega), b4.2.2.1 16 (by omega), upd2_ne _ (by omega), a4.2.2.1 16 (by omega), upd2_eq, c4.2.2.1 16 (by omega)]
            have wr : ∀ x, x ≠ 0 → x ≠ 15 → x ≠ 16 → W5 x = V2 x := fun x x0 x15 x16 => by
              rw [eW5, upd2_ne _ x15, d4.2.2.1 x x0, upd2_ne _ x15, c4'.2.2.1 x x0, upd2_ne _ x15, b4.2.2.1 x x0, upd2_ne _ x15, a4.2.2.1 x x0, upd2_ne _ x16, c4.2.2.1 x x0]
            have w0 : ∀ j, (j < 9 ∨ 12 < j) → W5 0 j = V2 0 j := fun j hj => by
              rw [eW5, upd2_ne _ (by omega), d4.2.2.2 j hj, upd2_ne _ (by omega), c4'.2.2.2 j hj, upd2_ne _ (by omega), b4.2.2.2 j hj, upd2_ne _ (by omega), a4.2.2.2 j hj, upd2_ne _ (by omega), c4.2.2.2 j hj]
            have hw : ∀ j, j < 20 + 4 * g ∨ 20 + 4 * g + 4 ≤ j → W5 15 j = V2 15 j := fun j hj => by rw [w15, upd_ne (by omega), upd_ne (by omega), upd_ne (by omega), upd_ne (by omega)]
            have hz : ∀ x, 1 ≤ κ x → κ x ≤ 7 → κ x ≠ 2 → Sh5 x = Sh x ∧ Vi x = V x ∧ (if x = n then 2 else κ x) = κ x := fun x x1 x7 x2 => by
              have := kk x (by omega)
              exact ⟨FS x this.2 (fun e => x2 (by rw [e]; exact q1)), F x this.2 (fun e => by rw [e, kr] at x7; omega), if_neg (by omega)⟩
            obtain ⟨u', eu'⟩ : ∃ u' : Nat → Nat, u' = fun j => if j = 4 + g then n else u j := ⟨_, rfl⟩
            have uo : ∀ j, j ≠ 4 + g → u' j = u j := fun j j1 => by rw [eu']; dsimp only; rw [if_neg j1]
            have un : u' (4 + g) = n := by rw [eu']; dsimp only; rw [if_pos rfl]
            obtain ⟨n1, -, n3, n4, n5, n6, n7, n8⟩ := Td_keep (Sh' := Sh5) (V' := Vi) (κ' := fun x => if x = n then 2 else κ x) (u' := u') (V2' := W5) 2 h2 hz (fun j hj => uo j (by omega)) (fun j hj => hw j (by omega)) (fun e => by omega) (fun _ => wr 17 (by omega) (by omega) (by omega))
            have zr : ∀ x, κ x = 8 → x < n ∧ x ≠ u 1 := fun x hx => ⟨(kk x (by omega)).2, fun e => by rw [e] at hx; omega⟩
            have zr0 := zr r kr
            have Vir : Vi r = Vd r := Vi_ne r rn
            left
            refine ⟨Sh5, Vi, n + 1, W5, fun x => if x = n then 2 else κ x, u', np, nh, nr, ?_, by rw [eW5], ⟨RW_w (V2 := Wd) (RW_s d5 ⟨by rw [FS r zr0.1 zr0.2, hs r rn], by rw [FS tp (by omega) (by omega), hs tp (by omega)]⟩ ⟨fun j _ => by rw [Vir], Vi_ne tp (by omega)⟩) (by rw [eW5, upd2_ne _ (by omega)]) (fun j _ => by rw [eW5, upd2_ne _ (by omega)]), uo 0 (by omega), ⟨n1 (by omega), ⟨?_, va_up ge g (some n), ?_, fun k hk => ?_⟩, n3 (by omega), n4 (by omega), n5 (by omega), n6 (by omega), n7 (by omega), n8⟩, ⟨?_, ?_⟩, ⟨?_, ?_, l3, l4⟩, ⟨?_, ?_, ?_, ktp, by omega, fun x hx => ?_⟩, ?_⟩, fun x hx => ⟨FS x (by omega) (by omega), F x (by omega) (by omega)⟩, ⟨fun x x0 x15 x16 _ => wr x x0 x15 x16, fun j hj => w0 j (by omega)⟩⟩
            · unfold cm_X4_init
              simp (disch := decide) only [zPI_T en (hrc _ _), bnd_S]
              rw [← eVi, zsR_some eu hg4 (by omega) (za _), ← eS5]
            · rw [uo 1 (by omega)]
              dsimp only
              rw [if_neg u1n]; exact q1
            · rw [uo 1 (by omega), eS5, updS_eq]
            · by_cases e : k = g
              · subst e
                right
                dsimp only
                rw [un, w16, w15]
                have Sn : Sh5 n = some (d_obj 4 4 (zrf tyX4)) := by rw [eS5, updS_ne (Ne.symm u1n)]; exact en
                refine ⟨upd_eq _ _ _, ?_, if_pos rfl, ⟨_, Sn, hrc⟩, fun i hi => ?_, ⟨b1, ?_, by omega⟩, ⟨b2, ?_, by omega⟩, ⟨b3, ?_, by omega, by omega⟩, ⟨b4', ?_, b4h⟩⟩
                · unfold va_up; rw [if_pos rfl]
                · have hh : i = 0 ∨ i = 1 ∨ i = 2 ∨ i = 3 := by omega
                  rw [eVi]
                  rcases hh with rfl | rfl | rfl | rfl
                  · rw [upd2_eq, upd_ne (by omega), upd2_eq, upd_ne (by omega), upd2_eq, upd_ne (by omega), upd2_eq, upd_eq, upd_ne (by omega), upd_ne (by omega), upd_ne (by omega), Nat.add_zero, upd_eq]
                  · rw [upd2_eq, upd_ne (by omega), upd2_eq, upd_ne (by omega), upd2_eq, upd_eq, upd_ne (by omega), upd_ne (by omega), upd_eq]
                  · rw [upd2_eq, upd_ne (by omega), upd2_eq, upd_eq, upd_ne (by omega), upd_eq]
                  · rw [upd2_eq, upd_eq, upd_eq]
                · rw [upd_ne (by omega), upd_ne (by omega), upd_ne (by omega), upd_eq]
                · rw [upd_ne (by omega), upd_ne (by omega), upd_eq]
                · rw [upd_ne (by omega), upd_eq]
                · rw [upd_eq]
              · have va : va_up ge g (some n) k = ge k := by unfold va_up; rw [if_neg e]
                dsimp only
                rw [va, w16, upd_ne e, hw _ (by omega), hw _ (by omega), hw _ (by omega), hw _ (by omega), uo (4 + k) (by omega)]
                rcases q3 k hk with s | ⟨s1, s2, s3, s4, s5, s6⟩
                · exact Or.inl s
                · have kn := kk (u (4 + k)) (by omega)
                  have k1 : u (4 + k) ≠ u 1 := fun z => by
                    obtain ⟨rf, s4, -⟩ := s4
                    rw [z, q2] at s4; cases s4
                  have kr' : u (4 + k) ≠ r := fun z => by rw [z, kr] at s3; omega
                  rw [if_neg (show u (4 + k) ≠ n by omega), FS _ kn.2 k1, F _ kn.2 kr']
                  exact Or.inr ⟨s1, s2, s3, s4, fun i hi => by rw [hw _ (by omega)]; exact s5 i hi, s6⟩
            · rw [Vir, d4.2.1 9 (by omega), rowV_ne rn, c4'.2.1 9 (by omega), b4.2.1 9 (by omega), a4.2.1 9 (by omega), c4.2.1 9 (by omega), w0 18 (by omega)]; exact f1
            · rw [Vir, d4.2.1 10 (by omega), rowV_ne rn, c4'.2.1 10 (by omega), b4.2.1 10 (by omega), a4.2.1 10 (by omega), c4.2.1 10 (by omega), w0 19 (by omega)]; exact f2
            · have z := hz (u 0) (by rw [g1.2.1]; omega) (by rw [g1.2.1]; omega) (by rw [g1.2.1]; omega)
              rw [uo 0 (by omega), z.2.1]; exact l1
            · rw [hw 0 (by omega)]; exact l2
            · dsimp only; rw [if_neg rn]; exact kr
            · have := zr ms kms
              dsimp only; rw [if_neg (by omega)]; exact kms
            · have := zr bg kbg
              dsimp only; rw [if_neg (by omega)]; exact kbg
            · by_cases c : x = n
              · omega
              · have hx : (if x = n then 2 else κ x) ≠ 0 := hx
                rw [if_neg c] at hx
                have := kk x hx
                omega
            · have zm := zr ms kms
              have zb := zr bg kbg
              rw [FS ms zm.1 zm.2, FS bg zb.1 zb.2]
              exact hm
          · right
            have dd := Fl_dead d1
            obtain ⟨x, Z', y1, y2⟩ := FL0_of (V20 := V2) (Sh0 := Sh) (V0 := V) (show N0 ≤ n + 1 by omega) rk.1 fr2 tfc d1 (Dw (i := 20 + 4 * g + 3) (x := 0))
            refine ⟨_, y2 _ _ ?_, ?_⟩
            · rw [y1]; rfl
            · rw [d2, bnd_S, un2_S, show ((20 : Int32) + 4 * nI g + 3) = 20 + 4 * nI g + nI 3 from rfl, gw hg4 (by omega)]
        · right
          have dd := Fl_dead c1'
          obtain ⟨Wf, w1, w2⟩ := gT3_d hg4 (Dd_d (Dw (i := 20 + 4 * g + 2) (x := 0)) dd)
          obtain ⟨x, Z', y1, y2⟩ := FL0_of (V20 := V2) (Sh0 := Sh) (V0 := V) kN rk.1 frb tfb c1' (Dd_tr Dw w2)
          refine ⟨_, y2 _ _ ?_, ?_⟩
          · rw [y1]; rfl
          · rw [c2', bnd_S, un2_S, show ((20 : Int32) + 4 * nI g + 2) = 20 + 4 * nI g + nI 2 from rfl, gw hg4 (by omega)]
            exact w1
      · right
        have dd := Fl_dead b1'
        obtain ⟨Wf, w1, w2⟩ := gT2_d hg4 (Dd_d (Dw (i := 20 + 4 * g + 1) (x := 0)) dd)
        obtain ⟨x, Z', y1, y2⟩ := FL0_of (V20 := V2) (Sh0 := Sh) (V0 := V) kN rk.1 fra tfa b1' (Dd_tr Dw w2)
        refine ⟨_, y2 _ _ ?_, ?_⟩
        · rw [y1]; rfl
        · rw [b2', bnd_S, un2_S, show ((20 : Int32) + 4 * nI g + 1) = 20 + 4 * nI g + nI 1 from rfl, gw hg4 (by omega)]
          exact w1
    · right
      have dd := Fl_dead a1
      obtain ⟨Wf, w1, w2⟩ := gT1_d hg4 (Dd_d (Dw (i := 20 + 4 * g) (x := 0)) dd)
      obtain ⟨x, Z', y1, y2⟩ := FL0_of (V20 := V2) (Sh0 := Sh) (V0 := V) kN rk.1 fr1 (TF_tr (TF_st c4) (TF_w (a := 16) (by omega))) a1 (Dd_tr Dw w2)
      refine ⟨_, y2 _ _ ?_, ?_⟩
      · rw [y1]; rfl
      · rw [a2, bnd_S, un2_S, gw0 hg4]
        exact w1
  · right
    have dd := Fl_dead c1
    obtain ⟨x, Z', y1, y2⟩ := FL0_of kN rk.1 (fun a _ => ⟨rfl, rfl⟩) TF_rf c1 Dd_rf
    refine ⟨W1, y2 _ _ ?_, ?_⟩
    · rw [y1]; rfl
    · rw [c2, bnd_S, un2_S, d_good dd, bnd_S, if_pos rfl]
theorem l_ground (h : Ps gp N0 Sh V n V2 r tp ms bg sz td κ u np nh nr lc lt) (hg : gpI gp) : OL gp N0 Sh V L V2 r tp ms bg sz td lc lt (cm_X3_ground gp (Sh, V, L, n) r td) (tw_readGround V2) := by
  have hJ := l_groundJ (L := L) h hg
  have h1 := h.1
  have hro := h1.1
  have rk := Ps_rk h
  have kN := Ps_N h
  have hu : u 0 = td := h.2.1
  have g1 : G1 Sh V κ u (V2 15) := h.2.2.1.1
  obtain ⟨q1, ge, q2, q3⟩ := h.2.2.1.2.1
  have z1 : ¬ (1 : Int32) = 0 := by decide
  have gd : tw_good V2 = some 1 := if_pos h1.2.2.2.2.2.1
  obtain ⟨a, f, t, k1, k2, k3, k4, k9, k5, k7, k10, k6, k11, kv, -⟩ := h1.2.2.2.2.2.2
  unfold cm_X3_ground tw_readGround
  simp (disch := omega) only [zSh_T, zV_T, zL_T, zn_T, r_I hro, k6, k11, gd, bnd_S, z1, if_false]
  by_cases t2 : nI t = 2
  · obtain ⟨y, y1, y2, y3⟩ := kv ((nI_eq (b := 2) (by omega) (by omega)).mp t2)
    rw [if_pos t2, if_pos t2]
    simp (disch := omega) only [y3, y2, L_le, N_le]
    by_cases c : y ≤ 3
    · have m : min y 100000 = y := by omega
      have i1 : tw_in (nI y).toInt64 0 3 = some 1 := by
        rw [tw_inI, nI_toInt (by omega), if_pos]
        have e11 : (3 : Int64).toInt = 3 := rfl
        have e0 : (0 : Int64).toInt = 0 := rfl
        omega
      rw [m, if_neg (by omega), i1]
      simp (disch := omega) only [bnd_S, z1, if_false, ← hu, td_A g1 (i := 0) (j := 1) (by omega), caR_eq q2, rdI_in]
      rw [hu]
      rcases q3 y (by omega) with ⟨s1, s2, -⟩ | ⟨s1, s2, -⟩
      · rw [s1, s2, if_pos rfl]
        exact hJ
      · rw [s1, s2, if_neg z1]
        obtain ⟨x, Z', Va, f1, f2, f3⟩ := t_fail (gp := gp) (L := L) h1 rk.2 (show ¬ (2 : Int32) = 0 by decide)
        simp only [zNl, r_K hro, f1, f2, bnd_S, cs2_R, un2_S]
        have F := f3 c_S _ rfl
        have dd := Fl_dead F
        right
        obtain ⟨x', Z'', q1, q2⟩ := FL0_of kN rk.1 (fun a _ => ⟨rfl, rfl⟩) TF_rf F Dd_rf
        refine ⟨Va, q2 _ _ q1, ?_⟩
        rw [tw_gr]
        simp only [d_number dd, bnd_S, un2_S, d_good dd, if_true]
    · have i1 : tw_in (nI y).toInt64 0 3 = some 0 := by
        rw [tw_inI, nI_toInt (by omega), if_neg]
        have e11 : (3 : Int64).toInt = 3 := rfl
        omega
      rw [if_pos (by omega), i1]
      exact hJ
  · rw [if_neg t2, if_neg t2]
    exact hJ
end L11
