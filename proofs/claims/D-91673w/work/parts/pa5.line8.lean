/-! PURE: a text is read: line house -/
set_option maxRecDepth 100000
section L8
variable {Sh : g_Sh} {V V' : g_V} {L : g_L} {n N0 r tp ms bg sz td np nh nr lc lt : Nat} {V2 V2' : g_V} {κ u : Nat → Nat} {gp : Nat → Nat}
/-- what the reference does at a house -/
def hoW (V : g_V) : Option g_V := rdI (V 15) 810 3 fun x_64 => nmI (732 + (3 * x_64)) fun x_67 => bnd (tw_number V 0 10) (un2 fun x_71 V_72 => wrI V_72 15 810 x_67 x_71 fun V_75 => bnd (tw_told 23 V_75 0 999) (un2 fun x_78 V_79 => wrI V_79 15 810 (x_67 + 1) x_78 fun V_82 => rdI (V_82 15) 810 3 fun x_83 => wrI V_82 15 810 3 (x_83 + 1) fun V_88 => some V_88))
theorem l_house (h : Ps gp N0 Sh V n V2 r tp ms bg sz td κ u np nh nr lc lt) (hg : gpI gp) (h6 : nh < 6) : OL gp N0 Sh V L V2 r tp ms bg sz td lc lt (bnd (cm_X3_number gp (Sh, V, L, n) r 0 10) (cs2 (un2 fun x_67 Z_68 => cA Z_68.Sh td 2 13 4 fun a_72 => zNew Z_68 6 3 tyX6 fun Z_73 a_74 => zK Z_73 r 3 11 <| bnd (cm_X3_number_2 gp Z_73 r (gp 23) 0 999) (cs2 (un2 fun x_78 Z_79 => bnd (cm_X6_init Z_79 a_74 x_67 x_78) (fun Z_85 => zK Z_85 a_72 14 3 <| bnd (cm_J2_add gp Z_85 a_72 a_74) (un2 fun x_89 Z_90 => some (.inl Z_90)))) (un2 fun x_80 Z_81 => some (.inr (x_80, Z_81))))) (un2 fun x_69 Z_70 => some (.inr (x_69, Z_70))))) (hoW V2) := by
  have hu := h.2.1
  subst hu
  have rk := Ps_rk h
  have kN := Ps_N h
  have h1 := h.1
  have hro := h1.1
  have g1 := h.2.2.1.1
  have g6 := h.2.2.1.2.2.2.2.2.1
  have w3 : V2 15 3 = nI nh := g6.2.1
  have e10 : (10 : Int32).toInt = 10 := rfl
  unfold hoW
  simp (disch := omega) only [rdI_L, rdI_in, w3, nmI_S, L_mul, L_add]
  rcases t_number (gp := gp) (L := L) (lo := 0) (hi := 10) h1 rk.2 (by decide) (by decide) with ⟨v, V1, W1, c1, c2, ⟨a, rfl, a1, a2⟩, c4, c5⟩ | ⟨W1, c1, c2⟩
  · rw [c1, c2, bnd_S, bnd_S, cs2_L, un2_S, un2_S, wrI_in (by omega) (by omega)]
    simp only [zSh_T, zV_T, zL_T, zn_T, td_A g1 (i := 4) (j := 10) (by omega), zNew]
    have rn : r ≠ n := by omega
    have ktp : tp < N0 := h.2.2.2.2.2.1.2.2.2.1
    have hs : ∀ a, a ≠ n → updS Sh n (d_obj 6 3 (zrf tyX6)) a = Sh a := fun a ha => updS_ne ha
    have R1 : RW (updS Sh n (d_obj 6 3 (zrf tyX6))) (rowV V1 n (fun _ => 0)) r tp ms bg (upd2 W1 15 (732 + 3 * nh) (nI a)) sz := RW_w (RW_s c5 ⟨hs _ rn, hs _ (by omega)⟩ ⟨fun j _ => by rw [rowV_ne rn], rowV_ne (by omega)⟩) (upd2_ne _ (by omega)) (fun j _ => by rw [upd2_ne _ (by omega)])
    have hro1 := R1.1
    rw [r_K hro1]
    have fr1 : ∀ a, a < N0 → updS Sh n (d_obj 6 3 (zrf tyX6)) a = Sh a ∧ rowV V1 n (fun _ => 0) a = V a := fun a ha => ⟨hs _ (by omega), by rw [rowV_ne (by omega)]; exact c4.1 _ (by omega)⟩
    rcases t_told (gp := gp) (L := L) (n := n + 1) (w := 23) (lo := 0) (hi := 999) R1 (by omega) hg (by omega) (by decide) (by decide) with ⟨v, V3, W3, d1, d2, ⟨b, rfl, b1, b2⟩, d4, d5⟩ | ⟨W3, d1, d2⟩
    · rw [d1, d2, bnd_S, bnd_S, cs2_L, un2_S, un2_S]
      obtain ⟨-, -, h2, ⟨f1, f2⟩, ⟨l1, l2, l3, l4⟩, ⟨kr, kms, kbg, -, -, kk⟩, hm⟩ := h
      obtain ⟨q1, q2, q3, q4, q5, q6, q7⟩ := g6
      have n10 := kk (u 10) (by omega)
      have n11 := kk (u 11) (by omega)
      have hrc : ∀ i, i < 3 → zrf tyX6 i = none := by decide
      have en : updS Sh n (d_obj 6 3 (zrf tyX6)) n = some (d_obj 6 3 (zrf tyX6)) := updS_eq
      have lr : ∀ j, κ (u j) ≠ 8 → κ (u j) ≠ 0 → V3 (u j) = V (u j) := fun j k8 k0' => by
        have := kk (u j) k0'
        have ur : u j ≠ r := fun e => by rw [e] at k8; exact k8 kr
        rw [d4.1 _ ur, rowV_ne (by omega), c4.1 _ ur]
      have LS : LSt (updS Sh n (d_obj 6 3 (zrf tyX6))) (u 10) (u 11) nh (fun p => u (40 + p)) := LSt_k q3 (hs _ (by omega)) (hs _ (by omega))
      obtain ⟨Vi, eVi⟩ : ∃ Vi, Vi = upd2 (upd2 (upd2 V3 n 2 (-1)) n 0 (nI a)) n 1 (nI b) := ⟨_, rfl⟩
      have Vi_ne : ∀ x, x ≠ n → Vi x = V3 x := fun x hx => by rw [eVi, upd2_ne _ hx, upd2_ne _ hx, upd2_ne _ hx]
      obtain ⟨e', Sh5, V5, n5, k1, k2, k3, k4, k5, k6⟩ := l_add (gp := gp) (L := L) (V := Vi) (x := n) (n := n + 1) LS (by rw [Vi_ne _ (by omega), lr 10 (by omega) (by omega)]; exact q4) (by omega) ⟨6, 3, _, en, by omega⟩ (fun p hp => by
        obtain ⟨z1, ⟨rf, z2, z3⟩, -⟩ := q7 p hp
        have := kk (u (40 + p)) (by omega)
        exact ⟨6, 3, rf, by rw [hs _ (by omega)]; exact z2, by omega⟩) (by omega) (by omega) (by omega) (fun p hp => by have := kk (u (40 + p)) (by have := (q7 p hp).1; omega); omega)
      have n5c : n + 1 ≤ n5 ∧ (e' = u 11 ∨ e' = n + 1) ∧ e' < n5 := by rcases k4 with ⟨z1, z2⟩ | ⟨z1, z2⟩ <;> omega
      have w33 : upd2 W3 15 (732 + 3 * nh + 1) (nI b) 15 3 = nI nh := by rw [upd2_eq, upd_ne (by omega), d4.2.2.1 15 (by omega), upd2_eq, upd_ne (by omega), c4.2.2.1 15 (by omega)]; exact w3
      obtain ⟨W5, eW5⟩ : ∃ W5, W5 = upd2 (upd2 W3 15 (732 + 3 * nh + 1) (nI b)) 15 3 (nI (nh + 1)) := ⟨_, rfl⟩
      have wr : ∀ x, x ≠ 0 → x ≠ 15 → W5 x = V2 x := fun x x0 x15 => by rw [eW5, upd2_ne _ x15, upd2_ne _ x15, d4.2.2.1 x x0, upd2_ne _ x15, c4.2.2.1 x x0]
      have w0 : ∀ j, (j < 9 ∨ 12 < j) → W5 0 j = V2 0 j := fun j hj => by rw [eW5, upd2_ne _ (by omega), upd2_ne _ (by omega), d4.2.2.2 j hj, upd2_ne _ (by omega), c4.2.2.2 j hj]
      have w15 : W5 15 = upd (upd (upd (V2 15) (732 + 3 * nh) (nI a)) (732 + 3 * nh + 1) (nI b)) 3 (nI (nh + 1)) := by
        rw [eW5, upd2_eq, upd2_eq, d4.2.2.1 15 (by omega), upd2_eq, c4.2.2.1 15 (by omega)]
      have hw : ∀ j, j ≠ 3 → j ≠ 732 + 3 * nh → j ≠ 732 + 3 * nh + 1 → W5 15 j = V2 15 j := fun j j1 j2 j3 => by rw [w15, upd_ne j1, upd_ne j3, upd_ne j2]
      have F : ∀ x, x < n → x ≠ r → x ≠ u 10 → V5 x = V x := fun x xn xr x10 => by rw [k5 x x10, Vi_ne _ (by omega), d4.1 _ xr, rowV_ne (by omega), c4.1 _ xr]
      have FS : ∀ x, x < n → x ≠ u 10 → x ≠ u 11 → Sh5 x = Sh x := fun x xn x10 x11 => by rw [k6 x x10 x11 (by omega), hs _ (by omega)]
      have k10 : κ (u 10) = 6 := q5
      have k11 : κ (u 11) = 6 := q6
      have hz : ∀ x, 1 ≤ κ x → κ x ≤ 7 → κ x ≠ 6 → Sh5 x = Sh x ∧ V5 x = V x ∧ (if n ≤ x ∧ x < n5 then 6 else κ x) = κ x := fun x x1 x7 x6 => by
        have := kk x (by omega)
        have xr : x ≠ r := fun e => by rw [e, kr] at x7; omega
        have x10 : x ≠ u 10 := fun e => x6 (by rw [e]; exact k10)
        have x11 : x ≠ u 11 := fun e => x6 (by rw [e]; exact k11)
        exact ⟨FS x this.2 x10 x11, F x this.2 xr x10, if_neg (by omega)⟩
      obtain ⟨u', eu'⟩ : ∃ u' : Nat → Nat, u' = fun j => if j = 11 then e' else if j = 40 + nh then n else u j := ⟨_, rfl⟩
      have uo : ∀ j, j ≠ 11 → j ≠ 40 + nh → u' j = u j := fun j j1 j2 => by rw [eu']; dsimp only; rw [if_neg j1, if_neg j2]
      have u11 : u' 11 = e' := by rw [eu']; rfl
      have un : u' (40 + nh) = n := by rw [eu']; dsimp only; rw [if_neg (by omega), if_pos rfl]
      obtain ⟨n1, n2, n3, n4, n5', -, n7, n8⟩ := Td_keep (Sh' := Sh5) (V' := V5) (κ' := fun x => if n ≤ x ∧ x < n5 then 6 else κ x) (u' := u') (V2' := W5) 6 h2 hz (fun j hj => uo j (by omega) (by omega)) (fun j hj => hw j (by omega) (by omega) (by omega)) (fun _ => wr 16 (by omega) (by omega)) (fun _ => wr 17 (by omega) (by omega))
      have zr : ∀ x, κ x = 8 → x < n ∧ x ≠ u 10 ∧ x ≠ u 11 := fun x hx => ⟨(kk x (by omega)).2, fun e => by rw [e] at hx; omega, fun e => by rw [e] at hx; omega⟩
      have zr0 := zr r kr
      have V5r : V5 r = V3 r := by rw [k5 r zr0.2.1, Vi_ne r (by omega)]
      left
      refine ⟨Sh5, V5, n5, W5, fun x => if n ≤ x ∧ x < n5 then 6 else κ x, u', np, nh + 1, nr, ?_, ?_, ⟨RW_w (V2 := W3) (RW_s d5 ⟨by rw [FS r zr0.1 zr0.2.1 zr0.2.2, hs r rn], by rw [FS tp (by omega) (by omega) (by omega), hs tp (by omega)]⟩ ⟨fun j _ => by rw [V5r], by rw [k5 tp (by omega), Vi_ne tp (by omega)]⟩) ?_ (fun j _ => ?_), uo 0 (by omega) (by omega), ⟨n1 (by omega), n2 (by omega), n3 (by omega), n4 (by omega), n5' (by omega), ⟨by omega, ?_, ?_, ?_, ?_, ?_, fun p hp => ?_⟩, n7 (by omega), n8⟩, ⟨?_, ?_⟩, ⟨?_, ?_, l3, l4⟩, ⟨?_, ?_, ?_, ktp, by omega, fun x hx => ?_⟩, ?_⟩, fun x hx => ⟨FS x (by omega) (by omega) (by omega), F x (by omega) (by omega) (by omega)⟩, ⟨fun x x0 x15 _ _ => wr x x0 x15, fun j hj => w0 j (by omega)⟩⟩
      · have lK : ∀ (α : Type) (k : Option α) (W : g_V), zK (updS Sh n (d_obj 6 3 (zrf tyX6)), W, L, n + 1) (u 10) 14 3 k = k := fun α k W => l_K LS
        unfold cm_X6_init
        simp (disch := decide) only [zPI_T en (hrc _ _), bnd_S]
        rw [← eVi, lK, k1, bnd_S, un2_S]
      · simp (disch := omega) only [L_addR, wrI_in, wrI_L, w33, eW5]
      · rw [eW5, upd2_ne _ (by omega), upd2_ne _ (by omega)]
      · rw [eW5, upd2_ne _ (by omega), upd2_ne _ (by omega)]
      · rw [w15, upd_eq]
      · rw [uo 10 (by omega) (by omega), u11]
        refine LSt_g k2 (fun p hp => ?_)
        by_cases e : p = nh
        · rw [if_pos e, e, un]
        · rw [if_neg e, uo _ (by omega) (by omega)]
      · rw [uo 10 (by omega) (by omega)]; exact k3
      · rw [uo 10 (by omega) (by omega)]
        dsimp only
        rw [if_neg (by omega)]; exact k10
      · rw [u11]
        dsimp only
        rcases n5c.2.1 with z | z
        · rw [z, if_neg (by omega)]; exact k11
        · rw [if_pos (by omega)]
      · by_cases e : p = nh
        · subst e
          have Vn : V5 n = Vi n := k5 n (by omega)
          have Sn : Sh5 n = some (d_obj 6 3 (zrf tyX6)) := by rw [k6 n (by omega) (by omega) (by omega)]; exact en
          dsimp only
          rw [un, Vn, w15]
          refine ⟨if_pos (by omega), ⟨_, Sn, hrc⟩, ?_, ?_, ?_, ⟨a, ?_, by omega⟩⟩
          · rw [eVi, upd2_eq, upd_ne (by omega), upd2_eq, upd_eq, upd_ne (by omega), upd_ne (by omega), upd_eq]
          · rw [eVi, upd2_eq, upd_eq, upd_ne (by omega), upd_eq]
          · rw [eVi, upd2_eq, upd_ne (by omega), upd2_eq, upd_ne (by omega), upd2_eq, upd_eq]
          · rw [upd_ne (by omega), upd_ne (by omega), upd_eq]
        · obtain ⟨z1, z2, z3, z4, z5, z6⟩ := q7 p (by omega)
          have kn := kk (u (40 + p)) (by omega)
          have p10 : u (40 + p) ≠ u 10 := fun z => by
            obtain ⟨rf, z2, -⟩ := z2
            obtain ⟨⟨rf', y1, -⟩, -⟩ := q3
            rw [z, y1] at z2
            injection z2 with z2; injection z2 with z2; injection z2 with z2; injection z2 with z2; injection z2 with z2
            omega
          have p11 : u (40 + p) ≠ u 11 := fun z => by
            obtain ⟨rf, z2, -⟩ := z2
            obtain ⟨-, cap, el, y1, -⟩ := q3
            rw [z, y1] at z2; cases z2
          have pr : u (40 + p) ≠ r := fun z => by rw [z, kr] at z1; omega
          dsimp only
          rw [uo _ (by omega) (by omega), hw _ (by omega) (by omega) (by omega), hw _ (by omega) (by omega) (by omega), FS _ kn.2 p10 p11, F _ kn.2 pr p10, if_neg (by omega)]
          exact ⟨z1, z2, z3, z4, z5, z6⟩
      · rw [V5r, d4.2.1 9 (by omega), rowV_ne rn, c4.2.1 9 (by omega), w0 18 (by omega)]; exact f1
      · rw [V5r, d4.2.1 10 (by omega), rowV_ne rn, c4.2.1 10 (by omega), w0 19 (by omega)]; exact f2
      · have z := hz (u 0) (by rw [g1.2.1]; omega) (by rw [g1.2.1]; omega) (by rw [g1.2.1]; omega)
        rw [uo 0 (by omega) (by omega), z.2.1]; exact l1
      · rw [hw 0 (by omega) (by omega) (by omega)]; exact l2
      · dsimp only; rw [if_neg (by omega)]; exact kr
      · have := zr ms kms
        dsimp only; rw [if_neg (by omega)]; exact kms
      · have := zr bg kbg
        dsimp only; rw [if_neg (by omega)]; exact kbg
      · by_cases c : n ≤ x ∧ x < n5
        · omega
        · have hx : (if n ≤ x ∧ x < n5 then 6 else κ x) ≠ 0 := hx
          rw [if_neg c] at hx
          have := kk x hx
          omega
      · have zm := zr ms kms
        have zb := zr bg kbg
        rw [FS ms zm.1 zm.2.1 zm.2.2, FS bg zb.1 zb.2.1 zb.2.2]
        exact hm
    · right
      have dd := Fl_dead d1
      obtain ⟨x, Z', z1, z2⟩ := FL0_of (V20 := V2) (Sh0 := Sh) (V0 := V) (show N0 ≤ n + 1 by omega) rk.1 fr1 (TF_tr (TF_st c4) (TF_r (a := 15) (by omega))) d1 (Dd_tr (Dd_r (V2 := W3) (a := 15) (g := upd (W3 15) (732 + 3 * nh + 1) 0) (by omega)) (Dd_r (a := 15) (g := upd (upd (W3 15) (732 + 3 * nh + 1) 0) 3 (W3 15 3 + 1)) (by omega)))
      refine ⟨_, z2 _ _ ?_, ?_⟩
      · rw [z1]; rfl
      · rw [d2, bnd_S, un2_S]
        simp (disch := omega) only [L_addR, wrI_in, wrI_L, upd2_row, rowV_eq, upd_ne]
  · right
    have dd := Fl_dead c1
    have d1 : Dd W1 (upd2 W1 15 (732 + 3 * nh) 0) := Dd_r (by omega)
    have d2 := Dd_d d1 dd
    obtain ⟨x, Z', z1, z2⟩ := FL0_of kN rk.1 (fun a _ => ⟨rfl, rfl⟩) TF_rf c1 (Dd_tr d1 (Dd_tr (Dd_r (V2 := upd2 W1 15 (732 + 3 * nh) 0) (a := 15) (g := upd (upd2 W1 15 (732 + 3 * nh) 0 15) (732 + 3 * nh + 1) 0) (by omega)) (Dd_r (a := 15) (g := upd (upd (upd2 W1 15 (732 + 3 * nh) 0 15) (732 + 3 * nh + 1) 0) 3 (upd (upd2 W1 15 (732 + 3 * nh) 0 15) (732 + 3 * nh + 1) 0 3 + 1)) (by omega))))
    refine ⟨_, z2 _ _ ?_, ?_⟩
    · rw [z1]; rfl
    · simp (disch := omega) only [c2, bnd_S, un2_S, wrI_in, d_told d2, L_addR, wrI_L]
      rfl
end L8
