/-! PURE: a text is read: line pipe -/
set_option maxRecDepth 100000
section L9
variable {Sh : g_Sh} {V V' : g_V} {L : g_L} {n N0 r tp ms bg sz td np nh nr lc lt : Nat} {V2 V2' : g_V} {κ u : Nat → Nat} {gp : Nat → Nat}
theorem num_val {lo hi v : Int32} (h13 : V2 0 13 = 0) (e : tw_number V2 lo hi = some (v, V2')) (hd : V2' 0 13 = 0) : v = V2 0 12 ∧ V2 0 11 = 2 := by
  have z1 : ¬ (1 : Int32) = 0 := by decide
  have g1 : tw_good V2 = some 1 := if_pos h13
  have wrong : ∀ k : Int32, ¬ k = 0 → tw_wrong V2 k = some (upd2 (upd2 V2 0 13 k) 0 14 (upd2 V2 0 13 k 0 10)) := fun k _ => by
    unfold tw_wrong
    rw [g1, bnd_S, if_neg z1, ptI_S, ptI_S]
  have dead : ∀ k : Int32, ¬ k = 0 → ¬ upd2 (upd2 V2 0 13 k) 0 14 (upd2 V2 0 13 k 0 10) 0 13 = 0 := fun k hk => by
    rw [upd2_eq, upd_ne (by omega), upd2_eq, upd_eq]; exact hk
  unfold tw_number at e
  rw [g1, bnd_S, if_neg z1] at e
  by_cases t2 : V2 0 11 = 2
  · rw [if_pos t2] at e
    unfold tw_number_J20 at e
    rw [g1, bnd_S, if_neg z1, tw_inI, bnd_S] at e
    by_cases c : lo.toInt64.toInt ≤ (V2 0 12).toInt ∧ (V2 0 12).toInt ≤ hi.toInt64.toInt
    · rw [if_pos c, if_neg z1] at e
      unfold tw_number_J47 at e
      rw [g1, bnd_S, if_neg z1, nmI_S] at e
      cases hst : tw_step V2 with
      | none => rw [hst] at e; cases e
      | some W =>
        rw [hst, bnd_S] at e
        injection e with e
        injection e with e e'
        exact ⟨e.symm, t2⟩
    · rw [if_neg c, if_pos rfl, wrong 2 (by decide), bnd_S, d_J47 (dead 2 (by decide))] at e
      injection e with e
      injection e with e e'
      rw [← e'] at hd
      exact absurd hd (dead 2 (by decide))
  · rw [if_neg t2, wrong 1 (by decide), bnd_S, d_J20 (dead 1 (by decide))] at e
    injection e with e
    injection e with e e'
    rw [← e'] at hd
    exact absurd hd (dead 1 (by decide))
set_option maxHeartbeats 2000000 in
theorem l_pipeJ {x0 : Nat} (h : Ps gp N0 Sh V n V2 r tp ms bg sz td κ u np nh nr lc lt) (hg : gpI gp) (h6 : np < 12) (hx0 : x0 ≤ 11) (hne : V2 0 11 = 2 → ∀ k, k ≤ 11 → V2 0 12 = nI k → ∀ p, p < np → ¬ V2 15 (624 + 6 * p) = nI (12 * k + x0)) : OL gp N0 Sh V L V2 r tp ms bg sz td lc lt (cm_X3_pipe_J79 gp r td (nI x0) (Sh, V, L, n)) (tw_readPipe_J86 (nI x0) V2) := by
  have hu := h.2.1
  subst hu
  have rk := Ps_rk h
  have kN := Ps_N h
  have h1 := h.1
  have hro := h1.1
  have g1 := h.2.2.1.1
  have g5 := h.2.2.1.2.2.2.2.1
  have w2 : V2 15 2 = nI np := g5.2.1
  have e11 : (11 : Int32).toInt = 11 := rfl
  have e60 : (60 : Int32).toInt = 60 := rfl
  unfold cm_X3_pipe_J79 tw_readPipe_J86
  rw [r_K hro]
  rcases t_number (gp := gp) (L := L) (lo := 0) (hi := 11) h1 rk.2 (by decide) (by decide) with ⟨v, V1, W1, c1, c2, ⟨y, rfl, -, y2⟩, c4, c5⟩ | ⟨W1, c1, c2⟩
  · obtain ⟨nv1, nv2⟩ := num_val h1.2.2.2.2.2.1 c2 c5.2.2.2.2.2.1
    have hne' := hne nv2 y (by omega) nv1.symm
    rw [c1, c2, bnd_S, bnd_S, cs2_L, un2_S, un2_S, r_K hro]
    rcases t_below (gp := gp) (L := L) (w := 18) (lo := -400) (M := 400) c5 rk.2 hg (by omega) (by omega) (by decide) with ⟨v, V2c, W2, p1, p2, ⟨th, rfl, th1⟩, p4, p5⟩ | ⟨W2, p1, p2⟩
    · rw [p1, p2, bnd_S, bnd_S, cs2_L, un2_S, un2_S]
      simp only [zSh_T, zV_T, zL_T, zn_T, td_A g1 (i := 3) (j := 8) (by omega), zNew]
      have rn : r ≠ n := by omega
      have ktp : tp < N0 := h.2.2.2.2.2.1.2.2.2.1
      have hs : ∀ a, a ≠ n → updS Sh n (d_obj 5 6 (zrf tyX5)) a = Sh a := fun a ha => updS_ne ha
      have R1 : RW (updS Sh n (d_obj 5 6 (zrf tyX5))) (rowV V2c n (fun _ => 0)) r tp ms bg W2 sz := RW_s p5 ⟨hs _ rn, hs _ (by omega)⟩ ⟨fun j _ => by rw [rowV_ne rn], rowV_ne (by omega)⟩
      have hro1 := R1.1
      rw [r_K hro1]
      have fr1 : ∀ a, a < N0 → updS Sh n (d_obj 5 6 (zrf tyX5)) a = Sh a ∧ rowV V2c n (fun _ => 0) a = V a := fun a ha => ⟨hs _ (by omega), by rw [rowV_ne (by omega), p4.1 _ (by omega)]; exact c4.1 _ (by omega)⟩
      rcases t_told (gp := gp) (L := L) (n := n + 1) (w := 13) (lo := 0) (hi := 60) R1 (by omega) hg (by omega) (by decide) (by decide) with ⟨v, V3, W3, d1, d2, ⟨b, rfl, b1, b2⟩, d4, d5⟩ | ⟨W3, d1, d2⟩
      · rw [d1, d2, bnd_S, bnd_S, cs2_L, un2_S, un2_S]
        obtain ⟨-, -, h2, ⟨f1, f2⟩, ⟨l1, l2, l3, l4⟩, ⟨kr, kms, kbg, -, -, kk⟩, hm⟩ := h
        obtain ⟨q1, q2, q3, q4, q5, q6, q7, q8, q9⟩ := g5
        have n10 := kk (u 8) (by omega)
        have n11 := kk (u 9) (by omega)
        have hrc : ∀ i, i < 6 → zrf tyX5 i = none := by decide
        have en : updS Sh n (d_obj 5 6 (zrf tyX5)) n = some (d_obj 5 6 (zrf tyX5)) := updS_eq
        have gd : tw_good W3 = some 1 := if_pos d5.2.2.2.2.2.1
        have z1 : ¬ (1 : Int32) = 0 := by decide
        have lr : ∀ j, κ (u j) ≠ 8 → κ (u j) ≠ 0 → V3 (u j) = V (u j) := fun j k8 k0' => by
          have := kk (u j) k0'
          have ur : u j ≠ r := fun e => by rw [e] at k8; exact k8 kr
          rw [d4.1 _ ur, rowV_ne (by omega), p4.1 _ ur, c4.1 _ ur]
        have LS : LSt (updS Sh n (d_obj 5 6 (zrf tyX5))) (u 8) (u 9) np (fun p => u (20 + p)) := LSt_k q3 (hs _ (by omega)) (hs _ (by omega))
        have V3n : V3 n = fun _ => 0 := by rw [d4.1 _ (Ne.symm rn), rowV_eq]
        obtain ⟨Vi, eVi⟩ : ∃ Vi, Vi = upd2 (upd2 (upd2 (upd2 V3 n 3 1) n 0 (nI (12 * y + x0))) n 1 (-(nI th))) n 2 (nI b) := ⟨_, rfl⟩
        have Vi_ne : ∀ x, x ≠ n → Vi x = V3 x := fun x hx => by rw [eVi, upd2_ne _ hx, upd2_ne _ hx, upd2_ne _ hx, upd2_ne _ hx]
        have Vi_n : ∀ j, j < 6 → Vi n j = if j = 0 then nI (12 * y + x0) else if j = 1 then -(nI th) else if j = 2 then nI b else if j = 3 then 1 else 0 := fun j hj => by
          rw [eVi, upd2_eq, upd2_eq, upd2_eq, upd2_eq, V3n]
          have hh : j = 0 ∨ j = 1 ∨ j = 2 ∨ j = 3 ∨ j = 4 ∨ j = 5 := by omega
          rcases hh with rfl | rfl | rfl | rfl | rfl | rfl <;> simp (disch := omega) [upd_eq, upd_ne]
        obtain ⟨e', Sh5, V5, n5, k1, k2, k3, k4, k5, k6⟩ := l_add (gp := gp) (L := L) (V := Vi) (x := n) (n := n + 1) LS (by rw [Vi_ne _ (by omega), lr 8 (by omega) (by omega)]; exact q4) (by omega) ⟨5, 6, _, en, by omega⟩ (fun p hp => by
          obtain ⟨z1, ⟨rf, z2, z3⟩, -⟩ := q7 p hp
          have := kk (u (20 + p)) (by omega)
          exact ⟨5, 6, rf, by rw [hs _ (by omega)]; exact z2, by omega⟩) (by omega) (by omega) (by omega) (fun p hp => by have := kk (u (20 + p)) (by have := (q7 p hp).1; omega); omega)
        have n5c : n + 1 ≤ n5 ∧ (e' = u 9 ∨ e' = n + 1) ∧ e' < n5 := by rcases k4 with ⟨z1, z2⟩ | ⟨z1, z2⟩ <;> omega
        have W15 : W3 15 = V2 15 := by rw [d4.2.2.1 15 (by omega), p4.2.2.1 15 (by omega), c4.2.2.1 15 (by omega)]
        have W2n : W3 15 2 = nI np := by rw [W15]; exact w2
        obtain ⟨f, ef⟩ : ∃ f, f = upd (upd (upd (upd (upd (V2 15) (624 + 6 * np) (nI (12 * y + x0))) (624 + 6 * np + 1) (-(nI th))) (624 + 6 * np + 2) (nI b)) (624 + 6 * np + 3) 1) 2 (nI (np + 1)) := ⟨_, rfl⟩
        have f_n : ∀ j, j < 6 → f (624 + 6 * np + j) = if j = 0 then nI (12 * y + x0) else if j = 1 then -(nI th) else if j = 2 then nI b else if j = 3 then 1 else 0 := fun j hj => by
          rw [ef]
          have hh : j = 0 ∨ j = 1 ∨ j = 2 ∨ j = 3 ∨ j = 4 ∨ j = 5 := by omega
          have z4 := q9 (624 + 6 * np + 4) (by omega) (by omega)
          have z5 := q9 (624 + 6 * np + 5) (by omega) (by omega)
          rcases hh with rfl | rfl | rfl | rfl | rfl | rfl
          · rw [upd_ne (by omega), upd_ne (by omega), upd_ne (by omega), upd_ne (by omega), Nat.add_zero, upd_eq]; rfl
          · rw [upd_ne (by omega), upd_ne (by omega), upd_ne (by omega), upd_eq]; rfl
          · rw [upd_ne (by omega), upd_ne (by omega), upd_eq]; rfl
          · rw [upd_ne (by omega), upd_eq]; rfl
          · rw [upd_ne (by omega), upd_ne (by omega), upd_ne (by omega), upd_ne (by omega), upd_ne (by omega), z4]; rfl
          · rw [upd_ne (by omega), upd_ne (by omega), upd_ne (by omega), upd_ne (by omega), upd_ne (by omega), z5]; rfl
        have hw : ∀ j, j ≠ 2 → j < 624 + 6 * np ∨ 624 + 6 * np + 4 ≤ j → f j = V2 15 j := fun j j1 j2 => by rw [ef, upd_ne j1, upd_ne (by omega), upd_ne (by omega), upd_ne (by omega), upd_ne (by omega)]
        have wr : ∀ x, x ≠ 0 → x ≠ 15 → rowV W3 15 f x = V2 x := fun x x0 x15 => by rw [rowV_ne x15, d4.2.2.1 x x0, p4.2.2.1 x x0, c4.2.2.1 x x0]
        have w0 : ∀ j, (j < 9 ∨ 12 < j) → rowV W3 15 f 0 j = V2 0 j := fun j hj => by rw [rowV_ne (by omega), d4.2.2.2 j hj, p4.2.2.2 j hj, c4.2.2.2 j hj]
        have F : ∀ x, x < n → x ≠ r → x ≠ u 8 → V5 x = V x := fun x xn xr x10 => by rw [k5 x x10, Vi_ne _ (by omega), d4.1 _ xr, rowV_ne (by omega), p4.1 _ xr, c4.1 _ xr]
        have FS : ∀ x, x < n → x ≠ u 8 → x ≠ u 9 → Sh5 x = Sh x := fun x xn x10 x11 => by rw [k6 x x10 x11 (by omega), hs _ (by omega)]
        have hz : ∀ x, 1 ≤ κ x → κ x ≤ 7 → κ x ≠ 5 → Sh5 x = Sh x ∧ V5 x = V x ∧ (if n ≤ x ∧ x < n5 then 5 else κ x) = κ x := fun x x1 x7 x6 => by
          have := kk x (by omega)
          have xr : x ≠ r := fun e => by rw [e, kr] at x7; omega
          have x10 : x ≠ u 8 := fun e => x6 (by rw [e]; exact q5)
          have x11 : x ≠ u 9 := fun e => x6 (by rw [e]; exact q6)
          exact ⟨FS x this.2 x10 x11, F x this.2 xr x10, if_neg (by omega)⟩
        obtain ⟨u', eu'⟩ : ∃ u' : Nat → Nat, u' = fun j => if j = 9 then e' else if j = 20 + np then n else u j := ⟨_, rfl⟩
        have uo : ∀ j, j ≠ 9 → j ≠ 20 + np → u' j = u j := fun j j1 j2 => by rw [eu']; dsimp only; rw [if_neg j1, if_neg j2]
        have u11 : u' 9 = e' := by rw [eu']; rfl
        have un : u' (20 + np) = n := by rw [eu']; dsimp only; rw [if_neg (by omega), if_pos rfl]
        obtain ⟨n1, n2, n3, n4, -, n6, n7, n8⟩ := Td_keep (Sh' := Sh5) (V' := V5) (κ' := fun x => if n ≤ x ∧ x < n5 then 5 else κ x) (u' := u') (V2' := rowV W3 15 f) 5 h2 hz (fun j hj => uo j (by omega) (by omega)) (fun j hj => by rw [rowV_eq]; exact hw j (by omega) (by omega)) (fun _ => wr 16 (by omega) (by omega)) (fun _ => wr 17 (by omega) (by omega))
        have zr : ∀ x, κ x = 8 → x < n ∧ x ≠ u 8 ∧ x ≠ u 9 := fun x hx => ⟨(kk x (by omega)).2, fun e => by rw [e] at hx; omega, fun e => by rw [e] at hx; omega⟩
        have zr0 := zr r kr
        have V5r : V5 r = V3 r := by rw [k5 r zr0.2.1, Vi_ne r (by omega)]
        left
        refine ⟨Sh5, V5, n5, rowV W3 15 f, fun x => if n ≤ x ∧ x < n5 then 5 else κ x, u', np + 1, nh, nr, ?_, ?_, ⟨RW_w (V2 := W3) (RW_s d5 ⟨by rw [FS r zr0.1 zr0.2.1 zr0.2.2, hs r rn], by rw [FS tp (by omega) (by omega) (by omega), hs tp (by omega)]⟩ ⟨fun j _ => by rw [V5r], by rw [k5 tp (by omega), Vi_ne tp (by omega)]⟩) (rowV_ne (by omega)) (fun j _ => by rw [rowV_ne (by omega)]), uo 0 (by omega) (by omega), ⟨n1 (by omega), n2 (by omega), n3 (by omega), n4 (by omega), ⟨by omega, ?_, ?_, ?_, ?_, ?_, fun p hp => ?_, fun p q hp hq e => ?_, fun j ja jb => ?_⟩, n6 (by omega), n7 (by omega), n8⟩, ⟨?_, ?_⟩, ⟨?_, ?_, l3, l4⟩, ⟨?_, ?_, ?_, ktp, by omega, fun x hx => ?_⟩, ?_⟩, fun x hx => ⟨FS x (by omega) (by omega) (by omega), F x (by omega) (by omega) (by omega)⟩, ⟨fun x x0 x15 _ _ => wr x x0 x15, fun j hj => w0 j (by omega)⟩⟩
        · have lK : ∀ (α : Type) (k : Option α) (W : g_V), zK (updS Sh n (d_obj 5 6 (zrf tyX5)), W, L, n + 1) (u 8) 14 3 k = k := fun α k W => l_K LS
          unfold cm_X5_init
          rw [L_mul, nI_add]
          simp (disch := decide) only [zPI_T en (hrc _ _), bnd_S]
          rw [← eVi, lK, k1, bnd_S, un2_S]
        · rw [ef, ← W15]
          simp (disch := omega) only [gd, bnd_S, z1, if_false, rdI_L, rdI_in, W2n, nmI_S, L_mul, L_add, nI_add, wrI_in, wrI_L, L_addR, upd2_row, rowV_eq, rowV_over, upd_ne]
        · rw [rowV_eq, ef, upd_eq]
        · rw [uo 8 (by omega) (by omega), u11]
          refine LSt_g k2 (fun p hp => ?_)
          by_cases e : p = np
          · rw [if_pos e, e, un]
          · rw [if_neg e, uo _ (by omega) (by omega)]
        · rw [uo 8 (by omega) (by omega)]; exact k3
        · rw [uo 8 (by omega) (by omega)]
          dsimp only
          rw [if_neg (by omega)]; exact q5
        · rw [u11]
          dsimp only
          rcases n5c.2.1 with z | z
          · rw [z, if_neg (by omega)]; exact q6
          · rw [if_pos (by omega)]
        · by_cases e : p = np
          · subst e
            have Vn : V5 n = Vi n := k5 n (by omega)
            have Sn : Sh5 n = some (d_obj 5 6 (zrf tyX5)) := by rw [k6 n (by omega) (by omega) (by omega)]; exact en
            dsimp only
            rw [un, Vn, rowV_eq]
            have f0 := f_n 0 (by omega)
            rw [Nat.add_zero, if_pos rfl] at f0
            exact ⟨if_pos (by omega), ⟨_, Sn, hrc⟩, fun j hj => by rw [Vi_n j hj, f_n j hj], ⟨12 * y + x0, f0, by omega⟩, ⟨th, f_n 1 (by omega), th1⟩, ⟨b, f_n 2 (by omega), by omega⟩, f_n 3 (by omega)⟩
          · obtain ⟨z1, z2, z3, z4⟩ := q7 p (by omega)
            have kn := kk (u (20 + p)) (by omega)
            have p10 : u (20 + p) ≠ u 8 := fun z => by
              obtain ⟨rf, z2, -⟩ := z2
              obtain ⟨⟨rf', y1, -⟩, -⟩ := q3
              rw [z, y1] at z2
              injection z2 with z2; injection z2 with z2; injection z2 with z2; injection z2 with z2; injection z2 with z2
              omega
            have p11 : u (20 + p) ≠ u 9 := fun z => by
              obtain ⟨rf, z2, -⟩ := z2
              obtain ⟨-, cap, el, y1, -⟩ := q3
              rw [z, y1] at z2; cases z2
            have pr : u (20 + p) ≠ r := fun z => by rw [z, kr] at z1; omega
            dsimp only
            rw [uo _ (by omega) (by omega), rowV_eq, hw (624 + 6 * p) (by omega) (by omega), hw (624 + 6 * p + 1) (by omega) (by omega), hw (624 + 6 * p + 2) (by omega) (by omega), hw (624 + 6 * p + 3) (by omega) (by omega), FS _ kn.2 p10 p11, F _ kn.2 pr p10, if_neg (by omega)]
            exact ⟨z1, z2, fun j hj => by rw [hw _ (by omega) (by omega)]; exact z3 j hj, z4⟩
        · rw [rowV_eq] at e
          have f0 := f_n 0 (by omega)
          rw [Nat.add_zero, if_pos rfl] at f0
          by_cases ep : p = np
          · by_cases eq : q = np
            · omega
            · rw [ep, f0, hw (624 + 6 * q) (by omega) (by omega)] at e
              exact absurd e.symm (hne' q (by omega))
          · by_cases eq : q = np
            · rw [eq, f0, hw (624 + 6 * p) (by omega) (by omega)] at e
              exact absurd e (hne' p (by omega))
            · rw [hw (624 + 6 * p) (by omega) (by omega), hw (624 + 6 * q) (by omega) (by omega)] at e
              exact q8 p q (by omega) (by omega) e
        · rw [rowV_eq, hw j (by omega) (by omega)]; exact q9 j (by omega) jb
        · rw [V5r, d4.2.1 9 (by omega), rowV_ne rn, p4.2.1 9 (by omega), c4.2.1 9 (by omega), w0 18 (by omega)]; exact f1
        · rw [V5r, d4.2.1 10 (by omega), rowV_ne rn, p4.2.1 10 (by omega), c4.2.1 10 (by omega), w0 19 (by omega)]; exact f2
        · have z := hz (u 0) (by rw [g1.2.1]; omega) (by rw [g1.2.1]; omega) (by rw [g1.2.1]; omega)
          rw [uo 0 (by omega) (by omega), z.2.1]; exact l1
        · rw [rowV_eq, hw 0 (by omega) (by omega)]; exact l2
        · dsimp only; rw [if_neg (by omega)]; exact kr
        · have := zr ms kms
          dsimp only; rw [if_neg (by omega)]; exact kms
        · have := zr bg kbg
          dsimp only; rw [if_neg (by omega)]; exact kbg
        · by_cases c : n ≤ x ∧ x < n5
          · omega
          · have hx : (if n ≤ x ∧ x < n5 then 5 else κ x) ≠ 0 := hx
            rw [if_neg c] at hx
            have := kk x hx
            omega
        · have zm := zr ms kms
          have zb := zr bg kbg
          rw [FS ms zm.1 zm.2.1 zm.2.2, FS bg zb.1 zb.2.1 zb.2.2]
          exact hm
      · right
        have dd := Fl_dead d1
        obtain ⟨x, Z', z1, z2⟩ := FL0_of (V20 := V2) (Sh0 := Sh) (V0 := V) (show N0 ≤ n + 1 by omega) rk.1 fr1 (TF_tr (TF_st c4) (TF_st p4)) d1 Dd_rf
        refine ⟨W3, z2 _ _ ?_, ?_⟩
        · rw [z1]; rfl
        · simp only [d2, bnd_S, un2_S, d_good dd, if_true]
    · right
      have dd := Fl_dead p1
      obtain ⟨x, Z', z1, z2⟩ := FL0_of (V20 := V2) (Sh0 := Sh) (V0 := V) kN rk.1 (Ps_fr h c4) (TF_st c4) p1 Dd_rf
      refine ⟨W2, z2 _ _ ?_, ?_⟩
      · rw [z1]; rfl
      · simp only [p2, bnd_S, un2_S, d_told dd, d_good dd, if_true]
  · right
    have dd := Fl_dead c1
    obtain ⟨x, Z', z1, z2⟩ := FL0_of kN rk.1 (fun a _ => ⟨rfl, rfl⟩) TF_rf c1 Dd_rf
    refine ⟨W1, z2 _ _ ?_, ?_⟩
    · rw [z1]; rfl
    · simp only [c2, bnd_S, un2_S, d_below dd, d_told dd, d_good dd, if_true]
end L9
