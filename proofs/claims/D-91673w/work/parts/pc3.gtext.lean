/-! PURE: text: both answer alike -/
set_option maxRecDepth 100000
theorem pBeg_c {w w' : Nat → Int32} (h : ∀ j, j < 810 → w' j = w j) {j : Nat} (hj : j < 810) : pBeg w' j = pBeg w j := by
  unfold pBeg
  rw [h 5 (by omega), h j hj]
section TX
variable {Sh Sh' : g_Sh} {V V' : g_V} {L L' : g_L} {n n' x : Nat} {m u mt q ρ : Nat → Nat} {V2 V2' : g_V} {L2 : g_L} {gp : Nat → Nat}
theorem FX_FN {t np nh : Nat} (h : FX Sh V n m t np nh) : FN Sh V n m np nh := by
  obtain ⟨⟨rf, h1, h2, h3⟩, h4⟩ := h
  exact ⟨⟨rf, h1, by rw [h2]; rfl, h3⟩, h4⟩
theorem gn_end (h : GN Sh V x q V2) (s3 : Sh' (q 3) = Sh (q 3)) (s4 : Sh' (q 4) = Sh (q 4)) (v3 : V' (q 3) = V (q 3)) (v4 : V' (q 4) = V (q 4)) (x5 : V' x 5 = 0) (x6 : V' x 6 = V2' 0 13) (x7 : V' x 7 = V2' 0 14) (x9 : V' x 9 = V x 9) (x10 : V' x 10 = V x 10) (w5 : V2' 5 = V2 5) (w33 : V2' 33 = V2 33) (a6 : V2' 0 6 = 0) (a34 : V2' 0 34 = V2 0 34) (a35 : V2' 0 35 = V2 0 35) : GN Sh' V' x q V2' := by
  obtain ⟨⟨b1, b2, b3⟩, -, h3, h4, h5⟩ := h
  refine ⟨⟨x6, x7, by rw [x10, a35]; exact b3⟩, ⟨0, by omega, x5, a6⟩, by rw [s3, v3, w5]; exact h3, by rw [s4]; exact h4, ?_⟩
  rw [x9, a34, v4, w33]; exact h5
/-- the component's own numbers as a text begins -/
theorem GG_txA (h : GG (Sh, V, L, n) x ρ m u mt q V2 L2) : GG (Sh, upd2 (upd2 V x 6 0) x 7 (-1), L, n) x ρ m u mt q (upd2 (upd2 V2 0 13 0) 0 14 (-1)) L2 := by
  have hO := h.2.2.2.2.2.2
  obtain ⟨o1, o2, o3, o4, o5, o6, o7⟩ := hO
  have hN : GN Sh V x q V2 := h.2.2.2.1
  have x3 : q 3 ≠ x := fun e => by rw [e] at o5; omega
  have x4 : q 4 ≠ x := fun e => by rw [e] at o6; omega
  refine GG_gn h (fun a a7 _ _ => ?_) ?_ (by rw [upd2_ne _ (by omega), upd2_ne _ (by omega)]) ⟨by rw [upd2_ne _ (by omega), upd2_ne _ (by omega)], by rw [upd2_ne _ (by omega), upd2_ne _ (by omega)], by rw [upd2_ne _ (by omega), upd2_ne _ (by omega)], by rw [upd2_ne _ (by omega), upd2_ne _ (by omega)]⟩
  · have : a ≠ x := fun e => a7 (by rw [e]; exact o2)
    rw [upd2_ne _ this, upd2_ne _ this]
  · obtain ⟨⟨b1, b2, b3⟩, h2, h3, h4, h5⟩ := hN
    refine ⟨⟨?_, ?_, ?_⟩, ?_, ?_, h4, ?_⟩
    · rw [upd2_eq, upd_ne (by omega), upd2_eq, upd_eq, upd2_eq, upd_ne (by omega), upd2_eq, upd_eq]
    · rw [upd2_eq, upd_eq, upd2_eq, upd_eq]
    · rw [upd2_eq, upd_ne (by omega), upd2_eq, upd_ne (by omega), upd2_eq, upd_ne (by omega), upd2_eq, upd_ne (by omega)]; exact b3
    · rw [upd2_eq, upd_ne (by omega), upd2_eq, upd_ne (by omega), upd2_eq, upd_ne (by omega), upd2_eq, upd_ne (by omega)]; exact h2
    · rw [upd2_ne _ x3, upd2_ne _ x3, upd2_ne _ (by omega), upd2_ne _ (by omega)]; exact h3
    · rw [upd2_eq, upd_ne (by omega), upd2_eq, upd_ne (by omega), upd2_eq, upd_ne (by omega), upd2_eq, upd_ne (by omega), upd2_ne _ x4, upd2_ne _ x4, upd2_ne _ (by omega), upd2_ne _ (by omega)]; exact h5
theorem tw_L123 : tw_text_L123 1000 0 V2 = some (rowV V2 1 (fun i => if i < 810 then V2 15 i else V2 1 i)) := by
  have hr := lp_run (F := tw_text_F123) (N := 810) (st := fun i => (nI i, rowV V2 1 (fun j => if j < i then V2 15 j else V2 1 j))) (out := rowV V2 1 (fun i => if i < 810 then V2 15 i else V2 1 i)) ?_ ?_ 1000 0 (by omega) (by omega)
  · have e0 : (fun j => if j < 0 then V2 15 j else V2 1 j) = V2 1 := by funext j; exact if_neg (by omega)
    rw [e0, rowV_self, nI_0] at hr
    exact hr
  · intro rec i hi
    have q2 : upd (fun j => if j < i then V2 15 j else V2 1 j) i (V2 15 i) = fun j => if j < i + 1 then V2 15 j else V2 1 j := by
      funext j
      by_cases e : j = i
      · subst e; rw [upd_eq, if_pos (by omega)]
      · rw [upd_ne e]
        by_cases c : j < i
        · rw [if_pos c, if_pos (by omega)]
        · rw [if_neg c, if_neg (by omega)]
    unfold tw_text_F123
    simp (disch := omega) only [tw_text_B123, rowV_ne, rowV_eq, L_add, L_addR, L_mul, L_mulR, L_div, N_div, N_rem, L_sub, L_subN, nI_add, nI_mul, L_le, L_leR, L_lt, L_ltR, L_eq, N_leT, N_leF, N_ltT, N_ltF, N_eqT, N_eqF, N_m1, bnd_S, un2_S, un3_S, nmI_S, nmL_S, ptI_S, cs2_L, cs2_R, okI_b, okI_1, okI_0, rdI_in, wrI_in, rdI_L, wrI_L, rdL_in, wrL_in, if_true, if_false, upd2_row, rowV_over, q2]
  · intro rec
    unfold tw_text_F123
    simp (disch := omega) only [tw_text_B123, L_add, L_addR, L_mul, L_mulR, L_div, N_div, N_rem, L_sub, L_subN, nI_add, nI_mul, L_le, L_leR, L_lt, L_ltR, L_eq, N_leT, N_leF, N_ltT, N_ltF, N_eqT, N_eqF, N_m1, bnd_S, un2_S, un3_S, nmI_S, nmL_S, ptI_S, cs2_L, cs2_R, okI_b, okI_1, okI_0, rdI_in, wrI_in, rdI_L, wrI_L, rdL_in, wrL_in, if_true, if_false]
theorem q_text (h : GG (Sh, V, L, n) x ρ m u mt q V2 L2) (hg : gpI gp) : Ans (cm_X0_text gp (Sh, V, L, n) x) (tw_text V2) x L2 := by
  obtain ⟨S1, V1, W1, sz, κ, e1, e2, P, fr, tf⟩ := text_go h hg
  obtain ⟨o, o', l1, l2, l3⟩ := lines (L := L) P hg
  have hA := GG_txA h
  have hO := h.2.2.2.2.2.2
  obtain ⟨o1, o2, o3, o4, o5, o6, o7⟩ := hO
  have o1 : ∀ a, ρ a ≠ 0 → a < n := o1
  have hN : GN Sh V x q V2 := h.2.2.2.1
  have xn : x < n := o1 x (by omega)
  have x3 : q 3 ≠ x := fun e => by rw [e] at o5; omega
  have x4 : q 4 ≠ x := fun e => by rw [e] at o6; omega
  have q3n := o1 (q 3) (by omega)
  have q4n := o1 (q 4) (by omega)
  have z1 : ¬ (1 : Int32) = 0 := by decide
  have V0n : ∀ a, a ≠ x → upd2 (upd2 V x 6 0) x 7 (-1) a = V a := fun a ha => by rw [upd2_ne _ ha, upd2_ne _ ha]
  have V0x : ∀ j, j ≠ 6 → j ≠ 7 → upd2 (upd2 V x 6 0) x 7 (-1) x j = V x j := fun j j6 j7 => by rw [upd2_eq, upd_ne j7, upd2_eq, upd_ne j6]
  have Aa : ∀ a, a ≠ 0 → upd2 (upd2 V2 0 13 0) 0 14 (-1) a = V2 a := fun a ha => by rw [upd2_ne _ ha, upd2_ne _ ha]
  have A0 : ∀ j, j ≠ 13 → j ≠ 14 → upd2 (upd2 V2 0 13 0) 0 14 (-1) 0 j = V2 0 j := fun j j6 j7 => by rw [upd2_eq, upd_ne j7, upd2_eq, upd_ne j6]
  rw [e1, e2, l1, l2, bnd_S, bnd_S]
  rcases l3 with ⟨Sa, Va, na, κa, ua, np, nh, nr, l, rfl, Pa, fra, tfa⟩ | hF
  · have hu : ua 0 = n + 3 := Pa.2.1
    have kk := Pa.2.2.2.2.2.1.2.2.2.2.2
    have hNa : n ≤ na := Pa.2.2.2.2.2.1.2.2.2.2.1
    have k0 : κa (ua 0) = 1 := Pa.2.2.1.1.2.1
    have u0n := kk (ua 0) (by omega)
    obtain ⟨l1', l2', l3', -⟩ := Pa.2.2.2.2.1
    have h13 : o' 0 13 = 0 := Pa.1.2.2.2.2.2.1
    obtain ⟨Sb, Vb, nb, κb, ub, Wb, g1, g2, g3, g4, g5, g6, g7, g8, g9⟩ := gr_all (L := L) Pa.2.2.1 kk hNa
    have tft := TF_tr tf tfa
    have lo : ∀ a, a < n → κa a = 0 := fun a ha => by
      by_cases c : κa a = 0
      · exact c
      · have := kk a c; omega
    have frb : ∀ a, a < n → Sb a = Sh a ∧ Vb a = upd2 (upd2 V x 6 0) x 7 (-1) a := fun a ha => by
      have p1 := g8 a (by omega) (by rw [lo a ha]; omega)
      have p2 := fra a ha
      have p3 := fr a ha
      exact ⟨by rw [p1.1, p2.1, p3.1], by rw [p1.2, p2.2, p3.2]⟩
    have hB : GG (Sb, Vb, L, nb) x ρ m u mt q (upd2 (upd2 V2 0 13 0) 0 14 (-1)) L2 := GG_scr hA (by omega) (fun a ha => (frb a ha).1) (fun a ha _ _ _ => (frb a ha).2) (fun _ _ => rfl) TwK_rf (fun _ _ => rfl)
    have hM : GM Sb x (m 0) (mt 0) q := hB.gm
    have mn : ∀ i, (i < 13 + pNp (V2 1) ∨ (31 ≤ i ∧ i < 31 + pNh (V2 1))) → m i < n := fun i hi => o1 _ (by rw [h.1.2.1 i hi]; omega)
    have V21 : upd2 (upd2 V2 0 13 0) 0 14 (-1) 1 = V2 1 := Aa 1 (by omega)
    have hX : FX Sb Vb nb m (u 0) (pNp (V2 1)) (pNh (V2 1)) := by
      have := FR_FX (ρ := ρ) (w := V2 1) (by rw [← V21]; exact hB.fr) h.inv.1 (fun i hi => by have := mn i hi; omega)
      exact this
    have Vbu : Vb (ub 0) 12 = Wb 15 0 := by
      rw [g5, (g8 _ u0n.2 (by omega)).2, l1', g3, l2']
    obtain ⟨S', V', n', m', b1, b2, b3, b4, b5, b6, b7⟩ := beg_Fld (L := L) (gp := gp) (FX_FN hX) g2 g4 Vbu (fun a ha => (g6 a ha).2) (fun a a1 a7 i hi e => by
      have := (g6 a (by omega)).1
      have := mn i hi
      omega)
    have hnb : n + 3 < nb := by omega
    have S'x : S' x = Sb x ∧ V' x = Vb x := b6 x (by omega) (fun i hi e => by have := h.1.2.1 i hi; rw [← e] at this; omega)
    have hM' : GM S' x (m 0) (mt 0) q := by
      unfold GM
      rw [S'x.1]
      exact hM
    have kb0 : κb (n + 3) = 1 := by rw [← hu, ← g5]; exact g2.1.2.1
    have S'u := b6 (n + 3) (by omega) (fun i hi e => by have := mn i hi; omega)
    have tI : ∀ (α : Type) (k : Int32 → Option α), cI S' V' (n + 3) 2 13 12 k = k (nI l) := fun α k => by
      obtain ⟨⟨rf, r1, -, -, -, -, -, -, r2⟩, -⟩ := g2.1
      rw [g5, hu] at r1
      have e : S' (n + 3) = some (d_obj 2 13 rf) := by rw [S'u.1]; exact r1
      rw [cI_eq e (r2 12 (by omega) (by omega)), S'u.2, ← hu, ← g5, Vbu, g3, l2']
    have f0 : FS0 Sb m (u 0) := hB.f0
    obtain ⟨w, hw⟩ : ∃ w, w = pBeg (fun i => if i < 810 then o' 15 i else o' 1 i) := ⟨_, rfl⟩
    refine ⟨nI l, (S', upd2 V' x 5 0, L, n'), rowV o' 1 w, ?_, ?_, ?_⟩
    · rw [← hu, cs2_L, g1, bnd_S, un2_S, bnd_S, cs2_L, un2_S]
      unfold txT
      rw [nn_eq]
      simp only [zSh_T, zV_T, zL_T, zn_T]
      rw [x_now hM, f_KT f0, ← g5, b1, bnd_S]
      simp only [zSh_T, zV_T, zL_T, zn_T]
      rw [g5, hu, tI, x_P hM' (by omega)]
    · unfold tw_text_J111 tw_good
      rw [if_pos h13, bnd_S, if_neg z1, tw_L123, bnd_S, tw_begins_eq, bnd_S]
      simp only [rowV_over, rowV_eq]
      rw [← hw]
      simp (disch := omega) only [rdI_L, rdI_in, rowV_eq]
      rw [hw, pBeg_o (by omega) (by omega) (by omega) (by omega), if_pos (by omega), l2']
    · obtain ⟨ρ', hρ'⟩ : ∃ ρ' : Nat → Nat, ρ' = fun a => if nb ≤ a ∧ a < n' then 2 else if n ≤ a ∧ a < nb ∧ 1 ≤ κb a ∧ κb a ≤ 7 then 1 else ρ a := ⟨_, rfl⟩
      have rlo : ∀ a, a < n → ρ' a = ρ a := fun a ha => by rw [hρ']; dsimp only; rw [if_neg (by omega), if_neg (by omega)]
      have hC : GG (S', V', L, n') x ρ' m' ub mt q (rowV (upd2 (upd2 V2 0 13 0) 0 14 (-1)) 1 w) L2 := by
        refine GG_nw hB b2 (fun a ha h2 => b6 a ha (fun i hi e => h2 (by rw [e]; exact h.1.2.1 i hi))) (fun a ha => rlo a (o1 a ha)) (fun a ha => ?_) ?_ b3 ⟨rowV_ne (by omega), rowV_ne (by omega), rowV_ne (by omega), rowV_ne (by omega), rowV_ne (by omega), rowV_ne (by omega), by rw [rowV_ne (by omega)], by rw [rowV_ne (by omega)], by rw [rowV_ne (by omega)], by rw [rowV_ne (by omega)], by rw [rowV_ne (by omega)]⟩
        · rw [hρ'] at ha
          dsimp only at ha
          by_cases c : nb ≤ a ∧ a < n'
          · exact c.2
          · rw [if_neg c] at ha
            by_cases d : n ≤ a ∧ a < nb ∧ 1 ≤ κb a ∧ κb a ≤ 7
            · omega
            · rw [if_neg d] at ha
              have := o1 a ha
              omega
        · rw [rowV_eq, hw]
          refine Fld_w (b7 ρ' 2 (by omega) (fun a a1 a7 => ?_) (fun i hi => ?_) (fun a a1 a2 => ?_)) (fun j hj => pBeg_c (fun i hi => by rw [if_pos hi, g3]) hj)
          · have := g6 a (by omega)
            rw [hρ']; dsimp only; rw [if_neg (by omega), if_pos (by omega)]
          · rw [rlo _ (mn i (by omega))]; exact h.1.2.1 i (by omega)
          · rw [hρ']; dsimp only; rw [if_pos ⟨a1, a2⟩]
      refine GG.g (GG_gn hC (fun a a7 _ _ => upd2_ne _ (fun e => a7 (by rw [e, rlo x xn]; exact o2))) ?_ (by rw [rowV_eq, rowV_eq]) ⟨?_, ?_, ?_, ?_⟩)
      · have nq : ∀ a, a < n → ρ a ≠ 2 → S' a = Sh a ∧ V' a = upd2 (upd2 V x 6 0) x 7 (-1) a := fun a ha h2 => by
          have p := b6 a (by omega) (fun i hi e => h2 (by rw [e]; exact h.1.2.1 i hi))
          exact ⟨p.1.trans (frb a ha).1, p.2.trans (frb a ha).2⟩
        have n3 := nq _ q3n (by omega)
        have n4 := nq _ q4n (by omega)
        have nx := nq _ xn (by omega)
        have ne : ∀ a, a ≠ 1 → rowV o' 1 w a = o' a := fun a ha => rowV_ne ha
        have t14 : o' 0 14 = -1 := by
          rw [tft.2 14 (Or.inr (Or.inr ⟨h13, Or.inr rfl⟩)), tx0_0]; simp (disch := omega) only [upd_ne, upd_eq]
        refine gn_end hN n3.1 n4.1 ?_ ?_ ?_ ?_ ?_ ?_ ?_ ?_ ?_ ?_ ?_ ?_
        · rw [upd2_ne _ x3, n3.2, V0n _ x3]
        · rw [upd2_ne _ x4, n4.2, V0n _ x4]
        · rw [upd2_eq, upd_eq]
        · rw [upd2_eq, upd_ne (by omega), nx.2, upd2_eq, upd_ne (by omega), upd2_eq, upd_eq, ne 0 (by omega), h13]
        · rw [upd2_eq, upd_ne (by omega), nx.2, upd2_eq, upd_eq, ne 0 (by omega), t14]
        · rw [upd2_eq, upd_ne (by omega), nx.2, V0x 9 (by omega) (by omega)]
        · rw [upd2_eq, upd_ne (by omega), nx.2, V0x 10 (by omega) (by omega)]
        · rw [ne 5 (by omega), tft.1 5 (by omega) (by omega) (by omega) (by omega), tx0_a (by omega) (by omega) (by omega) (by omega)]
        · rw [ne 33 (by omega), tft.1 33 (by omega) (by omega) (by omega) (by omega), tx0_a (by omega) (by omega) (by omega) (by omega)]
        · rw [ne 0 (by omega), tft.2 6 (by omega), tx0_0]; simp (disch := omega) only [upd_ne, upd_eq]
        · rw [ne 0 (by omega), tft.2 34 (by omega), tx0_0]; simp (disch := omega) only [upd_ne]
        · rw [ne 0 (by omega), tft.2 35 (by omega), tx0_0]; simp (disch := omega) only [upd_ne]
      all_goals rw [rowV_ne (by omega), rowV_ne (by omega), tft.1 _ (by omega) (by omega) (by omega) (by omega), tx0_a (by omega) (by omega) (by omega) (by omega), Aa _ (by omega)]
  · have hFd := FL0_dead hF
    obtain ⟨y, Z', k, f, ho, ⟨rf, r1, r6, r7⟩, v6, v7, hn, hfr, w13, w14, hk0, tfd⟩ := hF
    have ho : o = .inr (y, Z') := Option.some.inj ho
    subst ho
    obtain ⟨S', V', L', n'⟩ := Z'
    simp only [zSh_T, zV_T, zL_T, zn_T] at r1 v6 v7 hn hfr
    have tft := TF_tr tf tfd
    have hB : GG (S', V', L', n') x ρ m u mt q (upd2 (upd2 V2 0 13 0) 0 14 (-1)) L2 := GG_scr hA hn (fun a ha => by rw [(hfr a ha).1, (fr a ha).1]) (fun a ha _ _ _ => by rw [(hfr a ha).2.1, (fr a ha).2]) (fun a ha => (hfr a ha).2.2) TwK_rf (fun _ _ => rfl)
    have hM : GM S' x (m 0) (mt 0) q := hB.gm
    have yx : y ≠ x := fun e => by
      obtain ⟨rx, m1, -⟩ := hM
      rw [e, m1] at r1
      injection r1 with r1; injection r1 with r1; injection r1 with r1; injection r1 with r1; injection r1 with r1
      omega
    refine ⟨-4, (S', upd2 (upd2 (upd2 V' x 6 k) x 7 f) x 5 0, L', n'), o', ?_, ?_, ?_⟩
    · rw [cs2_R, un2_S, bnd_S, cs2_R, un2_S]
      unfold txW
      rw [zK_T r1]
      simp only [zSh_T, zV_T, zL_T, zn_T]
      rw [cI_eq r1 r6, v6, x_P hM (by omega)]
      simp only [zSh_T, zV_T, zL_T, zn_T]
      rw [cI_eq r1 r7, upd2_ne _ yx, v7, x_P hM (by omega), x_P hM (by omega)]
    · unfold tw_text_J111
      rw [d_good hFd, bnd_S, if_pos rfl]
    · refine GG.g (GG_gn hB (fun a a7 _ _ => ?_) ?_ ?_ ⟨?_, ?_, ?_, ?_⟩)
      · have : a ≠ x := fun e => a7 (by rw [e]; exact o2)
        rw [upd2_ne _ this, upd2_ne _ this, upd2_ne _ this]
      · have nq : ∀ a, a < n → S' a = Sh a ∧ V' a = upd2 (upd2 V x 6 0) x 7 (-1) a := fun a ha => ⟨by rw [(hfr a ha).1, (fr a ha).1], by rw [(hfr a ha).2.1, (fr a ha).2]⟩
        have n3 := nq _ q3n
        have n4 := nq _ q4n
        have nx := nq _ xn
        refine gn_end hN n3.1 n4.1 ?_ ?_ ?_ ?_ ?_ ?_ ?_ ?_ ?_ ?_ ?_ ?_
        · rw [upd2_ne _ x3, upd2_ne _ x3, upd2_ne _ x3, n3.2, V0n _ x3]
        · rw [upd2_ne _ x4, upd2_ne _ x4, upd2_ne _ x4, n4.2, V0n _ x4]
        · rw [upd2_eq, upd_eq]
        · rw [upd2_eq, upd_ne (by omega), upd2_eq, upd_ne (by omega), upd2_eq, upd_eq, w13]
        · rw [upd2_eq, upd_ne (by omega), upd2_eq, upd_eq, w14]
        · rw [upd2_eq, upd_ne (by omega), upd2_eq, upd_ne (by omega), upd2_eq, upd_ne (by omega), nx.2, V0x 9 (by omega) (by omega)]
        · rw [upd2_eq, upd_ne (by omega), upd2_eq, upd_ne (by omega), upd2_eq, upd_ne (by omega), nx.2, V0x 10 (by omega) (by omega)]
        · rw [tft.1 5 (by omega) (by omega) (by omega) (by omega), tx0_a (by omega) (by omega) (by omega) (by omega)]
        · rw [tft.1 33 (by omega) (by omega) (by omega) (by omega), tx0_a (by omega) (by omega) (by omega) (by omega)]
        · rw [tft.2 6 (by omega), tx0_0]; simp (disch := omega) only [upd_ne, upd_eq]
        · rw [tft.2 34 (by omega), tx0_0]; simp (disch := omega) only [upd_ne]
        · rw [tft.2 35 (by omega), tx0_0]; simp (disch := omega) only [upd_ne]
      all_goals rw [tft.1 _ (by omega) (by omega) (by omega) (by omega), tx0_a (by omega) (by omega) (by omega) (by omega), Aa _ (by omega)]
end TX
