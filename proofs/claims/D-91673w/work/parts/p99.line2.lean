/-! PURE: a text is read: lines far, cold, stream -/
set_option maxRecDepth 100000
section L2
variable {Sh : g_Sh} {V : g_V} {L : g_L} {n N0 r tp ms bg sz td np nh nr lc lt : Nat} {V2 : g_V} {κ u : Nat → Nat} {gp : Nat → Nat}
theorem td_P {w' : Nat → Int32} (h : G1 Sh V κ u w') {α : Type} {W : g_V} {i : Nat} (h6 : 6 ≤ i) (h12 : i ≤ 12) {y : Int32} {k : c_S → Option α} : zPI (Sh, W, L, n) (u 0) 2 13 i y k = k (Sh, upd2 W (u 0) i y, L, n) := by
  obtain ⟨⟨rf, h1, -, -, -, -, -, -, h2⟩, -⟩ := h
  exact zPI_T h1 (h2 i h6 h12)
theorem td_I {w' : Nat → Int32} (h : G1 Sh V κ u w') {α : Type} {W : g_V} {i : Nat} (h6 : 6 ≤ i) (h12 : i ≤ 12) {k : Int32 → Option α} : cI Sh W (u 0) 2 13 i k = k (W (u 0) i) := by
  obtain ⟨⟨rf, h1, -, -, -, -, -, -, h2⟩, -⟩ := h
  exact cI_eq h1 (h2 i h6 h12)
theorem l_far (h : Ps gp N0 Sh V n V2 r tp ms bg sz td κ u np nh nr lc lt) : OL gp N0 Sh V L V2 r tp ms bg sz td lc lt (bnd (cm_X3_number gp (Sh, V, L, n) r 1 300) (cs2 (un2 fun x_29 Z_30 => zPI Z_30 td 2 13 6 x_29 fun Z_34 => zPI Z_34 r 3 11 9 1 fun Z_35 => some (.inl Z_35)) (un2 fun x_31 Z_32 => some (.inr (x_31, Z_32))))) (bnd (tw_number (upd2 V2 0 18 1) 1 300) (un2 fun x V => wrI V 15 810 5 x fun V' => some V')) := by
  have hP := h
  obtain ⟨h1, rfl, h2, ⟨f1, f2⟩, ⟨l1, l2, l3, l4⟩, ⟨kr, kms, kbg, ktp, kN, kk⟩, hm⟩ := h
  have rk := kk r (by omega)
  have hR : RW Sh V r tp ms bg (upd2 V2 0 18 1) sz := RW_w h1 (upd2_ne _ (by omega)) (fun j hj => by rw [upd2_eq, upd_ne (by omega)])
  have tfa : TF V2 (upd2 V2 0 18 1) := ⟨fun a a0 _ _ _ => upd2_ne _ a0, fun j hj => by rw [upd2_eq, upd_ne (by omega)]⟩
  have hro := h1.1
  rcases t_number (gp := gp) (L := L) (lo := 1) (hi := 300) hR rk.2 (by decide) (by decide) with ⟨v, V', V2', c1, c2, ⟨y, c3, c6, c7⟩, c4, c5⟩ | ⟨Vb, c1, c2⟩
  · have k0 : κ (u 0) = 1 := h2.1.2.1
    have u0r : u 0 ≠ r := fun e => by rw [e, kr] at k0; omega
    have rt : tp ≠ r := h1.2.1.2.2.1
    have u0t : tp ≠ u 0 := by have := (kk (u 0) (by omega)).1; omega
    have T1 : Td Sh V' κ u V2' np nh nr := Td_tok h2 kr c4.1 (by rw [c4.2.2.1 15 (by omega), upd2_ne _ (by omega)]) (by rw [c4.2.2.1 16 (by omega), upd2_ne _ (by omega)]) (by rw [c4.2.2.1 17 (by omega), upd2_ne _ (by omega)])
    obtain ⟨g1, g2, g3, g4, g5, g6, g7, g8⟩ := T1
    have e300 : (300 : Int32).toInt = 300 := rfl
    have e1 : (1 : Int32).toInt = 1 := rfl
    left
    refine ⟨Sh, upd2 (upd2 V' (u 0) 6 v) r 9 1, n, upd2 V2' 15 5 v, κ, u, np, nh, nr, ?_, ?_, ⟨RW_w (V2 := V2') (RW_s c5 ⟨rfl, rfl⟩ ⟨fun j hj => ?_, ?_⟩) (upd2_ne _ (by omega)) (fun j hj => by rw [upd2_ne _ (by omega)]), rfl, ⟨?_, ?_, ?_, ?_, ?_, ?_, ?_, ?_⟩, ⟨?_, ?_⟩, ⟨?_, ?_, l3, l4⟩, ⟨kr, kms, kbg, ktp, kN, kk⟩, hm⟩, fun a ha => ⟨rfl, ?_⟩, TF_tr tfa (TF_tr (TF_st c4) (TF_r (by omega)))⟩
    · simp (disch := omega) only [c1, bnd_S, cs2_L, un2_S, td_P g1, r_P hro]
    · simp (disch := omega) only [c2, bnd_S, un2_S, wrI_L, wrI_in]
    · rw [upd2_eq, upd_ne (by omega), upd2_ne _ (Ne.symm u0r)]
    · rw [upd2_ne _ rt, upd2_ne _ u0t]
    · have vv : upd2 (upd2 V' (u 0) 6 v) r 9 1 (u 0) = upd (V' (u 0)) 6 v := by rw [upd2_ne _ u0r, upd2_eq]
      obtain ⟨a1, a2, a3, a4, a5, a6, a7⟩ := g1
      refine ⟨a1, a2, ?_, ?_, ?_, ⟨y, ?_, by omega, by omega⟩, ?_⟩
      · rw [vv, upd_eq, upd2_eq, upd_eq]
      · rw [vv, upd_ne (by omega), upd2_eq, upd_ne (by omega)]; exact a4
      · rw [vv, upd_ne (by omega), upd_ne (by omega), upd_ne (by omega), upd_ne (by omega), upd2_eq, upd_ne (by omega), upd_ne (by omega), upd_ne (by omega), upd_ne (by omega), upd_ne (by omega)]; exact a5
      · rw [upd2_eq, upd_eq]; exact c3
      · rw [upd2_eq, upd_ne (by omega)]; exact a7
    all_goals have hz : ∀ k, k ≠ 1 → k ≠ 8 → ∀ a, κ a = k → Sh a = Sh a ∧ upd2 (upd2 V' (u 0) 6 v) r 9 1 a = V' a ∧ κ a = κ a := fun k k1 k8 a ha => ⟨rfl, by rw [upd2_ne _ (fun e => by rw [e] at ha; omega), upd2_ne _ (fun e => by rw [e] at ha; omega)], rfl⟩
    all_goals have hw : ∀ j, j ≠ 5 → upd2 V2' 15 5 v 15 j = V2' 15 j := fun j hj => by rw [upd2_eq, upd_ne hj]
    · exact G2_k g2 (hz 2 (by omega) (by omega)) (fun _ _ => rfl) (fun j _ _ => hw j (by omega)) (fun g _ => by rw [upd2_ne _ (by omega)])
    · exact G3_k g3 (hz 3 (by omega) (by omega)) rfl (fun j _ _ => hw j (by omega))
    · exact G4_k g4 (hz 4 (by omega) (by omega)) rfl (fun j _ _ => hw j (by omega)) (fun g _ => by rw [upd2_ne _ (by omega)])
    · exact G5_k g5 (hz 5 (by omega) (by omega)) (fun _ _ => rfl) (fun j _ => hw j (by omega))
    · exact G6_k g6 (hz 6 (by omega) (by omega)) (fun _ _ => rfl) (fun j _ => hw j (by omega))
    · exact G7_k g7 (hz 7 (by omega) (by omega)) (fun _ _ => rfl) (fun j _ => hw j (by omega))
    · intro j hj
      rw [hw j (by omega)]; exact g8 j hj
    · rw [upd2_eq, upd_eq, upd2_ne _ (by omega), c4.2.2.2 18 (by omega), upd2_eq, upd_eq]
    · rw [upd2_eq, upd_ne (by omega), upd2_ne _ (Ne.symm u0r), upd2_ne _ (by omega), c4.2.1 10 (by omega), c4.2.2.2 19 (by omega), upd2_eq, upd_ne (by omega)]; exact f2
    · rw [upd2_ne _ u0r, upd2_eq, upd_ne (by omega), c4.1 _ u0r]; exact l1
    · rw [hw 0 (by omega), c4.2.2.1 15 (by omega), upd2_ne _ (by omega)]; exact l2
    · rw [upd2_ne _ (by omega), upd2_ne _ (by have := (kk (u 0) (by omega)).1; omega), c4.1 a (by omega)]
  · right
    have dd := Fl_dead c1
    obtain ⟨x, Z', q1, q2⟩ := FL0_of kN rk.1 (fun a _ => ⟨rfl, rfl⟩) tfa c1 (Dd_r (V2 := Vb) (g := upd (Vb 15) 5 0) (a := 15) (by omega))
    refine ⟨_, q2 _ _ ?_, ?_⟩
    · simp only [q1, bnd_S, cs2_R, un2_S]
    · simp (disch := omega) only [c2, bnd_S, un2_S, wrI_L, wrI_in]
      rfl
end L2
