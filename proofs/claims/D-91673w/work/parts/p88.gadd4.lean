/-! PURE: one more pipe is tried: the component's turn -/
set_option maxRecDepth 100000
section AT2
variable {Sh Sh' : g_Sh} {V V' : g_V} {L L' : g_L} {n n' x : Nat} {m u mt q ρ : Nat → Nat} {V2 : g_V} {L2 : g_L} {w : Nat → Int32} {gp : Nat → Nat} {s N : Nat} {set nn' : Int32}
theorem Row_k {b wd : Nat} {g : Nat → Int64} (h : Row Sh V L b wd N g) (h1 : Sh' b = Sh b) (h2 : V' b = V b) (h3 : L' b = L b) : Row Sh' V' L' b wd N g := by
  unfold Row
  rw [h1, h2, h3]
  exact h
/-- a slot that holds numbers -/
theorem x_slot (h : GG (Sh, V, L, n) x ρ m u mt q V2 L2) (hs : s < 4) (hN : N ≤ 60) (h36 : V2 36 s = nI N) : ∃ wd b rf, Sh (q (5 + s)) = some (d_obj 7 1 rf) ∧ rf 0 = some (some b) ∧ ρ b = 16 + s ∧ Row Sh V L b wd N (fun i => L2 38 (60 * s + i)) := by
  have hS := h.2.2.2.2.1.2 s hs
  simp only [zSh_T, zV_T, zL_T, zn_T] at hS
  rcases hS with ⟨h1, -⟩ | ⟨N', wd, b, rf, h1, h2, h3, h4, h5, h6, h7, h8⟩
  · rw [h36] at h1
    exact absurd h1 (by rw [N_m1 (by omega)]; exact id)
  · have e : N = N' := by
      rw [h36] at h2
      exact (nI_eq (by omega) (by omega)).mp h2
    subst e
    exact ⟨wd, b, rf, h5, h6, h7, h8⟩
theorem cm_add_1 {i : Nat} (hG : GG (Sh, V, L, n) x ρ m u mt q V2 L2) (hT : Tc Sh V L n ρ mt u V w) (hs : s < 4) (hN : N ≤ 60) (h36 : V2 36 s = nI N) (hi : i < N) (h18 : pNp w < 18) (h0 : 0 < pNp (V2 1)) (hw : w 625 = V2 1 625 ∧ w 626 = V2 1 626) (hgood : pGood (pAdd w (L2 38 (60 * s + i)).toInt32)) (hb : ((set >>> (nI i &&& 31)) &&& 1) = 1) : ∃ Sh' V' n' ρ' mt', (∀ rec, cm_X0_shutsBy_F32 gp x (q (5 + s)) set nn' (m 13) rec (nI i, (Sh, V, L, n)) = rec (nI (i + 1), (Sh', V', L, n'))) ∧ GG (Sh', V', L, n') x ρ' m u mt' q V2 L2 ∧ mt' 0 = mt 0 ∧ Tc Sh' V' L n' ρ' mt' u V' (pAdd w (L2 38 (60 * s + i)).toInt32) := by
  have hM : GM Sh x (m 0) (mt 0) q := hG.gm
  have o1 : ∀ a, ρ a ≠ 0 → a < n := hG.2.2.2.2.2.2.1
  have o7 := hG.2.2.2.2.2.2.2.2.2.2.2.2 s hs
  obtain ⟨wd, b, rf, s1, s2, s3, s4⟩ := x_slot hG hs hN h36
  obtain ⟨t1, t2, t3, t4⟩ := hT
  have hF : FS0 Sh mt (u 0) := t1.1.1.1
  have hP : FSp Sh mt (pNp w) (pNh w) := t1.2.1
  have hi' := t1.1.2.1
  have hl : ∀ i, (i < 13 + pNp w ∨ (31 ≤ i ∧ i < 31 + pNh w)) → mt i < n := fun i hi => o1 _ (by rw [t4 i hi]; omega)
  have han : q (5 + s) ≠ n := by have := o1 (q (5 + s)) (by omega); omega
  have hbn : b ≠ n := by have := o1 b (by omega); omega
  have m13n : m 13 ≠ n := by have := o1 (m 13) (by rw [hG.ow (i := 13) (by omega)]; omega); omega
  have hFn := hG.fr
  obtain ⟨rp, p1, p2⟩ := hFn.2.1.2.2.1 0 h0
  have p1 : Sh (m 13) = some (d_obj 5 6 rp) := p1
  have v1 : V (m 13) 1 = V2 1 625 := hFn.2.2.2.2.1 0 1 h0 (by omega)
  have v2 : V (m 13) 2 = V2 1 626 := hFn.2.2.2.2.1 0 2 h0 (by omega)
  have hrc : ∀ i, i < 6 → zrf tyX5 i = none := by decide
  have e1 : updS Sh n (d_obj 5 6 (zrf tyX5)) (q (5 + s)) = some (d_obj 7 1 rf) := by rw [updS_ne han]; exact s1
  have e2 : updS Sh n (d_obj 5 6 (zrf tyX5)) (m 13) = some (d_obj 5 6 rp) := by rw [updS_ne m13n]; exact p1
  have e3 : updS Sh n (d_obj 5 6 (zrf tyX5)) n = some (d_obj 5 6 (zrf tyX5)) := updS_eq
  have sm := s_many (n := n) s1 s2 hN s4
  have R1 : ∀ f, Row (updS Sh n (d_obj 5 6 (zrf tyX5))) (rowV V n f) L b wd N (fun i => L2 38 (60 * s + i)) := fun f => Row_k s4 (updS_ne hbn) (rowV_ne hbn) rfl
  have sn := s_number (n := n + 1) e1 s2 hN (R1 (fun _ => 0)) hi
  have c1 : rowV V n (fun _ => 0) (m 13) = V (m 13) := rowV_ne m13n
  -- the list
  have l5 : mt 5 ≠ n := by have := hl 5 (by omega); omega
  have l11 : mt 11 ≠ n := by have := hl 11 (by omega); omega
  have LS : LSt (updS Sh n (d_obj 5 6 (zrf tyX5))) (mt 5) (mt 11) (pNp w) (fun p => mt (13 + p)) := LSt_k hP.1 (updS_ne l5) (updS_ne l11)
  have hv2 : V (mt 5) 2 = nI (pNp w) := by
    have : V (mt 5) 2 = w 2 := t1.2.2.2.1.1
    rw [this]; exact t2.2.1.1
  obtain ⟨e', Sh2, Va, n2, a1, a2, a3, a4, a5, a6⟩ := l_add (gp := gp) (L := L) (V := rowV V n (upd (upd (upd (upd (fun _ => 0) 3 1) 0 (L2 38 (60 * s + i)).toInt32) 1 (V2 1 625)) 2 (V2 1 626))) (x := n) (n := n + 1) LS (by rw [rowV_ne l5]; exact hv2) (by omega) ⟨5, 6, _, e3, by omega⟩ (fun p hp => by
      obtain ⟨r, r1, -⟩ := hP.2.2.1 p hp
      exact ⟨5, 6, r, by rw [updS_ne (by have := hl (13 + p) (by omega); omega)]; exact r1, by omega⟩) (by have := hl 5 (by omega); omega) (by have := hl 11 (by omega); omega) (by omega) (fun p hp => by have := hl (13 + p) (by omega); omega)
  have n2c : n + 1 ≤ n2 ∧ (e' = mt 11 ∨ e' = n + 1) ∧ e' < n2 := by
    have := hl 11 (by omega)
    rcases a4 with ⟨z1, z2⟩ | ⟨z1, z2⟩ <;> omega
  have nn5 : n ≠ mt 5 := fun z => l5 z.symm
  have nn11 : n ≠ mt 11 := fun z => l11 z.symm
  have z1 : ∀ a, ρ a = 1 → a < n := fun a ha => o1 a (by omega)
  have Fz1 := FR_add (L' := L) (n' := n2) (Fz := fun a => ρ a = 1) (c := (L2 38 (60 * s + i)).toInt32) t1 t2 h18 hl z1 a2 a3 n2c.2.1 (fun a ha b5 b11 => by rw [a6 a b5 b11 (by omega), updS_ne (by omega)]) (fun a ha b5 => by rw [a5 a b5, rowV_ne (by omega)]) ⟨zrf tyX5, by rw [a6 n nn5 nn11 (by omega), updS_eq], hrc⟩ (fun j hj => by
    rw [a5 n nn5, rowV_eq, pAdd_k j hj, ← hw.1, ← hw.2]
    have h6 : j = 0 ∨ j = 1 ∨ j = 2 ∨ j = 3 ∨ j = 4 ∨ j = 5 := by omega
    rcases h6 with rfl | rfl | rfl | rfl | rfl | rfl <;> simp (disch := omega) [upd_eq, upd_ne])
  obtain ⟨F1, F2⟩ := Fz1
  have en := pAdd_np (c := (L2 38 (60 * s + i)).toInt32) h18
  have r1 : ∀ a, ρ a = 1 → (if n ≤ a ∧ a < n2 then 3 else ρ a) = 1 := fun a ha => by rw [if_neg (by have := z1 a ha; omega)]; exact ha
  have fo : ∀ i, (i < 13 + (pNp w + 1) ∨ (31 ≤ i ∧ i < 31 + pNh w)) → (if n ≤ mAdd mt (pNp w) e' n i ∧ mAdd mt (pNp w) e' n i < n2 then 3 else ρ (mAdd mt (pNp w) e' n i)) = 3 := by
    intro i hi
    have h6 := t2.2.2.1.2.1
    unfold mAdd
    by_cases c11 : i = 11
    · rw [if_pos c11]
      rcases n2c.2.1 with z | z
      · rw [z, if_neg (by have := hl 11 (by omega); omega)]; exact t4 11 (by omega)
      · rw [if_pos (by omega)]
    · rw [if_neg c11]
      by_cases c13 : i = 13 + pNp w
      · rw [if_pos c13, if_pos (by omega)]
      · rw [if_neg c13, if_neg (by have := hl i (by omega); omega)]
        exact t4 i (by omega)
  have fl : ∀ i, (i < 13 + (pNp w + 1) ∨ (31 ≤ i ∧ i < 31 + pNh w)) → mAdd mt (pNp w) e' n i < n2 := by
    intro i hi
    unfold mAdd
    by_cases c11 : i = 11
    · rw [if_pos c11]; omega
    · rw [if_neg c11]
      by_cases c13 : i = 13 + pNp w
      · rw [if_pos c13]; omega
      · rw [if_neg c13]
        have := hl i (by omega)
        omega
  have hFR : FR (Sh2, Va, L, n2) (mAdd mt (pNp w) e' n) u (fun a => (if n ≤ a ∧ a < n2 then 3 else ρ a) = 1) (pAdd w (L2 38 (60 * s + i)).toInt32) := FR_k F1 (fun _ _ => rfl) (fun _ _ _ _ _ => rfl) (fun _ _ => ⟨rfl, rfl⟩) r1 (fun i hi => by rw [fo i (by rw [en, F2] at hi; exact hi)]; omega)
  have k0 : mAdd mt (pNp w) e' n 0 = mt 0 := by unfold mAdd; rw [if_neg (by omega), if_neg (by omega)]
  refine ⟨Sh2, Va, n2, fun a => if n ≤ a ∧ a < n2 then 3 else ρ a, mAdd mt (pNp w) e' n, fun rec => ?_, GG_tri hG (by omega) (fun a ha h3 => ?_) k0 ⟨u 0, _, _, FR_FX (ρ := fun a => if n ≤ a ∧ a < n2 then 3 else ρ a) hFR hgood (by rw [en, F2]; exact fl), by rw [en, F2]; exact fo⟩ TwK_rf (fun _ _ => rfl), k0, hFR, hgood, fun _ _ => rfl, by rw [en, F2]; exact fo⟩
  · have l_KK : ∀ (α : Type) (k : Option α) (V : g_V), zK (updS Sh n (d_obj 5 6 (zrf tyX5)), V, L, n + 1) (mt 5) 14 3 k = k := fun α k V => l_K LS
    unfold cm_X0_shutsBy_F32
    simp (disch := omega) only [cm_X0_shutsBy_B32, zK_T s1, sm, zSh_T, zV_T, zL_T, zn_T, L_add, L_addR, L_mul, L_mulR, L_div, N_div, N_rem, L_sub, L_subN, nI_add, nI_mul, L_le, L_leR, L_lt, L_ltR, L_eq, N_leT, N_leF, N_ltT, N_ltF, N_eqT, N_eqF, N_m1, bnd_S, un2_S, un3_S, nmI_S, nmL_S, ptI_S, cs2_L, cs2_R, okI_b, okI_1, okI_0, rdI_in, wrI_in, rdI_L, wrI_L, rdL_in, wrL_in, if_true, if_false, hb, if_true, x_tri hM, f_A hF, zNew, zK_T e1, sn, cI_eq e2 (p2 _ _), c1, v1, v2]
    unfold cm_X5_init
    simp (disch := decide) only [zPI_T e3 (hrc _ _), upd2_row, rowV_eq, rowV_over, bnd_S, l_KK, a1, un2_S]
  · have n5 : a ≠ mt 5 := fun e => h3 (by rw [e]; exact t4 5 (by omega))
    have n11 : a ≠ mt 11 := fun e => h3 (by rw [e]; exact t4 11 (by omega))
    exact ⟨by rw [a6 a n5 n11 (by omega), updS_ne (by omega)], by rw [a5 a n5, rowV_ne (by omega)]⟩
end AT2
