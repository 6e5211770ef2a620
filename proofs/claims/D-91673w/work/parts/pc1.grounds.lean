/-! PURE: a text is read: grounds that were not told -/
set_option maxRecDepth 100000
section GR
variable {S : g_Sh} {V : g_V} {L : g_L} {n N0 np nh nr : Nat} {W : g_V} {κ u : Nat → Nat}
theorem gr_step {i : Nat} (hT : Td S V κ u W np nh nr) (hi : i < 4) (kk : ∀ a, κ a ≠ 0 → N0 ≤ a ∧ a < n) (hN : N0 ≤ n) : ∃ S' V' n' κ' u' gs', (∀ rec, cm_X3_whole_F2 (u 0) rec (nI i, (S, V, L, n)) = rec (nI (i + 1), (S', V', L, n'))) ∧ Td S' V' κ' u' (rowV W 16 gs') np nh nr ∧ u' 0 = u 0 ∧ gs' i = 1 ∧ (∀ g, g ≠ i → gs' g = W 16 g) ∧ (∀ a, κ' a ≠ 0 → N0 ≤ a ∧ a < n') ∧ n ≤ n' ∧ (∀ a, a < n → κ a ≠ 2 → S' a = S a ∧ V' a = V a) ∧ ∀ a, a < n → κ' a = κ a := by
  have g1 := hT.1
  obtain ⟨q1, ge, q2, q3⟩ := hT.2.1
  rcases q3 i hi with ⟨b1, b2, b3, b4, b5, b6⟩ | ⟨b1, b2, b3⟩
  · have n1' := kk (u 1) (by omega)
    have u1n : u 1 ≠ n := by omega
    have hrc : ∀ i, i < 4 → zrf tyX4 i = none := by decide
    have hs : ∀ a, a ≠ n → updS S n (d_obj 4 4 (zrf tyX4)) a = S a := fun a ha => updS_ne ha
    have en : updS S n (d_obj 4 4 (zrf tyX4)) n = some (d_obj 4 4 (zrf tyX4)) := updS_eq
    have eu : updS S n (d_obj 4 4 (zrf tyX4)) (u 1) = some (d_ref 8 4 ge) := by rw [hs _ u1n]; exact q2
    obtain ⟨Vi, eVi⟩ : ∃ Vi, Vi = upd2 (upd2 (upd2 (upd2 (rowV V n (fun _ => 0)) n 0 10) n 1 15) n 2 100) n 3 0 := ⟨_, rfl⟩
    have Vi_ne : ∀ x, x ≠ n → Vi x = V x := fun x hx => by rw [eVi, upd2_ne _ hx, upd2_ne _ hx, upd2_ne _ hx, upd2_ne _ hx, rowV_ne hx]
    have za : ∀ W, zAl [4] (updS S n (d_obj 4 4 (zrf tyX4)), W, L, n + 1) n = true := fun W => by
      unfold zAl
      simp only [zSh_T, en, d_obj]
      decide
    obtain ⟨S5, eS5⟩ : ∃ S5, S5 = updS (updS S n (d_obj 4 4 (zrf tyX4))) (u 1) (d_ref 8 4 (va_up ge i (some n))) := ⟨_, rfl⟩
    have FS : ∀ x, x < n → x ≠ u 1 → S5 x = S x := fun x xn x1 => by rw [eS5, updS_ne x1, hs _ (by omega)]
    have F : ∀ x, x < n → Vi x = V x := fun x xn => Vi_ne _ (by omega)
    obtain ⟨u', eu'⟩ : ∃ u' : Nat → Nat, u' = fun j => if j = 4 + i then n else u j := ⟨_, rfl⟩
    have uo : ∀ j, j ≠ 4 + i → u' j = u j := fun j j1 => by rw [eu']; dsimp only; rw [if_neg j1]
    have un : u' (4 + i) = n := by rw [eu']; dsimp only; rw [if_pos rfl]
    have hz : ∀ x, 1 ≤ κ x → κ x ≤ 7 → κ x ≠ 2 → S5 x = S x ∧ Vi x = V x ∧ (if x = n then 2 else κ x) = κ x := fun x x1 x7 x2 => by
      have := kk x (by omega)
      exact ⟨FS x this.2 (fun e => x2 (by rw [e]; exact q1)), F x this.2, if_neg (by omega)⟩
    have w15 : rowV W 16 (upd (W 16) i 1) 15 = W 15 := rowV_ne (by omega)
    obtain ⟨n1, -, n3, n4, n5, n6, n7, n8⟩ := Td_keep (Sh' := S5) (V' := Vi) (κ' := fun x => if x = n then 2 else κ x) (u' := u') (V2' := rowV W 16 (upd (W 16) i 1)) 2 hT hz (fun j hj => uo j (by omega)) (fun j hj => by rw [w15]) (fun e => by omega) (fun _ => rowV_ne (by omega))
    refine ⟨S5, Vi, n + 1, fun x => if x = n then 2 else κ x, u', upd (W 16) i 1, fun rec => ?_, ⟨n1 (by omega), ⟨?_, va_up ge i (some n), ?_, fun k hk => ?_⟩, n3 (by omega), n4 (by omega), n5 (by omega), n6 (by omega), n7 (by omega), n8⟩, uo 0 (by omega), upd_eq _ _ _, fun g hg => upd_ne hg, fun x hx => ?_, by omega, fun a ha hk => ⟨FS a ha (fun e => hk (by rw [e]; exact q1)), F a ha⟩, fun a ha => if_neg (by omega)⟩
    · unfold cm_X3_whole_F2
      simp (disch := omega) only [cm_X3_whole_B2, zSh_T, zV_T, zL_T, zn_T, L_add, L_addR, L_mul, L_mulR, L_div, N_div, N_rem, L_sub, L_subN, nI_add, nI_mul, L_le, L_leR, L_lt, L_ltR, L_eq, N_leT, N_leF, N_ltT, N_ltF, N_eqT, N_eqF, N_m1, if_false, td_A g1 (Or.inl ⟨rfl, rfl⟩), caR_eq q2, b2, zNl, zNew]
      unfold cm_X4_init
      simp (disch := decide) only [zPI_T en (hrc _ _), bnd_S]
      rw [← eVi, zsR_some eu hi (by omega) (za _), ← eS5]
      simp (disch := omega) only [nmI_S, L_add, L_addR, L_mul, L_mulR, L_div, N_div, N_rem, L_sub, L_subN, nI_add, nI_mul, L_le, L_leR, L_lt, L_ltR, L_eq, N_leT, N_leF, N_ltT, N_ltF, N_eqT, N_eqF, N_m1]
    · rw [uo 1 (by omega)]
      dsimp only
      rw [if_neg u1n]; exact q1
    · rw [uo 1 (by omega), eS5, updS_eq]
    · rw [rowV_eq, w15]
      by_cases e : k = i
      · subst e
        right
        dsimp only
        rw [un]
        have Sn : S5 n = some (d_obj 4 4 (zrf tyX4)) := by rw [eS5, updS_ne (Ne.symm u1n)]; exact en
        refine ⟨upd_eq _ _ _, ?_, if_pos rfl, ⟨_, Sn, hrc⟩, fun j hj => ?_, ⟨10, b3, by omega⟩, ⟨15, b4, by omega⟩, ⟨100, b5, by omega, by omega⟩, ⟨0, by rw [b6]; rfl, by omega⟩⟩
        · unfold va_up; rw [if_pos rfl]
        · have hh : j = 0 ∨ j = 1 ∨ j = 2 ∨ j = 3 := by omega
          rw [eVi]
          rcases hh with rfl | rfl | rfl | rfl
          · rw [upd2_eq, upd_ne (by omega), upd2_eq, upd_ne (by omega), upd2_eq, upd_ne (by omega), upd2_eq, upd_eq, Nat.add_zero, b3]
          · rw [upd2_eq, upd_ne (by omega), upd2_eq, upd_ne (by omega), upd2_eq, upd_eq, b4]
          · rw [upd2_eq, upd_ne (by omega), upd2_eq, upd_eq, b5]
          · rw [upd2_eq, upd_eq, b6]
      · have va : va_up ge i (some n) k = ge k := by unfold va_up; rw [if_neg e]
        dsimp only
        rw [va, upd_ne e, uo (4 + k) (by omega)]
        rcases q3 k hk with s | ⟨s1, s2, s3, s4, s5, s6⟩
        · exact Or.inl s
        · have kn := kk (u (4 + k)) (by omega)
          have k1 : u (4 + k) ≠ u 1 := fun z => by
            obtain ⟨rf, s4, -⟩ := s4
            rw [z, q2] at s4; cases s4
          rw [if_neg (show u (4 + k) ≠ n by omega), FS _ kn.2 k1, F _ kn.2]
          exact Or.inr ⟨s1, s2, s3, s4, s5, s6⟩
    · by_cases c : x = n
      · omega
      · have hx : (if x = n then 2 else κ x) ≠ 0 := hx
        rw [if_neg c] at hx
        have := kk x hx
        omega
  · refine ⟨S, V, n, κ, u, W 16, fun rec => ?_, by rw [rowV_self]; exact hT, rfl, b1, fun _ _ => rfl, kk, by omega, fun _ _ _ => ⟨rfl, rfl⟩, fun _ _ => rfl⟩
    unfold cm_X3_whole_F2
    simp (disch := omega) only [cm_X3_whole_B2, zSh_T, zV_T, zL_T, zn_T, L_add, L_addR, L_mul, L_mulR, L_div, N_div, N_rem, L_sub, L_subN, nI_add, nI_mul, L_le, L_leR, L_lt, L_ltR, L_eq, N_leT, N_leF, N_ltT, N_ltF, N_eqT, N_eqF, N_m1, if_false, td_A g1 (Or.inl ⟨rfl, rfl⟩), caR_eq q2, b2, zNl, nmI_S]
/-- all grounds are told -/
theorem gr_all (hT : Td S V κ u W np nh nr) (kk : ∀ a, κ a ≠ 0 → N0 ≤ a ∧ a < n) (hN : N0 ≤ n) : ∃ S' V' n' κ' u' W', cm_X3_whole (S, V, L, n) (u 0) = some (some (u 0), (S', V', L, n')) ∧ Td S' V' κ' u' W' np nh nr ∧ W' 15 = W 15 ∧ (∀ g, g < 4 → W' 16 g = 1) ∧ u' 0 = u 0 ∧ (∀ a, κ' a ≠ 0 → N0 ≤ a ∧ a < n') ∧ n ≤ n' ∧ (∀ a, a < n → κ a ≠ 2 → S' a = S a ∧ V' a = V a) ∧ ∀ a, a < n → κ' a = κ a := by
  have hr := lp_rel (F := cm_X3_whole_F2 (u 0)) (N := 4) (P := fun Z => ∃ S' V' n' κ' u' W', Z = (S', V', L, n') ∧ Td S' V' κ' u' W' np nh nr ∧ W' 15 = W 15 ∧ (∀ g, g < 4 → W' 16 g = 1) ∧ u' 0 = u 0 ∧ (∀ a, κ' a ≠ 0 → N0 ≤ a ∧ a < n') ∧ n ≤ n' ∧ (∀ a, a < n → κ a ≠ 2 → S' a = S a ∧ V' a = V a) ∧ ∀ a, a < n → κ' a = κ a) (fun i s => ∃ S' V' n' κ' u' W', s = (nI i, ((S', V', L, n') : c_S)) ∧ Td S' V' κ' u' W' np nh nr ∧ W' 15 = W 15 ∧ (∀ g, g < i → W' 16 g = 1) ∧ u' 0 = u 0 ∧ (∀ a, κ' a ≠ 0 → N0 ≤ a ∧ a < n') ∧ n ≤ n' ∧ (∀ a, a < n → κ a ≠ 2 → S' a = S a ∧ V' a = V a) ∧ ∀ a, a < n → κ' a = κ a) ?_ ?_ 5 0 (nI 0, ((S, V, L, n) : c_S)) (by omega) (by omega) ⟨S, V, n, κ, u, W, rfl, hT, rfl, fun g hg => by omega, rfl, kk, by omega, fun _ _ _ => ⟨rfl, rfl⟩, fun _ _ => rfl⟩
  · obtain ⟨out, e1, S', V', n', κ', u', W', rfl, e2⟩ := hr
    refine ⟨S', V', n', κ', u', W', ?_, e2⟩
    have e1 : cm_X3_whole_L2 (u 0) 5 0 (S, V, L, n) = some (S', V', L, n') := e1
    unfold cm_X3_whole
    rw [e1, bnd_S]
  · intro i s hi hs
    obtain ⟨S', V', n', κ', u', W', rfl, q1, q2, q3, q4, q5, q6, q7, q8⟩ := hs
    obtain ⟨Sa, Va, na, κa, ua, ga, a1, a2, a3, a4, a5, a6, a7, a8, a9⟩ := gr_step (L := L) q1 hi q5 (by omega)
    refine ⟨(nI (i + 1), ((Sa, Va, L, na) : c_S)), fun rec => ?_, Sa, Va, na, κa, ua, rowV W' 16 ga, rfl, a2, by rw [rowV_ne (by omega)]; exact q2, fun g hg => ?_, a3.trans q4, a6, by omega, fun a ha hk => ?_, fun a ha => (a9 a (by omega)).trans (q8 a ha)⟩
    · rw [← q4]; exact a1 rec
    · rw [rowV_eq]
      by_cases e : g = i
      · rw [e]; exact a4
      · rw [a5 g e]; exact q3 g (by omega)
    · have := a8 a (by omega) (by rw [q8 a ha]; exact hk)
      have p := q7 a ha hk
      exact ⟨this.1.trans p.1, this.2.trans p.2⟩
  · intro s hs
    obtain ⟨S', V', n', κ', u', W', rfl, q⟩ := hs
    refine ⟨(S', V', L, n'), fun rec => ?_, S', V', n', κ', u', W', rfl, q⟩
    unfold cm_X3_whole_F2
    simp (disch := omega) only [cm_X3_whole_B2, L_add, L_addR, L_mul, L_mulR, L_div, N_div, N_rem, L_sub, L_subN, nI_add, nI_mul, L_le, L_leR, L_lt, L_ltR, L_eq, N_leT, N_leF, N_ltT, N_ltF, N_eqT, N_eqF, N_m1, if_true]
end GR
