/-! PURE: a text is read: line rule -/
set_option maxRecDepth 100000
section RL3
variable {Sh Sh0 Sh' : g_Sh} {V V0 V' : g_V} {L : g_L} {n N0 r tp ms bg sz td np nh nr lc lt : Nat} {V2 V20 V2' : g_V} {κ u : Nat → Nat} {gp : Nat → Nat}
theorem RU1_r {Fz : Nat → Prop} {a b l e cap : Nat} {g : Nat → Nat} {x : Nat → Int32} {rl : Nat → Option (Option Nat)} {el : Nat → Option Nat} (h : RU1 Sh V Fz a b g x) (hl : Sh l = some (d_obj 14 3 rl)) (he : Sh e = some (d_ref 5 cap el)) : RU1 Sh V (fun y => Fz y ∧ y ≠ l ∧ y ≠ e) a b g x := by
  obtain ⟨za, zb, ⟨rf, k1, k1'⟩, nc, k2, k3, k4, ⟨el', k5, k5'⟩, k6⟩ := h
  have oo : ∀ {y ci N : Nat} {rf : Nat → Option (Option Nat)}, Sh y = some (d_obj ci N rf) → ci ≠ 14 → y ≠ l ∧ y ≠ e := fun hy hci => ⟨fun z => by
    rw [z, hl] at hy
    injection hy with hy; injection hy with hy; injection hy with hy; injection hy with hy; injection hy with hy
    omega, fun z => by rw [z, he] at hy; cases hy⟩
  refine ⟨⟨za, oo k1 (by omega)⟩, ⟨zb, fun z => ?_, fun z => ?_⟩, ⟨rf, k1, k1'⟩, nc, k2, k3, k4, ⟨el', k5, k5'⟩, fun c hc => ⟨⟨(k6 c hc).1, ?_⟩, (k6 c hc).2⟩⟩
  · rw [z, hl] at k5; cases k5
  · rw [z, he] at k5
    injection k5 with k5; injection k5 with k5; injection k5 with k5; injection k5 with k5; injection k5 with k5
    omega
  · rcases (k6 c hc).2 with ⟨-, rf', z3⟩ | ⟨k, -, -, ⟨rf', z3, -⟩, -⟩
    · exact oo z3 (by omega)
    · exact oo z3 (by omega)
theorem FL0_tr {α : Type} {c : Option (α ⊕ (Nat × c_S))} (hf : ∀ a, a < N0 → Sh a = Sh0 a ∧ V a = V0 a) (tf : TF V20 V2) (h : FL0 N0 Sh V L V2 c V2') : FL0 N0 Sh0 V0 L V20 c V2' := by
  obtain ⟨x, Z', k, f, e1, e2, e3, e4, e5, e6, e7, e8, e9, e10⟩ := h
  exact ⟨x, Z', k, f, e1, e2, e3, e4, e5, fun a ha => ⟨(e6 a ha).1.trans (hf a ha).1, (e6 a ha).2.1.trans (hf a ha).2, (e6 a ha).2.2⟩, e7, e8, e9, TF_tr tf e10⟩
/-- all turns of a rule -/
theorem rule_all {ρ0 ρ1 : Nat} {gc : Nat → Nat} (h : Rm gp N0 Sh V n V2 r tp ms bg sz td κ u np nh nr lc lt ρ0 ρ1 gc 0 0) (h4 : nr < 4) (h01 : ρ0 ≠ ρ1) (hg : gpI gp) : ∃ o o', cm_X3_rule_L16 gp r td ρ0 5 1 (Sh, V, L, n) = some o ∧ tw_readRule_L22 (nI (750 + 10 * nr)) 1000 1 V2 = some o' ∧ ((∃ (Sh' : g_Sh) (V' : g_V) (n' : Nat) (κ' gc' : Nat → Nat) (nc : Nat), o = .inl (Sh', V', L, n') ∧ Rm gp N0 Sh' V' n' o' r tp ms bg sz td κ' u np nh nr lc lt ρ0 ρ1 gc' nc nc ∧ (∀ a, a < N0 → Sh' a = Sh a ∧ V' a = V a) ∧ TF V2 o') ∨ (∃ x Z', o = .inr (x, Z') ∧ ¬ o' 0 13 = 0 ∧ ∀ (β : Type) (c' : Option (β ⊕ (Nat × c_S))), c' = some (.inr (x, Z')) → FL0 N0 Sh V L V2 c' o')) := by
  refine lp_sim2 (F := cm_X3_rule_F16 gp r td ρ0) (F' := tw_readRule_F22 (nI (750 + 10 * nr))) (N := 3) (P := fun o o' => ((∃ (Sh' : g_Sh) (V' : g_V) (n' : Nat) (κ' gc' : Nat → Nat) (nc : Nat), o = .inl (Sh', V', L, n') ∧ Rm gp N0 Sh' V' n' o' r tp ms bg sz td κ' u np nh nr lc lt ρ0 ρ1 gc' nc nc ∧ (∀ a, a < N0 → Sh' a = Sh a ∧ V' a = V a) ∧ TF V2 o') ∨ (∃ x Z', o = .inr (x, Z') ∧ ¬ o' 0 13 = 0 ∧ ∀ (β : Type) (c' : Option (β ⊕ (Nat × c_S))), c' = some (.inr (x, Z')) → FL0 N0 Sh V L V2 c' o'))) (fun i s s' => ∃ (b : Bool) (Sh' : g_Sh) (V' : g_V) (n' : Nat) (V2' : g_V) (κ' gc' : Nat → Nat), s = (b2i b, (Sh', V', L, n')) ∧ s' = (b2i b, V2') ∧ Rm gp N0 Sh' V' n' V2' r tp ms bg sz td κ' u np nh nr lc lt ρ0 ρ1 gc' i i ∧ (∀ a, a < N0 → Sh' a = Sh a ∧ V' a = V a) ∧ TF V2 V2') ?_ 5 1000 0 (1, (Sh, V, L, n)) (1, V2) (by omega) (by omega) (by omega) ⟨true, Sh, V, n, V2, κ, gc, rfl, rfl, h, fun _ _ => ⟨rfl, rfl⟩, TF_rf⟩
  intro i s s' hi hs
  obtain ⟨b, Sh', V', n', V2', κ', gc', rfl, rfl, hm, hf, ht⟩ := hs
  cases b with
  | false =>
    left
    refine ⟨.inl (Sh', V', L, n'), V2', fun rec => ?_, Or.inl (fun rec => ?_), Or.inl ⟨Sh', V', n', κ', gc', i, rfl, hm, hf, ht⟩⟩
    · unfold cm_X3_rule_F16 cm_X3_rule_B16
      rfl
    · unfold tw_readRule_F22 tw_readRule_B22
      rfl
  | true =>
    rcases rule_turn (L := L) hm h4 h01 hg with ⟨x, Z', Vd, e1, e2, e3, e4, e5⟩ | ⟨hlt, Sa, Va, na, Wa, κa, ga, b, e1, e2, e3, e4, e5⟩
    · left
      exact ⟨.inr (x, Z'), Vd, e1, Or.inr ⟨(0, Vd), e2, e3⟩, Or.inr ⟨x, Z', rfl, e4, fun β c' hc => FL0_tr hf ht (e5 β c' hc)⟩⟩
    · right
      exact ⟨hlt, _, _, e1, e2, b, Sa, Va, na, Wa, κa, ga, rfl, rfl, e3, fun a ha => ⟨(e4 a ha).1.trans (hf a ha).1, (e4 a ha).2.trans (hf a ha).2⟩, TF_tr ht e5⟩
set_option maxHeartbeats 2000000 in
theorem l_rule (h : Ps gp N0 Sh V n V2 r tp ms bg sz td κ u np nh nr lc lt) (hg : gpI gp) (h4 : nr < 4) : OL gp N0 Sh V L V2 r tp ms bg sz td lc lt (cm_X3_rule gp (Sh, V, L, n) r td) (tw_readRule V2) := by
  have hu := h.2.1
  subst hu
  have rk := Ps_rk h
  have kN := Ps_N h
  have hro := h.1.1
  have z1 : ¬ (1 : Int32) = 0 := by decide
  have w4 : V2 15 4 = nI nr := h.2.2.1.2.2.2.2.2.2.1.2.1
  unfold cm_X3_rule tw_readRule
  rw [r_K hro]
  rcases t_word (gp := gp) (L := L) (w := 20) h.1 rk.2 hg (by omega) with ⟨V1, W1, c1, c2, c4, c5⟩ | ⟨W1, c1, c2⟩
  · have P1 := Ps_tok h c4 c5
    have w41 : W1 15 4 = nI nr := by rw [c4.2.2.1 15 (by omega)]; exact w4
    rw [c1, c2, bnd_S, bnd_S, cs2_L]
    simp (disch := omega) only [rdI_L, rdI_in, w41, nmI_S, L_mul, L_add]
    -- the rule's own cells
    obtain ⟨Sh3, eS3⟩ : ∃ Sh3, Sh3 = updS (updS (updS Sh n (d_obj 10 2 (zrf tyX10))) (n + 1) (d_ref 10 3 (fun _ => none))) n (d_obj 10 2 (updR (zrf tyX10) 0 (some (n + 1)))) := ⟨_, rfl⟩
    have S3 : ∀ a, a ≠ n → a ≠ n + 1 → Sh3 a = Sh a := fun a a1 a2 => by rw [eS3, updS_ne a1, updS_ne a2, updS_ne a1]
    have sh1 : shd W1 nr = W1 := by
      have z := P1.2.2.1.2.2.2.2.2.2.1.2.2.2.2.2.2.2
      unfold shd
      have : (fun j => if 750 + 10 * nr ≤ j ∧ j < 760 + 10 * nr then 0 else W1 15 j) = W1 15 := by
        funext j
        by_cases c : 750 + 10 * nr ≤ j ∧ j < 760 + 10 * nr
        · rw [if_pos c]; exact (z j c.1 (by omega)).symm
        · rw [if_neg c]
      rw [this, rowV_self]
    have kk := P1.2.2.2.2.2.1.2.2.2.2.2
    have lt' : ∀ a, κ a ≠ 0 → a ≠ n ∧ a ≠ n + 1 := fun a ha => by have := kk a ha; omega
    have M0 : Rm gp N0 Sh3 (rowV V1 n (fun _ => 0)) (n + 2) W1 r tp ms bg sz (u 0) (fun a => if a = n ∨ a = n + 1 then 9 else κ a) u np nh nr lc lt n (n + 1) (fun _ => 0) 0 0 := by
      refine ⟨?_, if_pos (Or.inl rfl), if_pos (Or.inr rfl), ⟨_, by rw [eS3, updS_eq], rfl, rfl⟩, by omega, ?_, by rw [rowV_eq]; rfl, ⟨_, by rw [eS3, updS_ne (by omega), updS_eq], fun c hc => by omega⟩, fun c hc => by omega⟩
      · rw [sh1]
        refine Ps_free P1 (fun a a1 a8 => ?_) (fun a ha => ⟨S3 a (by omega) (by omega), rowV_ne (by omega)⟩) (by omega) (fun a ha => ?_)
        · have := lt' a (by omega)
          exact ⟨S3 a this.1 this.2, rowV_ne this.1, if_neg (by omega)⟩
        · by_cases e : a = n ∨ a = n + 1
          · right; omega
          · have ha : (if a = n ∨ a = n + 1 then 9 else κ a) ≠ 0 := ha
            rw [if_neg e] at ha; exact Or.inl ha
      · exact P1.2.2.1.2.2.2.2.2.2.1.2.2.2.2.2.2.2 _ (by omega) (by omega)
    have fr0 : ∀ a, a < N0 → Sh3 a = Sh a ∧ rowV V1 n (fun _ => 0) a = V a := fun a ha => ⟨S3 a (by omega) (by omega), by rw [rowV_ne (by omega), c4.1 a (by omega)]⟩
    obtain ⟨o, o', l1, l2, l3⟩ := rule_all (L := L) M0 h4 (by omega) hg
    have cI0 : cm_X10_init (updS Sh n (d_obj 10 2 (zrf tyX10)), rowV V1 n (fun _ => 0), L, n + 1) n = some (Sh3, rowV V1 n (fun _ => 0), L, n + 2) := by
      unfold cm_X10_init zNewR
      rw [if_neg (by decide)]
      simp only [zSh_T, zV_T, zL_T, zn_T]
      rw [zPR_T (rf := zrf tyX10) (by rw [updS_ne (by omega)]; exact updS_eq) rfl, show (3 : Int32).toNatClampNeg = 3 from rfl, ← eS3]
    simp only [zNew, zSh_T, zV_T, zL_T, zn_T, cI0, bnd_S, l1, l2]
    rcases l3 with ⟨Sa, Va, na, κa, ga, nc, rfl, hm, hf, ht⟩ | ⟨x, Z', rfl, dd, hF⟩
    · obtain ⟨Pa, k0, k1, ⟨rfr, s1, s2, s3⟩, s5, s6, s7, ⟨el, s8, s9⟩, s10⟩ := hm
      have g1 := Pa.2.2.1.1
      obtain ⟨q1, q2, q3, q4, q5, q6, q7, q8⟩ := Pa.2.2.1.2.2.2.2.2.2.1
      have kka := Pa.2.2.2.2.2.1.2.2.2.2.2
      have kr : κa r = 8 := Pa.2.2.2.2.2.1.1
      have n12 := kka (u 12) (by omega)
      have n13 := kka (u 13) (by omega)
      have nn0 := kka n (by omega)
      have nn1 := kka (n + 1) (by omega)
      have gda : tw_good o' = some 1 := by
        have : shd o' nr 0 13 = 0 := Pa.1.2.2.2.2.2.1
        rw [shd_ne (by omega)] at this
        exact if_pos this
      have o4 : o' 15 4 = nI nr := by
        have : shd o' nr 15 4 = nI nr := q2
        unfold shd at this
        rw [rowV_eq, if_neg (by omega)] at this
        exact this
      have so : ∀ j, ¬ (750 + 10 * nr ≤ j ∧ j < 760 + 10 * nr) → shd o' nr 15 j = o' 15 j := fun j hj => by unfold shd; rw [rowV_eq, if_neg hj]
      obtain ⟨⟨rl, hl1, -⟩, capl, ell, he1, -⟩ := id q3
      obtain ⟨e', Sh5, V5, n5, a1, a2, a3, a4, a5, a6⟩ := l_add (gp := gp) (L := L) (x := n) (n := na) q3 q4 (by omega) ⟨10, 2, _, s1, by omega⟩ (fun p hp => by
        obtain ⟨z1, z2, ⟨rf, z3, -⟩, -⟩ := q7 p hp
        exact ⟨10, 2, rf, z3, by omega⟩) n12.2 n13.2 nn0.2 (fun p hp => (kka _ (by have := (q7 p hp).1; omega)).2)
      have n5c : na ≤ n5 ∧ (e' = u 13 ∨ e' = na) ∧ e' < n5 := by rcases a4 with ⟨z1, z2⟩ | ⟨z1, z2⟩ <;> omega
      have F : ∀ x, x ≠ u 12 → V5 x = Va x := a5
      have FS : ∀ x, x < na → x ≠ u 12 → x ≠ u 13 → Sh5 x = Sa x := fun x xn x1 x2 => a6 x x1 x2 (by omega)
      obtain ⟨κ5, eκ5⟩ : ∃ κ5 : Nat → Nat, κ5 = fun x => if κa x = 9 ∨ (na ≤ x ∧ x < n5) then 7 else κa x := ⟨_, rfl⟩
      have κo : ∀ x, κa x ≠ 0 → κa x ≠ 9 → κ5 x = κa x := fun x x0 x9 => by
        have := kka x x0
        rw [eκ5]; dsimp only; rw [if_neg (by omega)]
      have κ9 : ∀ x, κa x = 9 → κ5 x = 7 := fun x x9 => by rw [eκ5]; exact if_pos (Or.inl x9)
      have hz : ∀ x, 1 ≤ κa x → κa x ≤ 8 → κa x ≠ 7 → Sh5 x = Sa x ∧ V5 x = Va x ∧ κ5 x = κa x := fun x x1 x8 x7 => by
        have := kka x (by omega)
        have x12 : x ≠ u 12 := fun e => x7 (by rw [e]; exact q5)
        have x13 : x ≠ u 13 := fun e => x7 (by rw [e]; exact q6)
        exact ⟨FS x this.2 x12 x13, F x x12, κo x (by omega) (by omega)⟩
      obtain ⟨u', eu'⟩ : ∃ u' : Nat → Nat, u' = fun j => if j = 13 then e' else if j = 60 + nr then n else if j = 70 + nr then n + 1 else if 80 + 3 * nr ≤ j ∧ j < 83 + 3 * nr then ga (j - (80 + 3 * nr)) else u j := ⟨_, rfl⟩
      have uo : ∀ j, j ≠ 13 → j ≠ 60 + nr → j ≠ 70 + nr → ¬ (80 + 3 * nr ≤ j ∧ j < 83 + 3 * nr) → u' j = u j := fun j j1 j2 j3 j4 => by rw [eu']; dsimp only; rw [if_neg j1, if_neg j2, if_neg j3, if_neg j4]
      have u13 : u' 13 = e' := by rw [eu']; rfl
      have u60 : u' (60 + nr) = n := by rw [eu']; dsimp only; rw [if_neg (by omega), if_pos rfl]
      have u70 : u' (70 + nr) = n + 1 := by rw [eu']; dsimp only; rw [if_neg (by omega), if_neg (by omega), if_pos rfl]
      have u80 : ∀ c, c < 3 → u' (80 + 3 * nr + c) = ga c := fun c hc => by rw [eu']; dsimp only; rw [if_neg (by omega), if_neg (by omega), if_neg (by omega), if_pos (by omega), show 80 + 3 * nr + c - (80 + 3 * nr) = c by omega]
      obtain ⟨W5, eW5⟩ : ∃ W5, W5 = upd2 o' 15 4 (nI (nr + 1)) := ⟨_, rfl⟩
      have w5 : ∀ j, j ≠ 4 → W5 15 j = o' 15 j := fun j hj => by rw [eW5, upd2_eq, upd_ne hj]
      obtain ⟨n1, n2, n3, n4, n5', n6, -, n8⟩ := Td_keep (Sh' := Sh5) (V' := V5) (κ' := κ5) (u' := u') (V2' := W5) 7 Pa.2.2.1 (fun x x1 x7 xK => hz x x1 (by omega) xK) (fun j hj => uo j (by omega) (by omega) (by omega) (by omega)) (fun j hj => by rw [w5 j (by omega), so j (by omega)]) (fun _ => by rw [eW5, upd2_ne _ (by omega), shd_ne (by omega)]) (fun _ => by rw [eW5, upd2_ne _ (by omega), shd_ne (by omega)])
      have oo : ∀ {y ci N : Nat} {rf : Nat → Option (Option Nat)}, Sa y = some (d_obj ci N rf) → ci ≠ 14 → y ≠ u 12 ∧ y ≠ u 13 := fun hy hci => ⟨fun z => by
        rw [z, hl1] at hy
        injection hy with hy; injection hy with hy; injection hy with hy; injection hy with hy; injection hy with hy
        omega, fun z => by rw [z, he1] at hy; cases hy⟩
      have nu := oo s1 (by omega)
      have nu1 : n + 1 ≠ u 12 ∧ n + 1 ≠ u 13 := ⟨fun z => (by rw [z, hl1] at s8; cases s8), fun z => by
        rw [z, he1] at s8
        injection s8 with s8; injection s8 with s8; injection s8 with s8; injection s8 with s8; injection s8 with s8
        omega⟩
      left
      refine ⟨Sh5, V5, n5, W5, κ5, u', np, nh, nr + 1, ?_, ?_, Ps_set Pa ⟨n1 (by omega), n2 (by omega), n3 (by omega), n4 (by omega), n5' (by omega), n6 (by omega), ⟨by omega, ?_, ?_, ?_, ?_, ?_, fun p hp => ?_, fun j ja jb => ?_⟩, n8⟩ (fun x hx => hz x (by omega) (by omega) (by omega)) (fun x hx => ⟨FS x (by omega) (by omega) (by omega), F x (by omega)⟩) (by rw [eW5, upd2_ne _ (by omega), shd_ne (by omega)]) (fun j _ => by rw [eW5, upd2_ne _ (by omega), shd_ne (by omega)]) (by rw [(hz (u 0) (by rw [g1.2.1]; omega) (by rw [g1.2.1]; omega) (by rw [g1.2.1]; omega)).2.1]) (uo 0 (by omega) (by omega) (by omega) (by omega)) (by rw [w5 0 (by omega), so 0 (by omega)]) n5c.1 (fun x hx => ?_), fun x hx => ⟨?_, ?_⟩, TF_tr (TF_st c4) (TF_tr ht (by rw [eW5]; exact TF_w (a := 15) (by omega)))⟩
      · simp only [cs2_L, zSh_T, zV_T, zL_T, zn_T, td_A g1 (i := 5) (j := 12) (by omega)]
        rw [l_K q3, a1, bnd_S, un2_S]
      · unfold tw_readRule_J49
        simp (disch := omega) only [gda, bnd_S, z1, if_false, rdI_L, rdI_in, o4, L_addR, wrI_L, wrI_in, eW5]
      · rw [eW5, upd2_eq, upd_eq]
      · rw [uo 12 (by omega) (by omega) (by omega) (by omega), u13]
        refine LSt_g a2 (fun p hp => ?_)
        by_cases e : p = nr
        · rw [if_pos e, e, u60]
        · rw [if_neg e, uo _ (by omega) (by omega) (by omega) (by omega)]
      · rw [uo 12 (by omega) (by omega) (by omega) (by omega)]; exact a3
      · rw [uo 12 (by omega) (by omega) (by omega) (by omega), κo _ (by omega) (by omega)]; exact q5
      · rw [u13]
        rcases n5c.2.1 with z | z
        · rw [z, κo _ (by omega) (by omega)]; exact q6
        · rw [eκ5]; exact if_pos (Or.inr (by omega))
      · by_cases e : p = nr
        · subst e
          rw [u60, u70]
          refine ⟨κ9 n k0, κ9 _ k1, ⟨rfr, by rw [FS n nn0.2 nu.1 nu.2]; exact s1, s2, s3⟩, nc, s5, ?_, by rw [F n nu.1]; exact s7, ⟨el, by rw [FS _ nn1.2 nu1.1 nu1.2]; exact s8, fun c hc => by dsimp only; rw [u80 c (by omega)]; exact s9 c hc⟩, fun c hc => ?_⟩
          · show W5 15 (750 + 10 * p + 0) = nI nc
            rw [Nat.add_zero, w5 _ (by omega)]; exact s6
          · dsimp only
            rw [u80 c (by omega)]
            obtain ⟨z1, z2⟩ := s10 c hc
            have kn := kka (ga c) (by omega)
            have ne : ga c ≠ u 12 ∧ ga c ≠ u 13 := by
              rcases z2 with ⟨-, rf', z3⟩ | ⟨k, -, -, ⟨rf', z3, -⟩, -⟩
              · exact oo z3 (by omega)
              · exact oo z3 (by omega)
            exact ⟨κ9 _ z1, RC_k z2 (FS _ kn.2 ne.1 ne.2) (F _ ne.1) (fun i hi => by rw [w5 _ (by omega), show 750 + 10 * p + (1 + 3 * c + i) = 750 + 10 * p + 1 + 3 * c + i by omega])⟩
        · rw [uo (60 + p) (by omega) (by omega) (by omega) (by omega), uo (70 + p) (by omega) (by omega) (by omega) (by omega)]
          refine RU1_k (RU1_r (q7 p (by omega)) hl1 he1) (fun x hx => ?_) (fun i hi => by rw [w5 _ (by omega), so _ (by omega)]) (fun c hc => uo _ (by omega) (by omega) (by omega) (by omega))
          have := kka x (by omega)
          exact ⟨FS x this.2 hx.2.1 hx.2.2, F x hx.2.1, by rw [κo x (by omega) (by omega)]; exact hx.1⟩
      · rw [w5 j (by omega), ← so j (by omega)]
        exact q8 j (by omega) jb
      · by_cases c : na ≤ x ∧ x < n5
        · exact Or.inr c
        · left
          intro z
          rw [eκ5] at hx
          dsimp only at hx
          rw [if_neg (by omega)] at hx
          exact hx z
      · rw [FS x (by omega) (by omega) (by omega), (hf x hx).1, (fr0 x hx).1]
      · rw [F x (by omega), (hf x hx).2, (fr0 x hx).2]
    · right
      refine ⟨o', FL0_tr fr0 (TF_st c4) (hF _ _ ?_), ?_⟩
      · simp only [cs2_R, un2_S]
      · unfold tw_readRule_J49
        rw [d_good dd, bnd_S, if_pos rfl]
  · right
    have dd := Fl_dead c1
    obtain ⟨x, Z', y1, y2⟩ := FL0_of kN rk.1 (fun a _ => ⟨rfl, rfl⟩) TF_rf c1 Dd_rf
    have W14 : W1 15 4 = nI nr := by
      obtain ⟨_, _, _, _, _, _, _, _, _, q, _⟩ := c1
      rw [q 15 (by omega)]; exact w4
    refine ⟨W1, y2 _ _ ?_, ?_⟩
    · rw [y1]; rfl
    · rw [c2, bnd_S]
      simp (disch := omega) only [rdI_L, rdI_in, W14, nmI_S, L_mul, L_add]
      have le : tw_readRule_L22 (nI (750 + 10 * nr)) 1000 1 W1 = some W1 := by
        unfold tw_readRule_L22
        rw [show (1000 : Nat) = 999 + 1 from rfl, lp_s]
        unfold tw_readRule_F22 tw_readRule_B22
        simp only [z1, if_false, d_good dd, bnd_S, if_true]
      unfold tw_readRule_J49
      rw [le, bnd_S, d_good dd, bnd_S, if_pos rfl]
end RL3
