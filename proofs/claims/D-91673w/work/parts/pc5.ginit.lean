/-! PURE: the component as it is made -/
set_option maxRecDepth 100000
section SW
variable {ρ : Type} {S : g_Sh} {W : g_V} {L : g_L} {a k i t N ci M B len : Nat} {r : Nat → Option (Option Nat)} {c : Int32}
theorem sv_ref (h : S a = some (d_obj ci M r)) (hi : (r i).isSome = true) (hk : a < k) (hc : ¬ (c < 0 ∨ B < c.toNatClampNeg)) (hl : c.toNatClampNeg = len) : ∃ S' r', (∀ K : c_S → Option ρ, zNewR (S, W, L, k) t B c (fun Z b => zPR Z a ci M i (some b) K) = K (S', W, L, k + 1)) ∧ S' a = some (d_obj ci M r') ∧ r' i = some (some k) ∧ (∀ j, j ≠ i → r' j = r j) ∧ S' k = some (d_ref t len (fun _ => none)) ∧ (∀ b, b ≠ a → b ≠ k → S' b = S b) := by
  obtain ⟨S', h1, h2, h3, h4⟩ := su_ref (ρ := ρ) (S := S) (W := W) (L := L) (t := t) (B := B) (c := c) (len := len) h hi hk hc hl
  exact ⟨S', _, h1, h2, by unfold updR; rw [if_pos rfl], fun j hj => by unfold updR; rw [if_neg hj], h3, h4⟩
theorem sv_put {o : Option Nat} (h : S a = some (d_obj ci M r)) (hi : (r i).isSome = true) : ∃ S' r', (∀ (W : g_V) (L : g_L) (n : Nat) (K : c_S → Option ρ), zPR (S, W, L, n) a ci M i o K = K (S', W, L, n)) ∧ S' a = some (d_obj ci M r') ∧ r' i = some o ∧ (∀ j, j ≠ i → r' j = r j) ∧ (∀ b, b ≠ a → S' b = S b) :=
  ⟨updS S a (d_obj ci M (updR r i o)), updR r i o, fun W L n K => zPR_T h hi, updS_eq, by unfold updR; rw [if_pos rfl], fun j hj => by unfold updR; rw [if_neg hj], fun b hb => updS_ne hb⟩
theorem sv_arr0 (h : S a = some (d_obj ci M r)) (hi : (r i).isSome = true) (hk : a < k) : ∃ S' W' r', (∀ K : c_S → Option ρ, zNewI (S, W, L, k) t N (fun Z b => zPR Z a ci M i (some b) K) = K (S', W', L, k + 1)) ∧ S' a = some (d_obj ci M r') ∧ r' i = some (some k) ∧ (∀ j, j ≠ i → r' j = r j) ∧ S' k = some (d_int t N) ∧ (∀ b, b ≠ a → b ≠ k → S' b = S b) ∧ (∀ b, b ≠ k → W' b = W b) ∧ W' k = fun _ => 0 := by
  obtain ⟨S', W', h1, h2, h3, h4, h5, h6⟩ := su_arN (ρ := ρ) (S := S) (W := W) (L := L) (t := t) (N := N) h hi hk
  exact ⟨S', W', _, h1, h2, by unfold updR; rw [if_pos rfl], fun j hj => by unfold updR; rw [if_neg hj], h3, h4, h5, h6⟩
end SW
section IS
variable {S : g_Sh} {W : g_V} {L : g_L} {x k q1 : Nat} {gp : Nat → Nat}
theorem init_slots {rf : Nat → Option (Option Nat)} {el : Nat → Option Nat} (h : S x = some (d_obj 0 11 rf)) (h0 : rf 0 = some (some q1)) (hq : S q1 = some (d_ref 7 4 el)) (hx : x < k) (hqk : q1 < k) (hxq : x ≠ q1) : ∃ S' W', cm_X0_init_L87 gp x 5 0 (S, W, L, k) = some (S', W', L, k + 4) ∧ (∃ el', S' q1 = some (d_ref 7 4 el') ∧ ∀ j, j < 4 → el' j = some (k + j)) ∧ (∀ j, j < 4 → S' (k + j) = some (d_obj 7 1 (zrf tyX7))) ∧ (∀ b, b < k → b ≠ q1 → S' b = S b) ∧ ∀ b, b < k → W' b = W b := by
  have hr := lp_rel (F := cm_X0_init_F87 gp x) (N := 4) (P := fun Z => ∃ S' W', Z = (S', W', L, k + 4) ∧ (∃ el', S' q1 = some (d_ref 7 4 el') ∧ ∀ j, j < 4 → el' j = some (k + j)) ∧ (∀ j, j < 4 → S' (k + j) = some (d_obj 7 1 (zrf tyX7))) ∧ (∀ b, b < k → b ≠ q1 → S' b = S b) ∧ ∀ b, b < k → W' b = W b) (fun i s => ∃ S' W', s = (nI i, ((S', W', L, k + i) : c_S)) ∧ (∃ el', S' q1 = some (d_ref 7 4 el') ∧ ∀ j, j < i → el' j = some (k + j)) ∧ (∀ j, j < i → S' (k + j) = some (d_obj 7 1 (zrf tyX7))) ∧ (∀ b, b < k → b ≠ q1 → S' b = S b) ∧ ∀ b, b < k → W' b = W b) ?_ ?_ 5 0 (nI 0, ((S, W, L, k) : c_S)) (by omega) (by omega) ⟨S, W, rfl, ⟨el, hq, fun j hj => by omega⟩, fun j hj => by omega, fun _ _ _ => rfl, fun _ _ => rfl⟩
  · obtain ⟨out, e1, S', W', rfl, e2⟩ := hr
    exact ⟨S', W', e1, e2⟩
  · intro i s hi hs
    obtain ⟨S', W', rfl, ⟨el', a1, a2⟩, a3, a4, a5⟩ := hs
    have hx' : S' x = some (d_obj 0 11 rf) := by rw [a4 x hx hxq]; exact h
    have en : updS S' (k + i) (d_obj 7 1 (zrf tyX7)) (k + i) = some (d_obj 7 1 (zrf tyX7)) := updS_eq
    have eq : updS S' (k + i) (d_obj 7 1 (zrf tyX7)) q1 = some (d_ref 7 4 el') := by rw [updS_ne (by omega)]; exact a1
    have za : ∀ W n, zAl [7] (updS S' (k + i) (d_obj 7 1 (zrf tyX7)), W, L, n) (k + i) = true := fun W n => by
      unfold zAl
      simp only [zSh_T, en, d_obj]
      decide
    refine ⟨(nI (i + 1), ((updS (updS S' (k + i) (d_obj 7 1 (zrf tyX7))) q1 (d_ref 7 4 (va_up el' i (some (k + i)))), rowV W' (k + i) (fun _ => 0), L, k + (i + 1)) : c_S)), fun rec => ?_, _, _, rfl, ⟨_, updS_eq, fun j hj => ?_⟩, fun j hj => ?_, fun b hb hbq => ?_, fun b hb => ?_⟩
    · unfold cm_X0_init_F87
      simp (disch := omega) only [cm_X0_init_B87, zSh_T, zV_T, zL_T, zn_T, L_add, L_addR, L_mul, L_mulR, L_div, N_div, N_rem, L_sub, L_subN, nI_add, nI_mul, L_le, L_leR, L_lt, L_ltR, L_eq, N_leT, N_leF, N_ltT, N_ltF, N_eqT, N_eqF, N_m1, if_false, cA_eq hx' h0, zNew, cm_X7_init, bnd_S]
      rw [zsR_some eq hi (by omega) (za _ _)]
      simp (disch := omega) only [nmI_S, L_add, L_addR, L_mul, L_mulR, L_div, N_div, N_rem, L_sub, L_subN, nI_add, nI_mul, L_le, L_leR, L_lt, L_ltR, L_eq, N_leT, N_leF, N_ltT, N_ltF, N_eqT, N_eqF, N_m1]
      rfl
    · by_cases e : j = i
      · rw [va_up_e e, e]
      · rw [va_up_n e]; exact a2 j (by omega)
    · rw [updS_ne (by omega)]
      by_cases e : j = i
      · rw [e]; exact en
      · rw [updS_ne (by omega)]; exact a3 j (by omega)
    · rw [updS_ne hbq, updS_ne (by omega)]; exact a4 b hb hbq
    · rw [rowV_ne (by omega)]; exact a5 b hb
  · intro s hs
    obtain ⟨S', W', rfl, q⟩ := hs
    refine ⟨(S', W', L, k + 4), fun rec => ?_, S', W', rfl, q⟩
    unfold cm_X0_init_F87
    simp (disch := omega) only [cm_X0_init_B87, L_add, L_addR, L_mul, L_mulR, L_div, N_div, N_rem, L_sub, L_subN, nI_add, nI_mul, L_le, L_leR, L_lt, L_ltR, L_eq, N_leT, N_leF, N_ltT, N_ltF, N_eqT, N_eqF, N_m1, if_true]
end IS
/-- the reference as it is made -/
def St0 (V2 : g_V) : Prop := (∀ j, j < 810 → V2 1 j = pBeg plR j) ∧ (∀ k, k < 3 → V2 4 k = 0) ∧ (∀ i, i < 700 → V2 5 i = 0) ∧ (∀ s, s < 4 → V2 36 s = -1) ∧ V2 0 6 = 0 ∧ V2 0 13 = 0 ∧ V2 0 14 = -1 ∧ V2 0 34 = 0 ∧ V2 0 35 = 0
section IG
variable {S : g_Sh} {W : g_V} {L : g_L} {x k : Nat} {gp : Nat → Nat}
set_option maxHeartbeats 2000000 in
theorem init_G (h : S x = some (d_obj 0 11 (zrf tyX0))) (hv : W x = fun _ => 0) (hk : x < k) : ∃ S' W' n', cm_X0_init gp (S, W, L, k) x = some (S', W', L, n') ∧ k ≤ n' ∧ ∀ V2 L2, St0 V2 → G (S', W', L, n') x V2 L2 := by
  have zs : ∀ i, i < 5 ∨ i = 8 → (zrf tyX0 i).isSome = true := fun i hi => by
    have : i = 0 ∨ i = 1 ∨ i = 2 ∨ i = 3 ∨ i = 4 ∨ i = 8 := by omega
    rcases this with rfl | rfl | rfl | rfl | rfl | rfl <;> decide
  have zn : ∀ i, i = 5 ∨ i = 6 ∨ i = 7 ∨ i = 9 ∨ i = 10 → zrf tyX0 i = none := fun i hi => by
    rcases hi with rfl | rfl | rfl | rfl | rfl <;> decide
  obtain ⟨S0, r0, e0, h0, i0, o0, k0, g0⟩ := sv_ref (ρ := c_S) (S := S) (W := W) (L := L) (a := x) (k := k) (i := 0) (t := 7) (B := 4) (len := 4) (c := 4) h (zs 0 (by omega)) hk (by decide) (by decide)
  obtain ⟨S1, W1, k1, m, u, τ, e1, l1, f1, m0, fx1, mi1, fl1⟩ := new_field (ρ := c_S) (S := S0) (W := W) (L := L) (k := k + 1) (gp := gp)
  have x1 : S1 x = some (d_obj 0 11 r0) := by rw [(f1 x (by omega)).1]; exact h0
  obtain ⟨S2, r2, e2, h2, i2, o2, g2⟩ := sv_put (ρ := c_S) (i := 1) (o := some (k + 1)) x1 (by rw [o0 1 (by omega)]; exact zs 1 (by omega))
  obtain ⟨S3, W3, k3, m', u', τ', e3, l3, f3, m0', fx3, mi3, fl3⟩ := new_field (ρ := c_S) (S := S2) (W := W1) (L := L) (k := k1) (gp := gp)
  have x3 : S3 x = some (d_obj 0 11 r2) := by rw [(f3 x (by omega)).1]; exact h2
  obtain ⟨S4, r4, e4, h4, i4, o4, g4⟩ := sv_put (ρ := c_S) (i := 2) (o := some k1) x3 (by rw [o2 2 (by omega), o0 2 (by omega)]; exact zs 2 (by omega))
  obtain ⟨S5, r5, e5, h5, i5, o5, k5, g5⟩ := sv_ref (ρ := c_S) (S := S4) (W := W3) (L := L) (a := x) (k := k3) (i := 3) (t := 9) (B := 3) (len := 3) (c := 3) h4 (by rw [o4 3 (by omega), o2 3 (by omega), o0 3 (by omega)]; exact zs 3 (by omega)) (by omega) (by decide) (by decide)
  obtain ⟨S6, W6, r6, e6, h6, i6, o6, k6, g6, v6, y6⟩ := sv_arr0 (ρ := c_S) (S := S5) (W := W3) (L := L) (a := x) (k := k3 + 1) (i := 4) (t := 1) (N := 700) h5 (by rw [o5 4 (by omega), o4 4 (by omega), o2 4 (by omega), o0 4 (by omega)]; exact zs 4 (by omega)) (by omega)
  have r67 : r6 7 = none := by rw [o6 7 (by omega), o5 7 (by omega), o4 7 (by omega), o2 7 (by omega), o0 7 (by omega)]; exact zn 7 (by omega)
  obtain ⟨W7, hW7⟩ : ∃ W7 : g_V, W7 = upd2 W6 x 7 (-1) := ⟨_, rfl⟩
  obtain ⟨S8, W8, r8, e8, h8, i8, o8, k8, g8, v8, y8⟩ := sv_arr0 (ρ := c_S) (S := S6) (W := W7) (L := L) (a := x) (k := k3 + 2) (i := 8) (t := 0) (N := 144) h6 (by rw [o6 8 (by omega), o5 8 (by omega), o4 8 (by omega), o2 8 (by omega), o0 8 (by omega)]; exact zs 8 (by omega)) (by omega)
  have kq : S8 k = some (d_ref 7 4 (fun _ => none)) := by
    rw [g8 k (by omega) (by omega), g6 k (by omega) (by omega), g5 k (by omega) (by omega), g4 k (by omega), (f3 k (by omega)).1, g2 k (by omega), (f1 k (by omega)).1]; exact k0
  have r80 : r8 0 = some (some k) := by rw [o8 0 (by omega), o6 0 (by omega), o5 0 (by omega), o4 0 (by omega), o2 0 (by omega)]; exact i0
  obtain ⟨S9, W9, e9, ⟨el9, q9, q9'⟩, s9, g9, v9⟩ := init_slots (W := W8) (L := L) (k := k3 + 3) (gp := gp) h8 r80 kq (by omega) (by omega) (by omega)
  refine ⟨S9, W9, k3 + 3 + 4, ?_, by omega, fun V2 L2 hs => ?_⟩
  · unfold cm_X0_init
    rw [e0, e1, e2, e3, e4, e5, e6, zPI_T h6 r67, ← hW7, e8, e9, bnd_S]
  · obtain ⟨t1, t4, t5, t36, a6, a13, a14, a34, a35⟩ := hs
    -- cells are as they were
    have fS1 : ∀ b, b < k1 → b ≠ x → b ≠ k → S9 b = S1 b := fun b b1 b2 b3 => by
      rw [g9 b (by omega) b3, g8 b b2 (by omega), g6 b b2 (by omega), g5 b b2 (by omega), g4 b b2, (f3 b b1).1, g2 b b2]
    have fS3 : ∀ b, b < k3 → b ≠ x → b ≠ k → S9 b = S3 b := fun b b1 b2 b3 => by
      rw [g9 b (by omega) b3, g8 b b2 (by omega), g6 b b2 (by omega), g5 b b2 (by omega), g4 b b2]
    have fW3 : ∀ b, b < k3 → b ≠ x → W9 b = W3 b := fun b b1 b2 => by
      rw [v9 b (by omega), v8 b (by omega), hW7, upd2_ne _ b2, v6 b (by omega)]
    have fW1 : ∀ b, b < k1 → b ≠ x → W9 b = W1 b := fun b b1 b2 => by rw [fW3 b (by omega) b2, (f3 b b1).2]
    have Wx : ∀ j, j ≠ 7 → W9 x j = 0 := fun j hj => by
      rw [v9 x (by omega), v8 x (by omega), hW7, upd2_eq, upd_ne hj, v6 x (by omega), (f3 x (by omega)).2, (f1 x (by omega)).2, hv]
    have Wx7 : W9 x 7 = -1 := by rw [v9 x (by omega), v8 x (by omega), hW7, upd2_eq, upd_eq]
    have Sx : S9 x = some (d_obj 0 11 r8) := by rw [g9 x (by omega) (by omega)]; exact h8
    obtain ⟨ρ, hρ⟩ : ∃ ρ : Nat → Nat, ρ = fun a => if a = x then 7 else if a < k then 0 else if a = k then 8 else if a < k1 then (if τ a = true then 1 else 2) else if a < k3 then (if τ' a = true then 1 else 3) else if a = k3 then 9 else if a = k3 + 1 then 10 else if a = k3 + 2 then 11 else if a < k3 + 7 then 12 + (a - (k3 + 3)) else 0 := ⟨_, rfl⟩
    have ρx : ρ x = 7 := by rw [hρ]; exact if_pos rfl
    have ρk : ρ k = 8 := by rw [hρ]; dsimp only; rw [if_neg (by omega), if_neg (by omega), if_pos rfl]
    have ρ1 : ∀ a, k + 1 ≤ a → a < k1 → ρ a = if τ a = true then 1 else 2 := fun a a1 a2 => by rw [hρ]; dsimp only; rw [if_neg (by omega), if_neg (by omega), if_neg (by omega), if_pos a2]
    have ρ3 : ∀ a, k1 ≤ a → a < k3 → ρ a = if τ' a = true then 1 else 3 := fun a a1 a2 => by rw [hρ]; dsimp only; rw [if_neg (by omega), if_neg (by omega), if_neg (by omega), if_neg (by omega), if_pos a2]
    have ρ9 : ρ k3 = 9 := by rw [hρ]; dsimp only; rw [if_neg (by omega), if_neg (by omega), if_neg (by omega), if_neg (by omega), if_neg (by omega), if_pos rfl]
    have ρ10 : ρ (k3 + 1) = 10 := by rw [hρ]; dsimp only; rw [if_neg (by omega), if_neg (by omega), if_neg (by omega), if_neg (by omega), if_neg (by omega), if_neg (by omega), if_pos rfl]
    have ρ11 : ρ (k3 + 2) = 11 := by rw [hρ]; dsimp only; rw [if_neg (by omega), if_neg (by omega), if_neg (by omega), if_neg (by omega), if_neg (by omega), if_neg (by omega), if_neg (by omega), if_pos rfl]
    have ρ12 : ∀ s, s < 4 → ρ (k3 + 3 + s) = 12 + s := fun s hs => by
      rw [hρ]; dsimp only; rw [if_neg (by omega), if_neg (by omega), if_neg (by omega), if_neg (by omega), if_neg (by omega), if_neg (by omega), if_neg (by omega), if_neg (by omega), if_pos (by omega)]; omega
    have ρ0 : ∀ a, ρ a ≠ 0 → a < k3 + 3 + 4 := fun a ha => by
      by_cases c : a < k3 + 3 + 4
      · exact c
      · exfalso
        apply ha
        rw [hρ]; dsimp only; rw [if_neg (by omega), if_neg (by omega), if_neg (by omega), if_neg (by omega), if_neg (by omega), if_neg (by omega), if_neg (by omega), if_neg (by omega), if_neg (by omega)]
    obtain ⟨ρa, hρa⟩ : ∃ ρa : Nat → Nat, ρa = fun a => if k + 1 ≤ a ∧ a < k1 then (if τ a = true then 1 else 2) else 0 := ⟨_, rfl⟩
    have F1 := fl1 ρa 2 (by omega) (fun a a1 a2 => by rw [hρa]; exact if_pos ⟨a1, a2⟩)
    have ra : ∀ a, ρa a ≠ 0 → k + 1 ≤ a ∧ a < k1 := fun a ha => by
      by_cases c : k + 1 ≤ a ∧ a < k1
      · exact c
      · exact absurd (by rw [hρa]; exact if_neg c) ha
    have F1' : Fld (S9, W9, L, k3 + 3 + 4) ρ 2 m u (pBeg plR) := Fld_k F1 (by omega) (fun a ha => by
      have p := ra a (by omega)
      exact ⟨fS1 a p.2 (by omega) (by omega), by rw [ρ1 a p.1 p.2, hρa]; exact (if_pos p).symm⟩) (fun a ha _ _ _ => by
      have p := ra a (by omega)
      exact fW1 a p.2 (by omega))
    have T3 : Tri S3 W3 k3 (fun a => if k1 ≤ a ∧ a < k3 then (if τ' a = true then 1 else 3) else 0) m' := ⟨u' 0, 0, 0, fx3, fun i hi => by
      obtain ⟨a1, a2, a3⟩ := mi3 i (by omega)
      dsimp only
      rw [if_pos ⟨a1, a2⟩, a3]; rfl⟩
    have T9 : Tri S9 W9 (k3 + 3 + 4) ρ m' := Tri_k T3 (by omega) (fun a ha => by
      have ha : (if k1 ≤ a ∧ a < k3 then (if τ' a = true then 1 else 3) else 0) = 3 := ha
      by_cases c : k1 ≤ a ∧ a < k3
      · refine ⟨fS3 a c.2 (by omega) (by omega), fW3 a c.2 (by omega), ?_⟩
        rw [ρ3 a c.1 c.2]
        exact (if_pos c).symm
      · rw [if_neg c] at ha; omega)
    obtain ⟨q, hq⟩ : ∃ q : Nat → Nat, q = fun i => if i = 1 then k else k3 + i - 2 := ⟨_, rfl⟩
    have Q1 : q 1 = k := by rw [hq]; rfl
    have Q2 : q 2 = k3 := by rw [hq]; rfl
    have Q3 : q 3 = k3 + 1 := by rw [hq]; rfl
    have Q4 : q 4 = k3 + 2 := by rw [hq]; rfl
    have Q5 : ∀ s, s < 4 → q (5 + s) = k3 + 3 + s := fun s hs => by rw [hq]; dsimp only; rw [if_neg (by omega)]; omega
    have S9_3 : S9 k3 = some (d_ref 9 3 (fun _ => none)) := by rw [g9 k3 (by omega) (by omega), g8 k3 (by omega) (by omega), g6 k3 (by omega) (by omega)]; exact k5
    have S9_4 : S9 (k3 + 1) = some (d_int 1 700) := by rw [g9 _ (by omega) (by omega), g8 _ (by omega) (by omega)]; exact k6
    have S9_5 : S9 (k3 + 2) = some (d_int 0 144) := by rw [g9 _ (by omega) (by omega)]; exact k8
    have W9_4 : W9 (k3 + 1) = fun _ => 0 := by rw [v9 _ (by omega), v8 _ (by omega), hW7, upd2_ne _ (by omega)]; exact y6
    have i00 : (0 : Int32).toInt = 0 := rfl
    refine ⟨ρ, m, u, m', q, Fld_w F1' t1, T9, ⟨r8, Sx, ?_, ?_, ?_, ?_, ?_, ?_, ?_, ?_, ?_, ?_, ?_⟩, ⟨⟨?_, ?_, ?_⟩, ⟨0, by omega, ?_, ?_⟩, ⟨?_, fun i hi => ⟨?_, ?_, ?_⟩⟩, ?_, 0, by omega, ?_, ?_, fun i hi => by omega⟩, ⟨⟨el9, ?_, fun s hs => ?_⟩, fun s hs => Or.inl ⟨t36 s hs, zrf tyX7, ?_, by decide⟩⟩, ⟨fun _ => none, ?_, fun j hj => Or.inl ⟨t4 j hj, rfl⟩⟩, ρ0, ρx, ?_, ?_, ?_, ?_, fun s hs => ?_⟩
    · rw [Q1]; exact r80
    · rw [o8 1 (by omega), o6 1 (by omega), o5 1 (by omega), o4 1 (by omega), i2, m0]
    · rw [o8 2 (by omega), o6 2 (by omega), o5 2 (by omega), i4, m0']
    · rw [o8 3 (by omega), o6 3 (by omega), i5, Q2]
    · rw [o8 4 (by omega), i6, Q3]
    · rw [i8, Q4]
    · rw [o8 5 (by omega), o6 5 (by omega), o5 5 (by omega), o4 5 (by omega), o2 5 (by omega), o0 5 (by omega)]; exact zn 5 (by omega)
    · rw [o8 6 (by omega), o6 6 (by omega), o5 6 (by omega), o4 6 (by omega), o2 6 (by omega), o0 6 (by omega)]; exact zn 6 (by omega)
    · rw [o8 7 (by omega)]; exact r67
    · rw [o8 9 (by omega), o6 9 (by omega), o5 9 (by omega), o4 9 (by omega), o2 9 (by omega), o0 9 (by omega)]; exact zn 9 (by omega)
    · rw [o8 10 (by omega), o6 10 (by omega), o5 10 (by omega), o4 10 (by omega), o2 10 (by omega), o0 10 (by omega)]; exact zn 10 (by omega)
    · show W9 x 6 = _
      rw [Wx 6 (by omega), a13]
    · show W9 x 7 = _
      rw [Wx7, a14]
    · show W9 x 10 = _
      rw [Wx 10 (by omega), a35]
    · exact Wx 5 (by omega)
    · exact a6
    · rw [Q3]; exact S9_4
    · show W9 (q 3) i = _
      rw [Q3, W9_4, t5 i hi]
    · rw [t5 i hi, i00]; omega
    · rw [t5 i hi, i00]; omega
    · rw [Q4]; exact S9_5
    · exact Wx 9 (by omega)
    · exact a34
    · rw [Q1]; exact q9
    · rw [Q5 s hs]; exact q9' s hs
    · rw [Q5 s hs]; exact s9 s hs
    · show S9 (q 2) = _
      rw [Q2]; exact S9_3
    · rw [Q1]; exact ρk
    · rw [Q2]; exact ρ9
    · rw [Q3]; exact ρ10
    · rw [Q4]; exact ρ11
    · rw [Q5 s hs]; exact ρ12 s hs
end IG
