/-! PURE: a text is read: a line by its word -/
set_option maxRecDepth 100000
section BA
variable {σ τ ρ a1 a2 : Type}
theorem bnd_bnd (o : Option σ) (f : σ → Option τ) (g : τ → Option ρ) : bnd (bnd o f) g = bnd o (fun x => bnd (f x) g) := by cases o <;> rfl
theorem bnd_wr {V : g_V} {a n : Nat} {i x : Int32} (k : g_V → Option τ) (g : τ → Option ρ) : bnd (wrI V a n i x k) g = wrI V a n i x (fun W => bnd (k W) g) := by unfold wrI; split <;> rfl
theorem bnd_rd {f : Nat → Int32} {n : Nat} {i : Int32} (k : Int32 → Option τ) (g : τ → Option ρ) : bnd (rdI f n i k) g = rdI f n i (fun W => bnd (k W) g) := by unfold rdI; split <;> rfl
theorem bnd_nm {x : Int32} (k : Int32 → Option τ) (g : τ → Option ρ) : bnd (nmI x k) g = nmI x (fun W => bnd (k W) g) := rfl
theorem bnd_u2 (k : a1 → a2 → Option τ) (q : a1 × a2) (g : τ → Option ρ) : bnd (un2 k q) g = un2 (fun x y => bnd (k x y) g) q := rfl
theorem bnd_io (o : Option (c_S ⊕ (Nat × c_S))) : bnd o (cs2 (fun Z => some (.inl Z)) (un2 fun x Z => some (.inr (x, Z)))) = o := by
  rcases o with _ | (Z | ⟨x, Z⟩) <;> rfl
end BA
/-- a line of the reference by its word -/
def lnT (K : Nat) (V : g_V) : Option g_V := if K = 0 then tw_readGround V else if K = 1 then tw_readLay V else if K = 2 then tw_readStream V else if K = 3 then bnd (tw_number (upd2 V 0 18 1) 1 300) (un2 fun x V => wrI V 15 810 5 x fun V' => some V') else if K = 4 then bnd (tw_readBox V 1 10) shW else if K = 5 then tw_readPipe V else if K = 6 then bnd (tw_number (upd2 V 0 19 1) 0 99999) (un2 fun x V => wrI V 15 810 6 x fun V' => some V') else if K = 7 then hoW V else tw_readRule V
section LT
variable {Sh : g_Sh} {V V' : g_V} {L : g_L} {n N0 r tp ms bg sz td np nh nr lc lt : Nat} {V2 V2' : g_V} {κ u : Nat → Nat} {gp : Nat → Nat}
theorem Ps_lt {l : Nat} (h : Ps gp N0 Sh V n V2 r tp ms bg sz td κ u np nh nr lc lt) (hl : l ≤ 41) : Ps gp N0 Sh V n (upd2 V2 15 0 (nI l)) r tp ms bg sz td κ u np nh nr lc l := by
  obtain ⟨h1, hu, h2, ⟨f1, f2⟩, ⟨l1, l2, l3, l4⟩, hk, hm⟩ := h
  have e0 : ∀ j, upd2 V2 15 0 (nI l) 0 j = V2 0 j := fun j => by rw [upd2_ne _ (by omega)]
  have hw : ∀ j, j ≠ 0 → upd2 V2 15 0 (nI l) 15 j = V2 15 j := fun j hj => by rw [upd2_eq, upd_ne hj]
  obtain ⟨n1, n2, n3, n4, n5, n6, n7, n8⟩ := Td_keep (Sh' := Sh) (V' := V) (κ' := κ) (u' := u) (V2' := upd2 V2 15 0 (nI l)) 0 h2 (fun a _ _ _ => ⟨rfl, rfl, rfl⟩) (fun _ _ => rfl) (fun j hj => hw j (by omega)) (fun _ => upd2_ne _ (by omega)) (fun _ => upd2_ne _ (by omega))
  exact ⟨RW_15 (by omega) h1, hu, ⟨n1 (by omega), n2 (by omega), n3 (by omega), n4 (by omega), n5 (by omega), n6 (by omega), n7 (by omega), n8⟩, ⟨by rw [e0]; exact f1, by rw [e0]; exact f2⟩, ⟨l1, by rw [upd2_eq, upd_eq], l3, hl⟩, hk, hm⟩
theorem tw_tk {w : Nat} {b : Bool} (h : tw_is w V2 = some (b2i b)) : tw_takes w V2 = if b = true then bnd (tw_step V2) (fun W => some (1, W)) else some (0, V2) := by
  unfold tw_takes
  rw [h, bnd_S, okI_b]
  cases b with
  | false => rfl
  | true => rfl
theorem tw_ln {K : Nat} (h : Ps gp N0 Sh V n V2 r tp ms bg sz td κ u np nh nr lc lt) (hg : gpI gp) (hK : K < 9) (hb : bw V2 (4 + K) = true) (hl : lt ≤ 40) : tw_readLine_J250 V2 = bnd (tw_step (upd2 V2 15 0 (nI (lt + 1)))) (fun W => bnd (lnT K W) (fun W' => tw_readLine_J547 W')) := by
  have h1 := h.1
  have P1 := Ps_lt (l := lt + 1) h (by omega)
  have l2 : V2 15 0 = nI lt := h.2.2.2.2.1.2.1
  have h13 : V2 0 13 = 0 := h1.2.2.2.2.2.1
  have z1 : ¬ (1 : Int32) = 0 := by decide
  obtain ⟨W, hW⟩ : ∃ W, W = upd2 V2 15 0 (nI (lt + 1)) := ⟨_, rfl⟩
  rw [← hW] at P1
  have o : ∀ w, 4 ≤ w → w < 13 → tw_takes w W = if w = 4 + K then bnd (tw_step W) (fun W' => some (1, W')) else some (0, W) := fun w w4 w13 => by
    have e := (t_isb (L := fun _ _ => 0) (n := 0) P1.1 hg (w := w) (by omega)).2
    rw [bw_eq h1 P1.1 hg (by omega)] at e
    rw [tw_tk e]
    by_cases c : w = 4 + K
    · rw [if_pos c, if_pos (by rw [c]; exact hb)]
    · rw [if_neg c, if_neg (fun hh => c (bw_one h1 (by omega) (by omega) hh hb))]
  have r0 : ∀ k : Int32 → Option g_V, rdI (V2 15) 810 0 k = k (nI lt) := fun k => by simp (disch := omega) only [rdI_L, rdI_in, l2]
  have w0 : ∀ k : g_V → Option g_V, wrI V2 15 810 0 (nI lt + 1) k = k W := fun k => by simp (disch := omega) only [wrI_L, wrI_in, L_addR, hW]
  unfold tw_readLine_J250 tw_good
  rw [if_pos h13, bnd_S, if_neg z1, r0, w0, ← hW]
  have n : ∀ w, 4 ≤ w → w < 13 → w ≠ 4 + K → ∀ k : Int32 → g_V → Option g_V, bnd (tw_takes w W) (un2 k) = k 0 W := fun w w4 w13 hn k => by rw [o w w4 w13, if_neg hn]; rfl
  have y : ∀ w, 4 ≤ w → w < 13 → w = 4 + K → ∀ k : Int32 → g_V → Option g_V, bnd (tw_takes w W) (un2 k) = bnd (tw_step W) (fun W' => k 1 W') := fun w w4 w13 hn k => by rw [o w w4 w13, if_pos hn, bnd_bnd]; rfl
  have hh : K = 0 ∨ K = 1 ∨ K = 2 ∨ K = 3 ∨ K = 4 ∨ K = 5 ∨ K = 6 ∨ K = 7 ∨ K = 8 := by omega
  rcases hh with rfl | rfl | rfl | rfl | rfl | rfl | rfl | rfl | rfl
  · rw [y 4 (by omega) (by omega) (by omega)]
    refine congrArg (bnd (tw_step W)) (funext fun W' => ?_)
    rw [if_neg z1]
    rfl
  · rw [n 4 (by omega) (by omega) (by omega), if_pos rfl, y 5 (by omega) (by omega) (by omega)]
    refine congrArg (bnd (tw_step W)) (funext fun W' => ?_)
    rw [if_neg z1]
    rfl
  · rw [n 4 (by omega) (by omega) (by omega), if_pos rfl, n 5 (by omega) (by omega) (by omega), if_pos rfl, y 6 (by omega) (by omega) (by omega)]
    refine congrArg (bnd (tw_step W)) (funext fun W' => ?_)
    rw [if_neg z1]
    rfl
  · rw [n 4 (by omega) (by omega) (by omega), if_pos rfl, n 5 (by omega) (by omega) (by omega), if_pos rfl, n 6 (by omega) (by omega) (by omega), if_pos rfl, n 9 (by omega) (by omega) (by omega), if_pos rfl, n 12 (by omega) (by omega) (by omega), if_pos rfl, y 7 (by omega) (by omega) (by omega)]
    refine congrArg (bnd (tw_step W)) (funext fun W' => ?_)
    rw [if_neg z1]
    show _ = bnd (bnd (tw_number (upd2 W' 0 18 1) 1 300) (un2 fun x V => wrI V 15 810 5 x fun V' => some V')) (fun W' => tw_readLine_J547 W')
    simp only [ptI_S, bnd_bnd, bnd_u2, bnd_wr, bnd_S]
  · rw [n 4 (by omega) (by omega) (by omega), if_pos rfl, n 5 (by omega) (by omega) (by omega), if_pos rfl, n 6 (by omega) (by omega) (by omega), if_pos rfl, n 9 (by omega) (by omega) (by omega), if_pos rfl, n 12 (by omega) (by omega) (by omega), if_pos rfl, n 7 (by omega) (by omega) (by omega), if_pos rfl, n 10 (by omega) (by omega) (by omega), if_pos rfl, y 8 (by omega) (by omega) (by omega)]
    refine congrArg (bnd (tw_step W)) (funext fun W' => ?_)
    rw [if_neg z1]
    show _ = bnd (bnd (tw_readBox W' 1 10) shW) (fun W' => tw_readLine_J547 W')
    simp only [bnd_bnd, shW, bnd_wr, bnd_S]
  · rw [n 4 (by omega) (by omega) (by omega), if_pos rfl, n 5 (by omega) (by omega) (by omega), if_pos rfl, n 6 (by omega) (by omega) (by omega), if_pos rfl, y 9 (by omega) (by omega) (by omega)]
    refine congrArg (bnd (tw_step W)) (funext fun W' => ?_)
    rw [if_neg z1]
    rfl
  · rw [n 4 (by omega) (by omega) (by omega), if_pos rfl, n 5 (by omega) (by omega) (by omega), if_pos rfl, n 6 (by omega) (by omega) (by omega), if_pos rfl, n 9 (by omega) (by omega) (by omega), if_pos rfl, n 12 (by omega) (by omega) (by omega), if_pos rfl, n 7 (by omega) (by omega) (by omega), if_pos rfl, y 10 (by omega) (by omega) (by omega)]
    refine congrArg (bnd (tw_step W)) (funext fun W' => ?_)
    rw [if_neg z1]
    show _ = bnd (bnd (tw_number (upd2 W' 0 19 1) 0 99999) (un2 fun x V => wrI V 15 810 6 x fun V' => some V')) (fun W' => tw_readLine_J547 W')
    simp only [ptI_S, bnd_bnd, bnd_u2, bnd_wr, bnd_S]
  · rw [n 4 (by omega) (by omega) (by omega), if_pos rfl, n 5 (by omega) (by omega) (by omega), if_pos rfl, n 6 (by omega) (by omega) (by omega), if_pos rfl, n 9 (by omega) (by omega) (by omega), if_pos rfl, n 12 (by omega) (by omega) (by omega), if_pos rfl, n 7 (by omega) (by omega) (by omega), if_pos rfl, n 10 (by omega) (by omega) (by omega), if_pos rfl, n 8 (by omega) (by omega) (by omega), if_pos rfl]
    refine congrArg (bnd (tw_step W)) (funext fun W' => ?_)
    show _ = bnd (hoW W') (fun W' => tw_readLine_J547 W')
    simp only [hoW, bnd_bnd, bnd_u2, bnd_wr, bnd_rd, bnd_nm, bnd_S]
  · rw [n 4 (by omega) (by omega) (by omega), if_pos rfl, n 5 (by omega) (by omega) (by omega), if_pos rfl, n 6 (by omega) (by omega) (by omega), if_pos rfl, n 9 (by omega) (by omega) (by omega), if_pos rfl, y 12 (by omega) (by omega) (by omega)]
    refine congrArg (bnd (tw_step W)) (funext fun W' => ?_)
    rw [if_neg z1]
    rfl
theorem c_line {K : Nat} (h : Ps gp N0 Sh V n V2 r tp ms bg sz td κ u np nh nr lc lt) (hg : gpI gp) (hK : K < 9) (h5 : K = 5 → np < 12) (h7 : K = 7 → nh < 6) (h8 : K = 8 → nr < 4) : OL gp N0 Sh V L V2 r tp ms bg sz td lc lt (cm_X3_line gp (Sh, V, L, n) r td (nI K)) (lnT K V2) := by
  have hro := h.1.1
  have hh : K = 0 ∨ K = 1 ∨ K = 2 ∨ K = 3 ∨ K = 4 ∨ K = 5 ∨ K = 6 ∨ K = 7 ∨ K = 8 := by omega
  unfold cm_X3_line lnT
  simp only [r_K hro, bnd_io]
  rcases hh with rfl | rfl | rfl | rfl | rfl | rfl | rfl | rfl | rfl
  · exact l_ground h hg
  · exact l_lay h hg
  · exact l_stream h hg
  · exact l_far h
  · exact l_shaft h hg
  · exact l_pipe h hg (h5 rfl)
  · exact l_cold h
  · exact l_house h hg (h7 rfl)
  · exact l_rule h hg (h8 rfl)
theorem tw_front0 (h : Ps gp N0 Sh V n V2 r tp ms bg sz td κ u np nh nr lc lt) (hg : gpI gp) (hb : ∀ w, 4 ≤ w → w < 13 → bw V2 w = false) : tw_readLine V2 = bnd (tw_wrong V2 1) (fun V_156 => tw_readLine_J250 V_156) := by
  have h1 := h.1
  have e : ∀ w, 4 ≤ w → w < 13 → tw_is w V2 = some 0 := fun w w4 w13 => by
    rw [(t_isb (L := fun _ _ => 0) (n := 0) h1 hg (w := w) (by omega)).2, hb w w4 w13]; rfl
  have l2 : V2 15 0 = nI lt := h.2.2.2.2.1.2.1
  unfold tw_readLine
  simp only [e 4 (by omega) (by omega), e 5 (by omega) (by omega), e 6 (by omega) (by omega), e 7 (by omega) (by omega), e 8 (by omega) (by omega), e 9 (by omega) (by omega), e 10 (by omega) (by omega), e 11 (by omega) (by omega), e 12 (by omega) (by omega), bnd_S, if_true]
  unfold tw_readLine_J94 tw_readLine_J127 tw_readLine_J148 tw_readLine_J168 tw_readLine_J185 tw_readLine_J206 tw_readLine_J223 tw_readLine_J227 tw_readLine_J228
  simp (disch := omega) only [rdI_L, rdI_in, l2, e 7 (by omega) (by omega), e 8 (by omega) (by omega), e 9 (by omega) (by omega), e 10 (by omega) (by omega), e 11 (by omega) (by omega), e 12 (by omega) (by omega), bnd_S, if_true]
  split <;> rfl
theorem d_J250 {W : g_V} (dd : ¬ W 0 13 = 0) : tw_readLine_J250 W = some W := by
  unfold tw_readLine_J250
  rw [d_good dd, bnd_S, if_pos rfl]
theorem d_J547 {W : g_V} (dd : ¬ W 0 13 = 0) : tw_readLine_J547 W = some W := by
  unfold tw_readLine_J547 tw_readLine_J561
  rw [d_sign dd, bnd_S, if_pos rfl, d_wrong dd, bnd_S, d_good dd, bnd_S, if_pos rfl]
end LT
