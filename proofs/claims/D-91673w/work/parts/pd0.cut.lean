/-! PURE: slots: numbers cut to a width; loops of the reference over rows of longs; the frame -/
set_option maxRecDepth 100000
theorem bv_cut {k : Nat} (hk : 0 < k) (hk2 : k ≤ 64) (x : BitVec 64) : (x <<< (64 - k)).sshiftRight (64 - k) = (x.setWidth k).signExtend 64 := by
  apply BitVec.eq_of_getLsbD_eq
  intro i hi
  rw [BitVec.getLsbD_sshiftRight, BitVec.getLsbD_signExtend, BitVec.msb_eq_getLsbD_last, BitVec.msb_eq_getLsbD_last]
  simp only [BitVec.getLsbD_shiftLeft, BitVec.getLsbD_setWidth]
  by_cases h1 : i < k
  · have a1 : 64 - k + i < 64 := by omega
    have a2 : ¬ (64 - k + i < 64 - k) := by omega
    have a3 : 64 - k + i - (64 - k) = i := by omega
    have a4 : ¬ 64 ≤ i := by omega
    simp [a1, a2, a3, a4, h1, hi]
  · have a1 : ¬ 64 - k + i < 64 := by omega
    have a2 : ¬ (63 < 64 - k) := by omega
    have a3 : 63 - (64 - k) = k - 1 := by omega
    have a4 : ¬ 64 ≤ i := by omega
    have a5 : k - 1 < k := by omega
    have a6 : 64 - 1 = 63 := rfl
    simp [a1, a2, a3, a4, a5, h1, hi]
theorem cut_0 (a : Int64) : tw_cut a (nI 0) = some a.toInt32.toInt8.toInt32.toInt64 := by
  unfold tw_cut
  rw [nmI_S, show (64 - ((8 : Int32) <<< (nI 0 &&& 31))).toInt64 &&& 63 = 56 by decide]
  refine congrArg some ?_
  apply Int64.toBitVec_inj.1
  rw [Int64.toBitVec_shiftRight, Int64.toBitVec_shiftLeft, show (56 : Int64).toBitVec.smod 64 = 56#64 by decide, BitVec.sshiftRight_eq', BitVec.shiftLeft_eq', show (56#64).toNat = 64 - 8 from rfl, bv_cut (by omega) (by omega)]
  simp only [Int32.toBitVec_toInt64, Int8.toBitVec_toInt32, Int32.toBitVec_toInt8, Int64.toBitVec_toInt32]
  apply BitVec.eq_of_getLsbD_eq
  intro i hi
  simp only [BitVec.getLsbD_signExtend, BitVec.msb_eq_getLsbD_last, BitVec.getLsbD_setWidth]
  by_cases h1 : i < 8
  · have : i < 32 := by omega
    simp [h1, hi, this]
  · by_cases h2 : i < 32
    · simp [h1, hi, h2]
    · simp [h1, hi, h2]
theorem cut_1 (a : Int64) : tw_cut a (nI 1) = some a.toInt32.toInt16.toInt32.toInt64 := by
  unfold tw_cut
  rw [nmI_S, show (64 - ((8 : Int32) <<< (nI 1 &&& 31))).toInt64 &&& 63 = 48 by decide]
  refine congrArg some ?_
  apply Int64.toBitVec_inj.1
  rw [Int64.toBitVec_shiftRight, Int64.toBitVec_shiftLeft, show (48 : Int64).toBitVec.smod 64 = 48#64 by decide, BitVec.sshiftRight_eq', BitVec.shiftLeft_eq', show (48#64).toNat = 64 - 16 from rfl, bv_cut (by omega) (by omega)]
  simp only [Int32.toBitVec_toInt64, Int16.toBitVec_toInt32, Int32.toBitVec_toInt16, Int64.toBitVec_toInt32]
  apply BitVec.eq_of_getLsbD_eq
  intro i hi
  simp only [BitVec.getLsbD_signExtend, BitVec.msb_eq_getLsbD_last, BitVec.getLsbD_setWidth]
  by_cases h1 : i < 16
  · have : i < 32 := by omega
    simp [h1, hi, this]
  · by_cases h2 : i < 32
    · simp [h1, hi, h2]
    · simp [h1, hi, h2]
theorem cut_2 (a : Int64) : tw_cut a (nI 2) = some a.toInt32.toInt64 := by
  unfold tw_cut
  rw [nmI_S, show (64 - ((8 : Int32) <<< (nI 2 &&& 31))).toInt64 &&& 63 = 32 by decide]
  refine congrArg some ?_
  apply Int64.toBitVec_inj.1
  rw [Int64.toBitVec_shiftRight, Int64.toBitVec_shiftLeft, show (32 : Int64).toBitVec.smod 64 = 32#64 by decide, BitVec.sshiftRight_eq', BitVec.shiftLeft_eq', show (32#64).toNat = 64 - 32 from rfl, bv_cut (by omega) (by omega)]
  simp only [Int32.toBitVec_toInt64, Int64.toBitVec_toInt32]
  apply BitVec.eq_of_getLsbD_eq
  intro i hi
  simp only [BitVec.getLsbD_signExtend, BitVec.msb_eq_getLsbD_last, BitVec.getLsbD_setWidth]
  by_cases h1 : i < 32
  · simp [h1, hi]
  · simp [h1, hi]
theorem cut_3 (a : Int64) : tw_cut a (nI 3) = some a := by
  unfold tw_cut
  rw [nmI_S, show (64 - ((8 : Int32) <<< (nI 3 &&& 31))).toInt64 &&& 63 = 0 by decide]
  refine congrArg some ?_
  apply Int64.toBitVec_inj.1
  rw [Int64.toBitVec_shiftRight, Int64.toBitVec_shiftLeft, show (0 : Int64).toBitVec.smod 64 = 0#64 by decide]
  simp
theorem cut_8 (a : Int32) : a.toInt8.toInt32.toInt8.toInt32 = a.toInt8.toInt32 := by simp
theorem cut_16 (a : Int32) : a.toInt16.toInt32.toInt16.toInt32 = a.toInt16.toInt32 := by simp
theorem updL2_row (L : g_L) (k i : Nat) (x : Int64) : updL2 L k i x = rowL L k (vp_updL (L k) i x) := by
  funext j; unfold updL2 rowL; split <;> rfl
theorem rowL_eq {L : g_L} {a : Nat} {f : Nat → Int64} : rowL L a f a = f := by simp [rowL]
theorem rowL_ne {L : g_L} {a b : Nat} {f : Nat → Int64} (h : b ≠ a) : rowL L a f b = L b := by simp [rowL, h]
theorem rowL_over (L : g_L) (a : Nat) (f g : Nat → Int64) : rowL (rowL L a f) a g = rowL L a g := by
  funext j; unfold rowL; split <;> rfl
theorem updL_at (f : Nat → Int64) (i : Nat) (x : Int64) (j : Nat) : vp_updL f i x j = if j = i then x else f j := rfl
theorem in_out {a : Int32} {hi : Int64} {N : Nat} (hN : N ≤ 2 ^ 31) (h : hi.toInt = (N : Int) - 1) : (tw_in a.toInt64 0 hi = some 0 ∧ (a < 0 ∨ N ≤ a.toNatClampNeg)) ∨ ∃ k, k < N ∧ a = nI k ∧ tw_in a.toInt64 0 hi = some 1 := by
  rcases in_N (a := a) hN h with h1 | h1
  · refine Or.inl ⟨h1, ?_⟩
    rw [tw_inI, h, show (0 : Int64).toInt = 0 from rfl] at h1
    by_cases hc : 0 ≤ a.toInt ∧ a.toInt ≤ (N : Int) - 1
    · rw [if_pos hc] at h1; cases h1
    · by_cases h0 : a < 0
      · exact Or.inl h0
      · right
        rw [Int32.lt_iff_toInt_lt, show (0 : Int32).toInt = 0 from rfl] at h0
        show N ≤ a.toInt.toNat
        omega
  · exact Or.inr h1
/-- a row of the reference's longs emptied -/
theorem tw_row_loop {s : Nat} {V : g_V} (hs : s < 4) (L : g_L) : tw_row_L52 (nI s) V 1000 0 L = some (rowL L 38 (fun j => if 60 * s ≤ j ∧ j < 60 * s + 60 then 0 else L 38 j)) := by
  have e := lp_run (F := tw_row_F52 (nI s) V) (N := 60) (st := fun i => (nI i, rowL L 38 (fun j => if 60 * s ≤ j ∧ j < 60 * s + i then 0 else L 38 j))) (out := rowL L 38 (fun j => if 60 * s ≤ j ∧ j < 60 * s + 60 then 0 else L 38 j)) (fun rec i hi => ?_) (fun rec => ?_) 1000 0 (by omega) (by omega)
  · unfold tw_row_L52
    refine Eq.trans (congrArg _ ?_) e
    refine Prod.ext rfl ?_
    show L = rowL L 38 _
    funext k
    by_cases hk : k = 38
    · subst hk
      rw [rowL_eq]
      funext j
      rw [if_neg (by omega)]
    · rw [rowL_ne hk]
  · show tw_row_B52 _ _ _ _ _ = _
    unfold tw_row_B52
    dsimp only
    have c : ¬ (60 : Int32) ≤ nI i := by rw [show (60 : Int32) = nI 60 from rfl, N_le (by omega) (by omega)]; omega
    rw [if_neg c, show (60 : Int32) * nI s + nI i = nI (60 * s + i) by rw [show (60 : Int32) = nI 60 from rfl, nI_mul, nI_add], wrL_in (by omega) (by omega), nmI_S, show nI i + 1 = nI (i + 1) by rw [show (1 : Int32) = nI 1 from rfl, nI_add], updL2_row, rowL_over, rowL_eq]
    show rec (nI (i + 1), rowL L 38 _) = rec (nI (i + 1), rowL L 38 _)
    congr 3
    funext j
    rw [updL_at]
    by_cases h1 : j = 60 * s + i
    · rw [if_pos h1, if_pos (by omega)]
    · rw [if_neg h1]
      by_cases h2 : 60 * s ≤ j ∧ j < 60 * s + i
      · rw [if_pos h2, if_pos (by omega)]
      · rw [if_neg h2, if_neg (by omega)]
  · show tw_row_B52 _ _ _ _ _ = _
    unfold tw_row_B52
    dsimp only
    rw [if_pos (by decide)]
/-- a stretch of the reference's longs taken out -/
theorem tw_paste_out {s p k : Nat} {x3 x4 : Int32} {V : g_V} (hs : s < 4) (hk : p + k ≤ 60) (L : g_L) : tw_paste_L113 (nI s) (nI p) x3 x4 (nI k) V 1000 0 L = some (rowL L 39 (fun j => if j < k then L 38 (60 * s + p + j) else L 39 j)) := by
  have e := lp_run (F := tw_paste_F113 (nI s) (nI p) x3 x4 (nI k) V) (N := k) (st := fun i => (nI i, rowL L 39 (fun j => if j < i then L 38 (60 * s + p + j) else L 39 j))) (out := rowL L 39 (fun j => if j < k then L 38 (60 * s + p + j) else L 39 j)) (fun rec i hi => ?_) (fun rec => ?_) 1000 0 (by omega) (by omega)
  · unfold tw_paste_L113
    refine Eq.trans (congrArg _ ?_) e
    refine Prod.ext rfl ?_
    show L = rowL L 39 _
    funext k
    by_cases hk : k = 39
    · subst hk
      rw [rowL_eq]
      funext j
      rw [if_neg (by omega)]
    · rw [rowL_ne hk]
  · show tw_paste_B113 _ _ _ _ _ _ _ _ _ = _
    unfold tw_paste_B113
    dsimp only
    have c : ¬ nI k ≤ nI i := by rw [N_le (by omega) (by omega)]; omega
    rw [if_neg c, show (60 : Int32) * nI s + nI p + nI i = nI (60 * s + p + i) by rw [show (60 : Int32) = nI 60 from rfl, nI_mul, nI_add, nI_add], rdL_in (by omega) (by omega), wrL_in (by omega) (by omega), nmI_S, show nI i + 1 = nI (i + 1) by rw [show (1 : Int32) = nI 1 from rfl, nI_add], updL2_row, rowL_over, rowL_eq, rowL_ne (by omega)]
    show rec (nI (i + 1), rowL L 39 _) = rec (nI (i + 1), rowL L 39 _)
    congr 3
    funext j
    rw [updL_at]
    by_cases h1 : j = i
    · rw [if_pos h1, if_pos (by omega), h1]
    · rw [if_neg h1]
      by_cases h2 : j < i
      · rw [if_pos h2, if_pos (by omega)]
      · rw [if_neg h2, if_neg (by omega)]
  · show tw_paste_B113 _ _ _ _ _ _ _ _ _ = _
    unfold tw_paste_B113
    dsimp only
    rw [if_pos (by rw [N_le (by omega) (by omega)]; omega)]
/-- and put in -/
theorem tw_paste_in {s p k : Nat} {V : g_V} (hs : s < 4) (hk : p + k ≤ 60) (L : g_L) : tw_paste_L150 (nI s) (nI p) (nI k) V 1000 0 L = some (rowL L 38 (fun j => if 60 * s + p ≤ j ∧ j < 60 * s + p + k then L 39 (j - (60 * s + p)) else L 38 j)) := by
  have e := lp_run (F := tw_paste_F150 (nI s) (nI p) (nI k) V) (N := k) (st := fun i => (nI i, rowL L 38 (fun j => if 60 * s + p ≤ j ∧ j < 60 * s + p + i then L 39 (j - (60 * s + p)) else L 38 j))) (out := rowL L 38 (fun j => if 60 * s + p ≤ j ∧ j < 60 * s + p + k then L 39 (j - (60 * s + p)) else L 38 j)) (fun rec i hi => ?_) (fun rec => ?_) 1000 0 (by omega) (by omega)
  · unfold tw_paste_L150
    refine Eq.trans (congrArg _ ?_) e
    refine Prod.ext rfl ?_
    show L = rowL L 38 _
    funext k
    by_cases hk : k = 38
    · subst hk
      rw [rowL_eq]
      funext j
      rw [if_neg (by omega)]
    · rw [rowL_ne hk]
  · show tw_paste_B150 _ _ _ _ _ _ _ = _
    unfold tw_paste_B150
    dsimp only
    have c : ¬ nI k ≤ nI i := by rw [N_le (by omega) (by omega)]; omega
    rw [if_neg c, rdL_in (by omega) (by omega), show (60 : Int32) * nI s + nI p + nI i = nI (60 * s + p + i) by rw [show (60 : Int32) = nI 60 from rfl, nI_mul, nI_add, nI_add], wrL_in (by omega) (by omega), nmI_S, show nI i + 1 = nI (i + 1) by rw [show (1 : Int32) = nI 1 from rfl, nI_add], updL2_row, rowL_over, rowL_eq, rowL_ne (by omega)]
    show rec (nI (i + 1), rowL L 38 _) = rec (nI (i + 1), rowL L 38 _)
    congr 3
    funext j
    rw [updL_at]
    by_cases h1 : j = 60 * s + p + i
    · rw [if_pos h1, if_pos (by omega), show j - (60 * s + p) = i by omega]
    · rw [if_neg h1]
      by_cases h2 : 60 * s + p ≤ j ∧ j < 60 * s + p + i
      · rw [if_pos h2, if_pos (by omega)]
      · rw [if_neg h2, if_neg (by omega)]
  · show tw_paste_B150 _ _ _ _ _ _ _ = _
    unfold tw_paste_B150
    dsimp only
    rw [if_pos (by rw [N_le (by omega) (by omega)]; omega)]
section SF
variable {Sh Sh' : g_Sh} {V V' : g_V} {L L' : g_L} {n n' x : Nat} {m u mt q ρ ρ' : Nat → Nat} {V2 V2' : g_V} {L2 L2' : g_L}
theorem Row_g {b wd N : Nat} {g g' : Nat → Int64} (h : Row Sh V L b wd N g) (hg : ∀ i, i < N → g' i = g i) : Row Sh V L b wd N g' := by
  rcases h with ⟨h0, h1, h2⟩ | ⟨h0, h1, h2⟩ | ⟨h0, h1, h2⟩ | ⟨h0, h1, h2⟩
  · exact Or.inl ⟨h0, h1, fun i hi => by rw [hg i hi]; exact h2 i hi⟩
  · exact Or.inr (Or.inl ⟨h0, h1, fun i hi => by rw [hg i hi]; exact h2 i hi⟩)
  · exact Or.inr (Or.inr (Or.inl ⟨h0, h1, fun i hi => by rw [hg i hi]; exact h2 i hi⟩))
  · exact Or.inr (Or.inr (Or.inr ⟨h0, h1, fun i hi => by rw [hg i hi]; exact h2 i hi⟩))
/-- a slot changed -/
theorem GG_sl {s : Nat} (h : GG (Sh, V, L, n) x ρ m u mt q V2 L2) (hs : s < 4) (hn : n ≤ n') (hρ : ∀ a, ρ a ≠ 0 → ρ' a = ρ a) (hρ' : ∀ a, ρ' a ≠ 0 → a < n') (hz : ∀ a, ρ a ≠ 0 → ρ a ≠ 12 + s → ρ a ≠ 16 + s → Sh' a = Sh a ∧ V' a = V a ∧ L' a = L a) (hv : ∀ j, j ≠ 36 → j ≠ 37 → V2' j = V2 j) (h36 : ∀ t, t < 4 → t ≠ s → V2' 36 t = V2 36 t ∧ V2' 37 t = V2 37 t) (h38 : ∀ t i, t < 4 → t ≠ s → i < 60 → L2' 38 (60 * t + i) = L2 38 (60 * t + i)) (hS : SlR Sh' V' L' ρ' s (q (5 + s)) V2' L2') : GG (Sh', V', L', n') x ρ' m u mt q V2' L2' := by
  obtain ⟨hF, hT, hM, hN, ⟨⟨el, e1, e2⟩, e3⟩, hI, hO⟩ := h
  simp only [zSh_T, zV_T, zL_T, zn_T] at hT hM hN e1 e3 hO
  have hO' := hO
  obtain ⟨o1, o2, o3, o4, o5, o6, o7⟩ := hO'
  have zz : ∀ a, ρ a ≠ 0 → ρ a < 12 → Sh' a = Sh a ∧ V' a = V a ∧ L' a = L a ∧ ρ' a = ρ a := fun a h0 h1 => ⟨(hz a h0 (by omega) (by omega)).1, (hz a h0 (by omega) (by omega)).2.1, (hz a h0 (by omega) (by omega)).2.2, hρ a h0⟩
  refine ⟨?_, Tri_k hT hn (fun a ha => ⟨(zz a (by omega) (by omega)).1, (zz a (by omega) (by omega)).2.1, (zz a (by omega) (by omega)).2.2.2⟩), ?_, ?_, ⟨⟨el, by show Sh' _ = _; rw [(zz _ (by omega) (by omega)).1]; exact e1, e2⟩, fun t ht => ?_⟩, GI_k hI hO (fun a ha => ⟨(zz a (by omega) (by omega)).1, (zz a (by omega) (by omega)).2.2.2, (zz a (by omega) (by omega)).2.1⟩) ⟨hv _ (by omega) (by omega), hv _ (by omega) (by omega)⟩, hρ', ?_⟩
  · rw [hv 1 (by omega) (by omega)]
    exact Fld_k hF (by omega) (fun a ha => ⟨(zz a (by omega) (by omega)).1, (zz a (by omega) (by omega)).2.2.2⟩) (fun a ha _ _ _ => (zz a (by omega) (by omega)).2.1)
  · show GM Sh' x (m 0) (mt 0) q
    unfold GM
    rw [(zz x (by omega) (by omega)).1]
    exact hM
  · show GN Sh' V' x q V2'
    unfold GN
    rw [(zz (q 3) (by omega) (by omega)).1, (zz (q 4) (by omega) (by omega)).1, (zz x (by omega) (by omega)).2.1, (zz (q 3) (by omega) (by omega)).2.1, (zz (q 4) (by omega) (by omega)).2.1, hv 0 (by omega) (by omega), hv 5 (by omega) (by omega), hv 33 (by omega) (by omega)]
    exact hN
  · by_cases hc : t = s
    · subst hc; exact hS
    · have h7 := o7 t ht
      have k := SlR_k (V2' := V2') (e3 t ht) (hz _ (by omega) (by omega) (by omega)).1 (fun b hb => ⟨(hz b (by omega) (by omega) (by omega)).1, (hz b (by omega) (by omega) (by omega)).2.1, (hz b (by omega) (by omega) (by omega)).2.2, hρ b (by omega)⟩) (h36 t ht hc).1 (h36 t ht hc).2
      rcases k with k | ⟨N, wd, b, rf, k1, k2, k3, k4, k5, k6, k7, k8⟩
      · exact Or.inl k
      · exact Or.inr ⟨N, wd, b, rf, k1, k2, k3, k4, k5, k6, k7, Row_g k8 (fun i hi => h38 t i ht hc (by omega))⟩
  · refine ⟨by rw [hρ x (by omega)]; exact o2, by rw [hρ _ (by omega)]; exact o3, by rw [hρ _ (by omega)]; exact o4, by rw [hρ _ (by omega)]; exact o5, by rw [hρ _ (by omega)]; exact o6, fun t ht => ?_⟩
    have h7 := o7 t ht
    rw [hρ _ (by omega)]; exact h7
end SF
