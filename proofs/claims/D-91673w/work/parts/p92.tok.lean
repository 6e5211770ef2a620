/-! PURE: a text is read: signs of the tape -/
set_option maxRecDepth 100000
def kc (T : Nat → Int32) (a : Nat) : Nat := (T a &&& 255).toNatClampNeg
def byT (T : Nat → Int32) : Prop := ∀ i, i < 700 → -128 ≤ (T i).toInt ∧ (T i).toInt ≤ 127
theorem byte_256 : ∀ k : Fin 256, (Int32.ofInt ((k.val : Int) - 128) &&& 255) = nI ((k.val + 128) % 256) := by decide +kernel
section KC
variable {T : Nat → Int32} {a c sz l h : Nat}
theorem kc_of (x : Int32) (h : -128 ≤ x.toInt ∧ x.toInt ≤ 127) : ∃ j, j < 256 ∧ x &&& 255 = nI j ∧ x.toInt = if j < 128 then (j : Int) else (j : Int) - 256 := by
  have hk : (x.toInt + 128).toNat < 256 := by omega
  have e : x = Int32.ofInt (((x.toInt + 128).toNat : Int) - 128) := by
    apply Int32.toInt_inj.mp
    rw [Int32.toInt_ofInt]
    show x.toInt = Int.bmod _ 4294967296
    rw [Int.bmod_eq_of_le] <;> omega
  have b := byte_256 ⟨(x.toInt + 128).toNat, hk⟩
  dsimp only at b
  rw [← e] at b
  refine ⟨((x.toInt + 128).toNat + 128) % 256, by omega, b, ?_⟩
  split <;> omega
theorem kc_all (hb : byT T) (ha : a < 700) : kc T a < 256 ∧ T a &&& 255 = nI (kc T a) ∧ (T a).toInt = if kc T a < 128 then (kc T a : Int) else (kc T a : Int) - 256 := by
  obtain ⟨j, h1, h2, h3⟩ := kc_of (T a) (hb a ha)
  have e : kc T a = j := by unfold kc; rw [h2, nI_clamp (by omega)]
  rw [e]
  exact ⟨h1, h2, h3⟩
theorem kc_and (hb : byT T) (ha : a < 700) : T a &&& 255 = nI (kc T a) := (kc_all hb ha).2.1
theorem kc_eq (hb : byT T) (ha : a < 700) (hc : c < 128) : (T a = nI c) = (kc T a = c) := by
  obtain ⟨h1, -, h3⟩ := kc_all hb ha
  apply propext
  rw [← Int32.toInt_inj, nI_toInt (by omega), h3]
  split <;> omega
theorem kc_lt (hb : byT T) (ha : a < 700) (hc : c < 128) : (T a < nI c) = (kc T a < c ∨ 128 ≤ kc T a) := by
  obtain ⟨h1, -, h3⟩ := kc_all hb ha
  apply propext
  rw [Int32.lt_iff_toInt_lt, nI_toInt (by omega), h3]
  split <;> omega
theorem kc_gt (hb : byT T) (ha : a < 700) (hc : c < 128) : (nI c < T a) = (c < kc T a ∧ kc T a < 128) := by
  obtain ⟨h1, -, h3⟩ := kc_all hb ha
  apply propext
  rw [Int32.lt_iff_toInt_lt, nI_toInt (by omega), h3]
  split <;> omega
theorem kc_nI (hb : byT T) (ha : a < 700) (hk : kc T a < 128) : T a = nI (kc T a) := by rw [kc_eq hb ha hk]
/-- a sign between two -/
def isC (T : Nat → Int32) (sz l h a : Nat) : Bool := decide (a < sz ∧ l ≤ kc T a ∧ kc T a ≤ h)
end KC
/-- the reader -/
def RdO (Sh : g_Sh) (r tp ms bg : Nat) : Prop := ∃ rf, Sh r = some (d_obj 3 11 rf) ∧ rf 0 = some (some ms) ∧ rf 1 = some (some bg) ∧ rf 2 = some (some tp) ∧ ∀ i, 3 ≤ i → i ≤ 10 → rf i = none
section RD3
variable {α : Type} {Sh : g_Sh} {V : g_V} {L : g_L} {n r tp ms bg i : Nat}
theorem r_I (h : RdO Sh r tp ms bg) (h3 : 3 ≤ i) (h10 : i ≤ 10) {k : Int32 → Option α} : cI Sh V r 3 11 i k = k (V r i) := by obtain ⟨rf, h1, -, -, -, h2⟩ := h; exact cI_eq h1 (h2 i h3 h10)
theorem r_P (h : RdO Sh r tp ms bg) (h3 : 3 ≤ i) (h10 : i ≤ 10) {x : Int32} {k : c_S → Option α} : zPI (Sh, V, L, n) r 3 11 i x k = k (Sh, upd2 V r i x, L, n) := by obtain ⟨rf, h1, -, -, -, h2⟩ := h; exact zPI_T h1 (h2 i h3 h10)
theorem r_K (h : RdO Sh r tp ms bg) {k : Option α} : zK (Sh, V, L, n) r 3 11 k = k := by obtain ⟨rf, h1, -⟩ := h; exact zK_T h1
theorem r_ms (h : RdO Sh r tp ms bg) {k : Nat → Option α} : cA Sh r 3 11 0 k = k ms := by obtain ⟨rf, h1, h2, -⟩ := h; exact cA_eq h1 h2
theorem r_bg (h : RdO Sh r tp ms bg) {k : Nat → Option α} : cA Sh r 3 11 1 k = k bg := by obtain ⟨rf, h1, -, h2, -⟩ := h; exact cA_eq h1 h2
theorem r_tp (h : RdO Sh r tp ms bg) {k : Nat → Option α} : cA Sh r 3 11 2 k = k tp := by obtain ⟨rf, h1, -, -, h2, -⟩ := h; exact cA_eq h1 h2
end RD3
/-- the tape that is read -/
def RdT (Sh : g_Sh) (V : g_V) (r tp : Nat) (T : Nat → Int32) : Prop := Sh tp = some (d_int 1 700) ∧ (∀ i, i < 700 → V tp i = T i) ∧ tp ≠ r ∧ byT T
section RT
variable {Sh : g_Sh} {V : g_V} {L : g_L} {n r tp ms bg a sz l h : Nat} {T R : Nat → Int32}
theorem cm_isAt (hr : RdO Sh r tp ms bg) (ht : RdT Sh V r tp T) (h3 : R 3 = nI sz) (h4 : R 4 = nI a) (ha : a ≤ sz) (hs : sz ≤ 700) (hl : l < 128) (hh : h < 128) : cm_X3_isAt (Sh, rowV V r R, L, n) r (nI l) (nI h) = some (b2i (isC T sz l h a)) := by
  obtain ⟨t1, t2, t3, t4⟩ := ht
  unfold cm_X3_isAt isC
  by_cases h1 : a < sz
  · have v : ∀ i, i < 700 → rowV V r R tp i = T i := fun i hi => by rw [rowV_ne t3]; exact t2 i hi
    simp (disch := omega) only [zSh_T, zV_T, zL_T, zn_T, r_I hr, rowV_eq, h3, h4, N_leF, if_false, r_tp hr, caI_eq t1, v, kc_lt t4, kc_gt t4]
    by_cases c1 : kc T a < l ∨ 128 ≤ kc T a
    · rw [if_pos c1, decide_eq_false (by omega)]; rfl
    · rw [if_neg c1]
      by_cases c2 : h < kc T a ∧ kc T a < 128
      · rw [if_pos c2, decide_eq_false (by omega)]; rfl
      · rw [if_neg c2, decide_eq_true (by omega)]; rfl
  · simp (disch := omega) only [zSh_T, zV_T, zL_T, zn_T, r_I hr, rowV_eq, h3, h4, N_leT, if_true]
    rw [decide_eq_false (by omega)]; rfl
end RT
section TW3
variable {V2 : g_V} {a sz l h : Nat} {R2 : Nat → Int32}
theorem tw_see_eq (hb : byT (V2 5)) (h8 : R2 8 = nI sz) (ha : a ≤ sz) (hs : sz ≤ 700) : tw_see (rowV V2 0 R2) (nI a) = some (if a < sz then nI (kc (V2 5) a) else -1) := by
  unfold tw_see
  by_cases h1 : a < sz
  · simp (disch := omega) only [rowV_eq, rowV_ne, h8, N_leF, if_false, rdI_in, kc_and hb, h1, if_true]
  · simp (disch := omega) only [rowV_eq, h8, N_leT, if_true, h1, if_false]
theorem tw_see_in {lo hi : Int64} (hb : byT (V2 5)) (ha : a ≤ sz) (hs : sz ≤ 700) (hl : lo.toInt = (l : Int)) (hh : hi.toInt = (h : Int)) : tw_in (if a < sz then nI (kc (V2 5) a) else -1).toInt64 lo hi = some (b2i (isC (V2 5) sz l h a)) := by
  rw [tw_inI, hl, hh]
  unfold isC
  by_cases h1 : a < sz
  · have k := (kc_all hb (show a < 700 by omega)).1
    rw [if_pos h1, nI_toInt (by omega)]
    by_cases c : (l : Int) ≤ (kc (V2 5) a : Int) ∧ (kc (V2 5) a : Int) ≤ (h : Int)
    · rw [if_pos c, decide_eq_true (by omega)]; rfl
    · rw [if_neg c, decide_eq_false (by omega)]; rfl
  · rw [if_neg h1, show (-1 : Int32).toInt = -1 from rfl, if_neg (by omega), decide_eq_false (by omega)]; rfl
end TW3
