/-! PURE: slots that are read; how many bits -/
set_option maxRecDepth 100000
theorem ones_64 : ∀ s : Fin 64, cm_J13_bitCount (nI s.val) = tw_ones (nI s.val) := by decide +kernel
theorem ones_lt : ∀ s : Fin 64, ∃ k : Fin 7, tw_ones (nI s.val) = some (nI k.val) := by decide +kernel
theorem cm_ahead (a b : Int32) : cm_X0_isAhead a b = tw_isAhead a b := rfl
section SL
variable {Sh : g_Sh} {V : g_V} {L : g_L} {n : Nat} {a b wd N : Nat} {g : Nat → Int64} {rf : Nat → Option (Option Nat)}
theorem cR_eq {α : Type} {a ci N i : Nat} {o : Option Nat} {rf : Nat → Option (Option Nat)} {k : Option Nat → Option α} (h : Sh a = some (d_obj ci N rf)) (h2 : rf i = some o) : cR Sh a ci N i k = k o := by
  unfold cR
  simp only [h, d_obj, and_self, if_true, h2]
theorem zIs_T {α : Type} {Z : c_S} {t t' : Nat} {k : Int32 → Option α} (h : zTy Z b = some t') : zIs Z (some b) t k = if t' = t then k 1 else k 0 := by
  unfold zIs
  simp only [h]
theorem zCa_T {α : Type} {Z : c_S} {t : Nat} {k : Option α} (h : zTy Z b = some t) : zCa Z (some b) t k = k := by
  unfold zCa
  simp only [h, if_true]
theorem Row_ty (h : Row Sh V L b wd N g) : ∃ t, zTy (Sh, V, L, n) b = some t ∧ ((wd = 0 ∧ t = 1) ∨ (wd = 1 ∧ t = 3) ∨ (wd = 2 ∧ t = 0) ∨ (wd = 3 ∧ t = 4)) := by
  rcases h with ⟨h0, e, -⟩ | ⟨h0, e, -⟩ | ⟨h0, e, -⟩ | ⟨h0, e, -⟩
  · exact ⟨1, by unfold zTy; simp [zSh_T, e], Or.inl ⟨h0, rfl⟩⟩
  · exact ⟨3, by unfold zTy; simp [zSh_T, e], Or.inr (Or.inl ⟨h0, rfl⟩)⟩
  · exact ⟨0, by unfold zTy; simp [zSh_T, e], Or.inr (Or.inr (Or.inl ⟨h0, rfl⟩))⟩
  · exact ⟨4, by unfold zTy; simp [zSh_T, e], Or.inr (Or.inr (Or.inr ⟨h0, rfl⟩))⟩
theorem caL_q {α : Type} {t i : Nat} {k : Int64 → Option α} (h : Sh b = some (d_lng t N)) (hi : i < N) (hN : N < 2 ^ 31) : caL Sh L t b (nI i) k = k (L b i) := by
  unfold caL
  simp only [h, if_true]
  exact rdL_in hi hN
theorem s_many (h1 : Sh a = some (d_obj 7 1 rf)) (h2 : rf 0 = some (some b)) (hN : N ≤ 60) (h : Row Sh V L b wd N g) : cm_X7_many (Sh, V, L, n) a = some (nI N) := by
  have z1 : ¬ (1 : Int32) = 0 := by decide
  have n31 : ¬ (3 : Nat) = 1 := by omega
  have n01 : ¬ (0 : Nat) = 1 := by omega
  have n03 : ¬ (0 : Nat) = 3 := by omega
  have n41 : ¬ (4 : Nat) = 1 := by omega
  have n43 : ¬ (4 : Nat) = 3 := by omega
  have n40 : ¬ (4 : Nat) = 0 := by omega
  obtain ⟨t, ty, ht⟩ := Row_ty (n := n) h
  unfold cm_X7_many
  simp only [zSh_T, zV_T, zL_T, zn_T, cR_eq h1 h2, nn_eq, zIs_T ty]
  rcases h with ⟨h0, e, -⟩ | ⟨h0, e, -⟩ | ⟨h0, e, -⟩ | ⟨h0, e, -⟩
  · have : t = 1 := by omega
    subst this
    simp only [if_true, z1, if_false, zCa_T ty]
    simp [zLen, zSh_T, e, nI]
  · have : t = 3 := by omega
    subst this
    simp only [n31, if_true, z1, if_false, zCa_T ty]
    simp [zLen, zSh_T, e, nI]
  · have : t = 0 := by omega
    subst this
    simp only [n01, n03, if_true, z1, if_false, zCa_T ty]
    simp [zLen, zSh_T, e, nI]
  · have : t = 4 := by omega
    subst this
    simp only [n41, n43, n40, if_true, z1, if_false, zCa_T ty]
    simp [zLen, zSh_T, e, nI]
theorem s_number {i : Nat} (h1 : Sh a = some (d_obj 7 1 rf)) (h2 : rf 0 = some (some b)) (hN : N ≤ 60) (h : Row Sh V L b wd N g) (hi : i < N) : cm_X7_number (Sh, V, L, n) a (nI i) = some (g i) := by
  have z1 : ¬ (1 : Int32) = 0 := by decide
  have n31 : ¬ (3 : Nat) = 1 := by omega
  have n01 : ¬ (0 : Nat) = 1 := by omega
  have n03 : ¬ (0 : Nat) = 3 := by omega
  have n41 : ¬ (4 : Nat) = 1 := by omega
  have n43 : ¬ (4 : Nat) = 3 := by omega
  have n40 : ¬ (4 : Nat) = 0 := by omega
  obtain ⟨t, ty, ht⟩ := Row_ty (n := n) h
  unfold cm_X7_number
  simp only [zSh_T, zV_T, zL_T, zn_T, cR_eq h1 h2, nn_eq, zIs_T ty]
  rcases h with ⟨h0, e, f⟩ | ⟨h0, e, f⟩ | ⟨h0, e, f⟩ | ⟨h0, e, f⟩
  · have : t = 1 := by omega
    subst this
    simp only [if_true, z1, if_false, zCa_T ty]
    rw [caI_eq e hi (by omega), (f i hi).1]
  · have : t = 3 := by omega
    subst this
    simp only [n31, if_true, z1, if_false, zCa_T ty]
    rw [caI_eq e hi (by omega), (f i hi).1]
  · have : t = 0 := by omega
    subst this
    simp only [n01, n03, if_true, z1, if_false, zCa_T ty]
    rw [caI_eq e hi (by omega), f i hi]
  · have : t = 4 := by omega
    subst this
    simp only [n41, n43, n40, if_true, z1, if_false, zCa_T ty]
    rw [caL_q e hi (by omega), f i hi]
end SL
