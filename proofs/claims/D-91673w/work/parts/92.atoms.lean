/-! the words that an exception of the machine's own asks -/
set_option maxRecDepth 100000
def spcW : List Cond := [.laysStatic Bundle.tN "UNASSIGNED_STACK" Bundle.steD, .laysStatic Bundle.tN "SUPPRESSED_SENTINEL" Bundle.listD, .isRef (.static Bundle.tN "UNASSIGNED_STACK" Bundle.steD), .isRef (.static Bundle.tN "SUPPRESSED_SENTINEL" Bundle.listD)]
def negUp : List String := ["java/lang/RuntimeException", "java/lang/Exception"]
def idxUp2 : List String := ["java/lang/IndexOutOfBoundsException", "java/lang/RuntimeException", "java/lang/Exception"]
def negN : String := "java/lang/NegativeArraySizeException"
def idxN2 : String := "java/lang/ArrayIndexOutOfBoundsException"
def cceN : String := "java/lang/ClassCastException"
def okW (w : Cond) : Bool := decide (w ∈ spcW) || (decide (w ∈ lw_tbl) && (goodWord w || isNestW w))
theorem zat_neg : (Bundle.messageArmAtoms negN negUp).all okW = true := by decide +kernel
theorem zat_idx : (Bundle.messageArmAtoms idxN2 idxUp2).all okW = true := by decide +kernel
theorem zat_cce : (Bundle.messageArmAtoms cceN negUp).all okW = true := by decide +kernel
theorem zat_npe : (Bundle.npeArmAtoms 8).all okW = true := by decide +kernel
theorem va_Z.isR {C n d : String} {x : Option Nat} {A : Nat → Prop} {s : State} {args : Array Value} (h : va_Z C n d (va_rf x) A s s.heap) : (Cond.isRef (.static C n d)).before args s = true := by
  obtain ⟨cf, kf, fi, f, a, cell, h1, h2, h3, h4, h5, h6, h7, h8⟩ := h
  have he : (Term.static C n d).eval args s none [] s = some (va_rf x) := by
    simp [Term.eval, State.fieldNamed?, h1, h2, h4, h5, h6, h7]
  unfold Cond.before Cond.holds
  simp only [Cond.value]
  rw [he]
  cases x <;> rfl
section ZAT
variable {p : Program} {s : State} {m : MethodId} {args : Array Value} {c : Code} {H : Heap} {locs : List Loc} {gp : Nat → Nat} {own : String} {cc : ByteArray} {nL : Nat} {D : va_G} {K : Nat → ClassId} {A : Nat → Prop} {Z : c_S}
theorem zatoms {ws : List Cond} (hok : ws.all okW = true) (S : CallFix p m c cc nL s args lw_all own) (hW : z_W gp D K A s Z H locs) : ∀ a ∈ ws, a.before args s = true := by
  intro w hw
  have h := List.all_eq_true.mp hok w hw
  unfold okW at h
  rw [Bool.or_eq_true, Bool.and_eq_true, Bool.or_eq_true] at h
  have hX := hW.1.2.2.2.2.1
  rcases h with h | ⟨h1, h2⟩
  · have h := of_decide_eq_true h
    simp only [spcW, List.mem_cons, List.not_mem_nil, or_false] at h
    rcases h with rfl | rfl | rfl | rfl
    · exact hX.2.2.2.2.2.2.2.2.2.2.2.2.1.word
    · exact hX.2.2.2.2.2.2.2.2.2.2.2.2.2.word
    · exact hX.2.2.2.2.2.2.2.2.2.1.isR
    · exact hX.2.2.2.2.2.2.2.2.2.2.1.isR
  · have h1 := of_decide_eq_true h1
    rcases h2 with h2 | h2
    · exact S.2.2.2.2 _ (List.mem_filter.mpr ⟨h1, h2⟩)
    · refine va_Nw.use ?_ (hX.2.2.2.2.1 w (nestW_in h1 h2))
      unfold isNestW at h2
      split at h2 <;> first | rfl | cases h2
end ZAT
