/-! what holds all through a run beside the worlds: gp gives the addresses (i: the String constant i, 100 + i its bytes) -/
set_option maxRecDepth 100000
def stLen : List Nat := [5, 4, 4, 4, 6, 3, 6, 3, 5, 4, 4, 5, 3, 4, 3, 6, 4, 2, 2, 5, 2, 4, 3, 5]
def stByt : List (List Int32) := [[116, 104, 105, 99, 107], [103, 97, 112, 115], [116, 105, 99, 107], [108, 105, 102, 116], [103, 114, 111, 117, 110, 100], [108, 97, 121], [115, 116, 114, 101, 97, 109], [102, 97, 114], [115, 104, 97, 102, 116], [112, 105, 112, 101], [99, 111, 108, 100], [104, 111, 117, 115, 101], [100, 105, 103], [108, 101, 97, 100], [105, 99, 101], [108, 97, 116, 101, 110, 116], [109, 97, 114, 107], [116, 111], [97, 116], [115, 112, 101, 101, 100], [105, 102], [115, 104, 117, 116], [97, 110, 100], [108, 105, 109, 105, 116]]
def stRefs : List (String × Nat × String × Nat) := [("FrostRing$Reader", 11, "thick", 0), ("FrostRing$Reader", 13, "gaps", 1), ("FrostRing$Reader", 15, "tick", 2), ("FrostRing$Reader", 17, "lift", 3), ("FrostRing$Reader", 25, "ground", 4), ("FrostRing$Reader", 27, "lay", 5), ("FrostRing$Reader", 29, "stream", 6), ("FrostRing$Reader", 31, "far", 7), ("FrostRing$Reader", 33, "shaft", 8), ("FrostRing$Reader", 35, "pipe", 9), ("FrostRing$Reader", 37, "cold", 10), ("FrostRing$Reader", 39, "house", 11), ("FrostRing$Reader", 41, "dig", 12), ("FrostRing$Reader", 128, "lead", 13), ("FrostRing$Reader", 133, "ice", 14), ("FrostRing$Reader", 135, "latent", 15), ("FrostRing$Reader", 139, "mark", 16), ("FrostRing$Reader", 148, "to", 17), ("FrostRing$Reader", 183, "at", 18), ("FrostRing$Reader", 193, "speed", 19), ("FrostRing$Reader", 195, "if", 20), ("FrostRing$Reader", 204, "shut", 21), ("FrostRing$Reader", 220, "and", 22), ("FrostRing$Reader", 265, "limit", 23), ("FrostRingModel", 200, "lead", 13), ("FrostRingModel", 206, "ice", 14), ("FrostRingModel", 208, "latent", 15), ("FrostRingModel", 210, "mark", 16), ("FrostRingModel", 222, "to", 17), ("FrostRingModel", 234, "ground", 4), ("FrostRingModel", 236, "speed", 19), ("FrostRingModel", 238, "at", 18), ("FrostRingModel", 239, "shut", 21), ("FrostRingModel", 241, "thick", 0), ("FrostRingModel", 243, "gaps", 1), ("FrostRingModel", 245, "tick", 2), ("FrostRingModel", 247, "lift", 3), ("FrostRingModel", 252, "if", 20), ("FrostRingModel", 257, "and", 22), ("FrostRingModel", 259, "lay", 5), ("FrostRingModel", 261, "stream", 6), ("FrostRingModel", 263, "far", 7), ("FrostRingModel", 264, "shaft", 8), ("FrostRingModel", 266, "pipe", 9), ("FrostRingModel", 268, "cold", 10), ("FrostRingModel", 270, "house", 11), ("FrostRingModel", 272, "dig", 12), ("FrostRingModel", 296, "limit", 23)]
def isNestW (w : Cond) : Bool := match w with
  | .fieldLinkNest .. => true
  | .methodLinkNest .. => true
  | .castable .. => true
  | .declares .. => true
  | _ => false
/-- the words that ride beside lw_all -/
def nestW : List Cond := lw_tbl.filter isNestW
theorem nestW_in {w : Cond} (h : w ∈ lw_tbl) (g : isNestW w = true) : w ∈ nestW := List.mem_filter.mpr ⟨h, g⟩
theorem nestW_warm {w : Cond} {s U : State} (hw : w ∈ nestW) (hW : s.WarmedH U.vm) (h : va_Nw w s) : va_Nw w U := by
  have hn := (List.mem_filter.mp hw).2
  unfold isNestW at hn
  split at hn
  · exact va_Nw.warmF hW h
  · exact va_Nw.warmM hW h
  · exact va_Nw.warmC hW h
  · exact va_Nw.warmD hW h
  · cases hn
theorem nestW_same {w : Cond} {s U : State} (hw : w ∈ nestW) (hv : U.vm = s.vm) (h : va_Nw w s) : va_Nw w U := by
  have hn := (List.mem_filter.mp hw).2
  unfold isNestW at hn
  split at hn
  · exact va_Nw.same rfl hv.symm h
  · exact va_Nw.same rfl hv.symm h
  · exact va_Nw.same rfl hv.symm h
  · exact va_Nw.same rfl hv.symm h
  · cases hn
def aoW : List String := ["FrostRing$Slot", "FrostRing$Ground", "java/lang/Object", "FrostRing$Field", "java/lang/String", "FrostRing$Cond"]
def ifW : List (MethodName × MethodName) := [(⟨"java/util/List", "clear", "()V"⟩, ⟨"java/util/ArrayList", "clear", "()V"⟩), (⟨"java/util/List", "size", "()I"⟩, ⟨"java/util/ArrayList", "size", "()I"⟩), (⟨"java/util/List", "get", "(I)Ljava/lang/Object;"⟩, ⟨"java/util/ArrayList", "get", "(I)Ljava/lang/Object;"⟩), (⟨"java/util/List", "add", "(Ljava/lang/Object;)Z"⟩, ⟨"java/util/ArrayList", "add", "(Ljava/lang/Object;)Z"⟩), (⟨"java/util/List", "isEmpty", "()Z"⟩, ⟨"java/util/ArrayList", "isEmpty", "()Z"⟩)]
theorem ifW_ok : ∀ q ∈ ifW, q.1.cls ≠ "java/lang/invoke/MethodHandle" ∧ q.1.cls ≠ "java/lang/invoke/VarHandle" := by decide +kernel
def ncW : List (String × String) := [("[B", "[S"), ("[B", "[I"), ("[B", "[J"), ("[S", "[B"), ("[S", "[I"), ("[S", "[J"), ("[I", "[B"), ("[I", "[S"), ("[I", "[J"), ("[J", "[B"), ("[J", "[S"), ("[J", "[I"), ("java/lang/NullPointerException", "java/lang/ClassCastException"), ("java/lang/ArrayIndexOutOfBoundsException", "java/lang/ClassCastException"), ("java/lang/ArrayIndexOutOfBoundsException", "java/lang/NullPointerException")]
def g_AA (U : State) : Prop := (Cond.arrayOver (.array .boolean)).before #[] U = true
theorem g_AA.moved {u U : State} (hvm : u.vm.Alike U.vm) (h : g_AA u) : g_AA U := by
  obtain ⟨comp, c, k, h1, h2, h3, h4, h5⟩ := arrayOverA_spec h
  obtain ⟨k', hk', he⟩ := hvm.2.2 _ _ h3
  have hi : (U.vm.classes.findIdx? fun (x : Class) => match x.kind with | .array component _ => component == comp | _ => false) = some c := by
    rw [hvm.findIdx?_eq _ (fun _ => rfl)]
    exact h2
  have hkind : k'.kind = .array comp (.array .boolean) := by rw [he]; exact h4
  have f1 : U.vm.findClass (FieldType.array .boolean).toString = some comp := by rw [hvm.findClass]; exact h1
  have f2 : U.vm.findClass ("[" ++ (FieldType.array .boolean).toString) = some c := by rw [hvm.findClass]; exact h5
  unfold g_AA Cond.before Cond.holds
  simp only [Cond.value]
  rw [f1, Option.bind_some]
  refine (congrArg (fun o : Option Nat => (o.bind (fun c => (U.vm.classes[c]?).map fun (k : Class) => match k.kind with | .array _ ty => decide (ty = FieldType.array .boolean) && decide (U.vm.findClass ("[" ++ (FieldType.array .boolean).toString) = some c) | _ => false) == some true)) hi).trans ?_
  simp [hk', hkind, f2]
def g_LS (C n d : String) (A : Nat → Prop) (U : State) (H : Heap) : Prop := ∃ (cf : ClassId) (kf : Class) (fi : Nat) (f : Field) (a : Nat) (cell : Cell), U.vm.findClass C = some cf ∧ U.fieldFound? C n d = some (cf, kf, fi, f) ∧ f.isStatic = true ∧ kf.statics = some a ∧ H[a]? = some cell ∧ cell.vm.isStatics = true ∧ cell.cls = cf ∧ f.slot < cell.slots.size ∧ kf.staticTypes[f.slot]? = some f.type ∧ ¬ A a
theorem g_LS.moved {C n d : String} {A : Nat → Prop} {u U : State} {H : Heap} (hvm : u.vm.Alike U.vm) (h : g_LS C n d A u H) : g_LS C n d A U H := by
  obtain ⟨cf, kf, fi, f, a, cell, h0, h1, h2, h3, h4, h5, h6, h7, h8, h9⟩ := h
  obtain ⟨k', hi', he⟩ := State.fieldFound?_setVm hvm h1
  exact ⟨cf, k', fi, f, a, cell, by rw [hvm.findClass]; exact h0, hi', h2, by rw [he]; exact h3, h4, h5, h6, h7, by rw [he]; exact h8, h9⟩
theorem g_LS.kept {C n d : String} {A : Nat → Prop} {U : State} {H H1 : Heap} (h : g_LS C n d A U H) (hq : ∀ a : Nat, a < H.size → ¬ A a → H1[a]? = H[a]?) : g_LS C n d A U H1 := by
  obtain ⟨cf, kf, fi, f, a, cell, h0, h1, h2, h3, h4, h5, h6, h7, h8, h9⟩ := h
  exact ⟨cf, kf, fi, f, a, cell, h0, h1, h2, h3, by rw [hq a (Array.getElem?_eq_some_iff.mp h4).1 h9]; exact h4, h5, h6, h7, h8, h9⟩
theorem g_LS.narrow {C n d : String} {A B : Nat → Prop} {U : State} {H : Heap} (h : g_LS C n d A U H) (hAB : ∀ q, B q → A q) : g_LS C n d B U H := by
  obtain ⟨cf, kf, fi, f, a, cell, h0, h1, h2, h3, h4, h5, h6, h7, h8, h9⟩ := h
  exact ⟨cf, kf, fi, f, a, cell, h0, h1, h2, h3, h4, h5, h6, h7, h8, fun z => h9 (hAB a z)⟩
theorem g_LS.word {C n d : String} {A : Nat → Prop} {U : State} {args : Array Value} (h : g_LS C n d A U U.heap) : (Cond.laysStatic C n d).before args U = true := by
  obtain ⟨cf, kf, fi, f, a, cell, h0, h1, h2, h3, h4, h5, h6, h7, h8, -⟩ := h
  unfold Cond.before Cond.holds
  simp [Cond.value, h0, h1, h2, h3, h4, h5, h6, h7, h8]
/-- a static that may be null -/
def gq (gp : Nat → Nat) (i : Nat) : Option Nat := if gp (i + 100) = 0 then some (gp i) else none
def g_X (gp : Nat → Nat) (A : Nat → Prop) (U : State) : Prop :=
  (∀ i : Nat, i < 24 → va_O "java/lang/String" (gp i) A U U.heap ∧ va_OF "java/lang/String" "coder" "B" (.int 0) (gp i) A U U.heap ∧ va_OF "java/lang/String" "value" "[B" (.ref (gp (100 + i))) (gp i) A U U.heap ∧ va_T .byte (gp (100 + i)) (stLen.getD i 0) (fun j => .int ((stByt.getD i []).getD j 0)) A U U.heap)
  ∧ (∀ q ∈ stRefs, vk_R q.1 q.2.1 q.2.2.1 (gp q.2.2.2) U)
  ∧ va_Z "java/lang/String" "COMPACT_STRINGS" "Z" (.int 1) A U U.heap
  ∧ va_Zq "jdk/internal/util/Preconditions" "SIOOBE_FORMATTER" "Ljava/util/function/BiFunction;" A U U.heap
  ∧ (∀ w ∈ nestW, va_Nw w U) ∧ (∀ C ∈ aoW, va_AO C U) ∧ (∀ q ∈ ifW, va_Fw "java/util/ArrayList" q.1 q.2 U) ∧ (∀ q ∈ ncW, va_Nc q.1 q.2 U)
  ∧ va_Mi "[Ljava/lang/Object;" (gp 200) U ∧ va_Z "java/lang/Throwable" "UNASSIGNED_STACK" "[Ljava/lang/StackTraceElement;" (va_rf (gq gp 201)) A U U.heap ∧ va_Z "java/lang/Throwable" "SUPPRESSED_SENTINEL" "Ljava/util/List;" (va_rf (gq gp 202)) A U U.heap
  ∧ g_AA U ∧ g_LS "java/lang/Throwable" "UNASSIGNED_STACK" "[Ljava/lang/StackTraceElement;" A U U.heap ∧ g_LS "java/lang/Throwable" "SUPPRESSED_SENTINEL" "Ljava/util/List;" A U U.heap
theorem g_X.narrow {gp : Nat → Nat} {A B : Nat → Prop} {U : State} (h : g_X gp A U) (hAB : ∀ q, B q → A q) : g_X gp B U := by
  obtain ⟨h1, h2, h3, h4, h5, h6, h7, h8, h9, h10, h11, h12, h13, h14⟩ := h
  exact ⟨fun i hi => ⟨(h1 i hi).1.narrow hAB, (h1 i hi).2.1.narrow hAB, (h1 i hi).2.2.1.narrow hAB, (h1 i hi).2.2.2.narrow hAB⟩, h2, h3.narrow hAB, h4.narrow hAB, h5, h6, h7, h8, h9, h10.narrow hAB, h11.narrow hAB, h12, h13.narrow hAB, h14.narrow hAB⟩
theorem g_X.move {gp : Nat → Nat} {A : Nat → Prop} {s U : State} (h : g_X gp A s) (hk : ∀ q : Nat, q < s.heap.size → ¬ A q → U.heap[q]? = s.heap[q]?) (hw : s.WarmedH U.vm) : g_X gp A U := by
  obtain ⟨h1, h2, h3, h4, h5, h6, h7, h8, h9, h10, h11, h12, h13, h14⟩ := h
  exact ⟨fun i hi => ⟨((h1 i hi).1.kept hk).moved hw.alike, ((h1 i hi).2.1.kept hk).moved hw.alike, ((h1 i hi).2.2.1.kept hk).moved hw.alike, ((h1 i hi).2.2.2.kept hk).moved hw.alike⟩, fun q hq => (h2 q hq).warm hw, (h3.kept hk).moved hw.alike, (h4.kept hk).moved hw.alike, fun w hq => nestW_warm hq hw (h5 w hq), fun C hC => (h6 C hC).moved hw.alike, fun q hq => va_Fw.moved (ifW_ok q hq) hw.alike (h7 q hq), fun q hq => (h8 q hq).moved hw.alike, h9.moved hw.alike, (h10.kept hk).moved hw.alike, (h11.kept hk).moved hw.alike, h12.moved hw.alike, (h13.kept hk).moved hw.alike, (h14.kept hk).moved hw.alike⟩
theorem g_X.blind {gp : Nat → Nat} {A : Nat → Prop} {s U : State} (h : g_X gp A s) (hh : U.heap = s.heap) (hv : U.vm = s.vm) : g_X gp A U := by
  have ha : s.vm.Alike U.vm := by rw [hv]; exact Vm.Alike.refl _
  obtain ⟨h1, h2, h3, h4, h5, h6, h7, h8, h9, h10, h11, h12, h13, h14⟩ := h
  unfold g_X
  rw [hh]
  exact ⟨fun i hi => ⟨(h1 i hi).1.moved ha, (h1 i hi).2.1.moved ha, (h1 i hi).2.2.1.moved ha, (h1 i hi).2.2.2.moved ha⟩, fun q hq => (h2 q hq).same hv, h3.moved ha, h4.moved ha, fun w hq => nestW_same hq hv (h5 w hq), fun C hC => (h6 C hC).moved ha, fun q hq => va_Fw.moved (ifW_ok q hq) ha (h7 q hq), fun q hq => (h8 q hq).moved ha, h9.moved ha, h10.moved ha, h11.moved ha, h12.moved ha, h13.moved ha, h14.moved ha⟩
