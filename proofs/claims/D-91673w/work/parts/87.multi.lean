/-! new boolean[N][M]: the machine's own making of it, and the row -/
set_option maxRecDepth 100000
def zOut (cA : ClassId) (N h0 i : Nat) : Cell := arrV cA N (fun j => if j < i then .ref (h0 + 1 + j) else .null)
def zInn (cB : ClassId) (M : Nat) : Cell := arrV cB M (fun _ => .int 0)
def zFill (T : State) (cA cB : ClassId) (N M : Nat) : Nat → State
  | 0 => T.pushCell (zOut cA N T.heap.size 0)
  | i + 1 => ((zFill T cA cB N M i).pushCell (zInn cB M)).setCell T.heap.size (zOut cA N T.heap.size (i + 1))
theorem zOut_step (cA : ClassId) (N h0 i : Nat) : (zOut cA N h0 i).setSlot i (.ref (h0 + 1 + i)) = zOut cA N h0 (i + 1) := by
  unfold zOut
  rw [arrV_store]
  congr 1
  funext q
  by_cases hq : q = i
  · subst hq
    simp [updV]
  · by_cases h2 : q < i
    · have h3 : q < i + 1 := by omega
      simp [updV, hq, h2, h3]
    · have h3 : ¬ q < i + 1 := by omega
      simp [updV, hq, h2, h3]
theorem zFill_facts (T : State) (cA cB : ClassId) (N M : Nat) : ∀ i, (zFill T cA cB N M i).heap.size = T.heap.size + 1 + i ∧ (zFill T cA cB N M i).heap[T.heap.size]? = some (zOut cA N T.heap.size i) ∧ (zFill T cA cB N M i).vm = T.vm ∧ (zFill T cA cB N M i).slotsUsed = T.slotsUsed + N + i * M ∧ (∀ a, a < T.heap.size → (zFill T cA cB N M i).heap[a]? = T.heap[a]?) ∧ ∀ j, j < i → (zFill T cA cB N M i).heap[T.heap.size + 1 + j]? = some (zInn cB M)
  | 0 => by
    refine ⟨?_, ?_, rfl, ?_, ?_, ?_⟩
    · show (T.heap.push _).size = _; simp
    · show (T.heap.push _)[T.heap.size]? = _; simp
    · show T.slotsUsed + (zOut cA N T.heap.size 0).slots.size = _
      rw [show (zOut cA N T.heap.size 0).slots.size = N from arrV_size _ _ _]; simp
    · intro a ha; show (T.heap.push _)[a]? = _; rw [Array.getElem?_push, if_neg (by omega)]
    · intro j hj; omega
  | i + 1 => by
    obtain ⟨h1, h2, h3, h4, h5, h6⟩ := zFill_facts T cA cB N M i
    have hs : ((zFill T cA cB N M i).heap.push (zInn cB M)).size = T.heap.size + 1 + i + 1 := by simp [h1]
    have e0 : (zFill T cA cB N M (i + 1)).heap = ((zFill T cA cB N M i).heap.push (zInn cB M)).setIfInBounds T.heap.size (zOut cA N T.heap.size (i + 1)) := rfl
    rw [e0]
    refine ⟨?_, ?_, h3, ?_, ?_, ?_⟩
    · simp [h1]; omega
    · rw [Array.getElem?_setIfInBounds]; simp [h1]; omega
    · show (zFill T cA cB N M i).slotsUsed + (zInn cB M).slots.size = _
      rw [h4, show (zInn cB M).slots.size = M from arrV_size _ _ _, Nat.succ_mul]; omega
    · intro a ha
      rw [Array.getElem?_setIfInBounds, if_neg (by omega), Array.getElem?_push, if_neg (by omega)]
      exact h5 a ha
    · intro j hj
      rw [Array.getElem?_setIfInBounds, if_neg (by omega), Array.getElem?_push]
      by_cases hji : j = i
      · subst hji
        rw [if_pos (by omega)]
      · rw [if_neg (by omega)]
        exact h6 j (by omega)
section ZW0
variable {E : CtlPost} {e : Env} {d : Bool} {acts : List Action} {s : State}
theorem zmake1 {cB cc : ClassId} {kB : Class} {m : Int32} {M : Nat} (hk : s.vm.classes[cB]? = some kB) (hkind : kB.kind = .array cc .boolean) (hm : ¬ m < 0) (hM : m.toNatClampNeg = M) (hlimit : ¬ M > e.platform.arrayLengthLimit) (hheap : ¬ M * componentBytes .boolean > e.platform.maxHeapBytes) (hcells : s.heap.size < e.platform.maxCells) (hslots : s.slotsUsed + M ≤ e.platform.maxSlots) {Q : Addr → Pre}
    (hq : ∀ acts', Q s.heap.size d acts' (s.pushCell (zInn cB M))) : wp (multianewarray.make cB [m]) Q E e d acts s := by
  subst hM
  unfold multianewarray.make
  simp only [wp_bind', W.ite, hm, if_false, wp_pure', W.theClass, hk, Option.some.injEq, exists_eq_left', hkind]
  refine W.newArray_of hk hkind hlimit hheap hcells hslots rfl (fun acts' => ?_)
  have e1 : ({ cls := cB, slots := Array.replicate m.toNatClampNeg (defaultValue .boolean) } : Cell) = zInn cB m.toNatClampNeg := by
    unfold zInn
    exact arrV_new _ _ _
  rw [e1]
  exact hq acts'
theorem zmake2 {cA cB cc : ClassId} {kA kB : Class} {n m : Int32} {N M : Nat} (hkA : s.vm.classes[cA]? = some kA) (hkindA : kA.kind = .array cB (.array .boolean)) (hkB : s.vm.classes[cB]? = some kB) (hkindB : kB.kind = .array cc .boolean) (hn : ¬ n < 0) (hn0 : (n == 0) = false) (hm : ¬ m < 0) (hN : n.toNatClampNeg = N) (hM : m.toNatClampNeg = M)
    (hl1 : ¬ N > e.platform.arrayLengthLimit) (hh1 : ¬ N * componentBytes (.array .boolean) > e.platform.maxHeapBytes) (hl2 : ¬ M > e.platform.arrayLengthLimit) (hh2 : ¬ M * componentBytes .boolean > e.platform.maxHeapBytes) (hcells : s.heap.size + N < e.platform.maxCells) (hslots : s.slotsUsed + N + N * M ≤ e.platform.maxSlots) {Q : Addr → Pre}
    (hq : ∀ d' acts', Q s.heap.size d' acts' (zFill s cA cB N M N)) : wp (multianewarray.make cA [n, m]) Q E e d acts s := by
  unfold multianewarray.make
  simp only [wp_bind', W.ite, hn, if_false, wp_pure', W.theClass, hkA, Option.some.injEq, exists_eq_left', hkindA]
  rw [hN]
  refine W.newArray_of hkA hkindA hl1 hh1 (by omega) (by omega) rfl (fun acts' => ?_)
  have e1 : ({ cls := cA, slots := Array.replicate N .null } : Cell) = zOut cA N s.heap.size 0 := by
    unfold zOut
    simp only [Nat.not_lt_zero, if_false]
    exact arrV_new _ _ _
  rw [e1]
  simp only [hn0, Bool.false_eq_true, if_false, wp_pure', Std.Legacy.Range.forIn_eq_forIn_range', wp_bind']
  refine wp_forIn_inv (fun rest s' => ∃ i, i ≤ N ∧ rest = List.range' i (N - i) ∧ s' = zFill s cA cB N M i) _ _ ⟨0, Nat.zero_le _, by simp [Std.Legacy.Range.size], rfl⟩ ?_ ?_
  · rintro x rest s' d' acts' Q' ⟨i, hi, hr, rfl⟩ hQ'
    have hi2 : i < N := by
      by_cases h : i < N
      · exact h
      · rw [show N - i = 0 by omega] at hr; cases hr
    rw [show N - i = (N - (i + 1)) + 1 by omega, List.range'_succ] at hr
    injection hr with hx hr
    subst hx
    obtain ⟨h1, h2, h3, h4, h5, h6⟩ := zFill_facts s cA cB N M x
    have hmul : x * M + M ≤ N * M := by rw [← Nat.succ_mul]; exact Nat.mul_le_mul_right M hi2
    simp only [wp_bind', wp_pure']
    refine zmake1 (kB := kB) (cc := cc) (M := M) (by rw [h3]; exact hkB) hkindB hm hM hl2 hh2 (by rw [h1]; omega) (by rw [h4]; omega) (fun acts'' => ?_)
    rw [h1]
    simp only [wp_bind', W.writeLoc, wp_pure']
    refine ⟨zOut cA N s.heap.size x, ?_, (fun h => by cases h), ?_, ?_, ?_⟩
    · show ((zFill s cA cB N M x).heap.push (zInn cB M))[s.heap.size]? = _
      rw [Array.getElem?_push, if_neg (by omega)]
      exact h2
    · rw [show (zOut cA N s.heap.size x).slots.size = N from arrV_size _ _ _]; exact hi2
    · show ((zFill s cA cB N M x).pushCell (zInn cB M)).fitsSlot cA .none x (.ref (s.heap.size + 1 + x)) = true
      have h7 : ((zFill s cA cB N M x).pushCell (zInn cB M)).vm.classes[cA]? = some kA := by show (zFill s cA cB N M x).vm.classes[cA]? = _; rw [h3]; exact hkA
      have h8 : (zFill s cA cB N M x).vm.classes[cA]? = some kA := by rw [h3]; exact hkA
      simp [State.fitsSlot, State.slotType?, h7, h8, hkindA, fits]
    · rw [zOut_step]
      exact hQ' _ _ _ ⟨x + 1, by omega, hr, rfl⟩
  · rintro s' d' acts'' ⟨i, hi, hr, rfl⟩
    have hiN : i = N := by
      by_cases h : i < N
      · rw [show N - i = (N - (i + 1)) + 1 by omega, List.range'_succ] at hr; cases hr
      · omega
    subst hiN
    exact hq d' acts''
variable {f : JFrame}
theorem zmulti_cold {index dims c : Nat} {vm' : Vm} {Q : Unit → Pre} (hs : s.topJava?.isSome) (hg : (Jvm.resolveClass f.method.cls index).Gives e.toSetting s.vm (.ok c) vm') (hr : vm'.classReady f.method.cls index c) (hsz : vm'.classes.size ≤ s.vm.classes.size := by no_record) :
    wp (multianewarray.sem index dims) Q E e d acts (s.setTop f) ↔ wp (multianewarray.sem index dims) Q E e d acts ((s.setVm vm').setTop f) := by
  simp only [multianewarray.sem, wp_bind']
  exact W.resolveClassAt_transfer (s := s.setTop f) (State.method?_setTop f hs) hg hr
theorem zFill_setTop (T : State) (f : JFrame) (cA cB : ClassId) (N M : Nat) : ∀ i, zFill (T.setTop f) cA cB N M i = (zFill T cA cB N M i).setTop f
  | 0 => rfl
  | i + 1 => by
    show ((zFill (T.setTop f) cA cB N M i).pushCell (zInn cB M)).setCell T.heap.size _ = _
    rw [zFill_setTop T f cA cB N M i]
    rfl
theorem zFill_top (T : State) (cA cB : ClassId) (N M : Nat) : ∀ i, (zFill T cA cB N M i).topJava? = T.topJava?
  | 0 => rfl
  | i + 1 => zFill_top T cA cB N M i
theorem zmulti_ready {index : Nat} {cA cB cc : ClassId} {kA kB : Class} {n m : Int32} {N M : Nat} {rest : List Value} {Q : Unit → Pre} (hs : s.topJava?.isSome) (hr : s.vm.classReady f.method.cls index cA) (hkA : s.vm.classes[cA]? = some kA) (hkindA : kA.kind = .array cB (.array .boolean)) (hkB : s.vm.classes[cB]? = some kB) (hkindB : kB.kind = .array cc .boolean) (hn : ¬ n < 0) (hn0 : (n == 0) = false) (hm : ¬ m < 0) (hN : n.toNatClampNeg = N) (hM : m.toNatClampNeg = M)
    (hl1 : ¬ N > e.platform.arrayLengthLimit) (hh1 : ¬ N * componentBytes (.array .boolean) > e.platform.maxHeapBytes) (hl2 : ¬ M > e.platform.arrayLengthLimit) (hh2 : ¬ M * componentBytes .boolean > e.platform.maxHeapBytes) (hcells : s.heap.size + N < e.platform.maxCells) (hslots : s.slotsUsed + N + N * M ≤ e.platform.maxSlots) (hst : f.stack = .int m :: .int n :: rest)
    (hq : ∀ d' acts', Q () d' acts' ((zFill s cA cB N M N).setTop { f with stack := .ref s.heap.size :: rest })) : wp (multianewarray.sem index 2) Q E e d acts (s.setTop f) := by
  simp only [multianewarray.sem, wp_bind', W.resolveClassAt_ready (State.method?_setTop f hs) hr]
  rw [show (2 : Nat) = ([.int n, .int m] : List Value).length from rfl, popN_top hs (args := [.int n, .int m]) (rest := rest) hst]
  simp only [List.mapM_cons, List.mapM_nil, wp_bind', wp_pure']
  refine zmake2 (s := s.setTop { f with stack := rest }) (kA := kA) (kB := kB) (cB := cB) (cc := cc) (N := N) (M := M) hkA hkindA hkB hkindB hn hn0 hm hN hM hl1 hh1 hl2 hh2 hcells hslots (fun d' acts' => ?_)
  rw [zFill_setTop]
  simp only [wp_bind', W.mark, W.pushRef, State.topJava?_setTop' _ (show (zFill s cA cB N M N).topJava?.isSome from by rw [zFill_top]; exact hs), Option.some.injEq, exists_eq_left', State.setTop_setTop]
  exact hq _ _
end ZW0
section ZM
variable {p : Program} {l : Launch} {e : Env} {R : Room} {s : State} {m : MethodId} {args : Array Value} {below : List Frame} {meth : Method} {c : Code} {H : Heap} {locs : List Loc} {cells slots : Nat} {Q : State → Prop}
variable {gp : Nat → Nat} {own : String} {cc : ByteArray} {pc nL : Nat} {ls : Array Slot} {rest st0 st1 : List Value} {D : va_G} {K : Nat → ClassId} {A : Nat → Prop} {Z : c_S} {a a0 : Nat} {ρ : Type} {r : ρ} {index : Nat} {T : State}
theorem zfilled (X : Stand p l e R s m args below meth c T locs cells slots) (cA cB : ClassId) (N M : Nat) : ∀ i, Stand p l e R s m args below meth c (zFill T cA cB N M i) (locs ++ (List.range i).map fun j => ⟨T.heap.size, j⟩) (cells + (1 + i)) (slots + (N + i * M))
  | 0 => by
    have h := X.pushed (zOut cA N T.heap.size 0)
    rw [show (zOut cA N T.heap.size 0).slots.size = N from arrV_size _ _ _] at h
    simpa [zFill] using h
  | i + 1 => by
    have Xi := zfilled X cA cB N M i
    obtain ⟨h1, h2, -⟩ := zFill_facts T cA cB N M i
    have hcell : ((zFill T cA cB N M i).pushCell (zInn cB M)).heap[T.heap.size]? = some (zOut cA N T.heap.size i) := by
      show ((zFill T cA cB N M i).heap.push (zInn cB M))[T.heap.size]? = _
      rw [Array.getElem?_push, if_neg (by omega)]; exact h2
    have h := (Xi.pushed (zInn cB M)).stored hcell i (.ref (T.heap.size + 1 + i))
    rw [show (zInn cB M).slots.size = M from arrV_size _ _ _, zOut_step] at h
    have e2 : (locs ++ (List.range (i + 1)).map fun j => (⟨T.heap.size, j⟩ : Loc)) = (locs ++ (List.range i).map fun j => (⟨T.heap.size, j⟩ : Loc)) ++ [⟨T.heap.size, i⟩] := by simp [List.range_succ, List.append_assoc]
    have e3 : slots + (N + (i + 1) * M) = slots + (N + i * M) + M := by rw [Nat.succ_mul]; omega
    have e4 : cells + (1 + (i + 1)) = cells + (1 + i) + 1 := by omega
    rw [e2, e3, e4]
    exact h
def zShM (Z : c_S) (N M : Nat) : g_Sh := fun a => if a = Z.n then some (d_ref 11 N (fun j => if j < N then some (Z.n + 1 + j) else none)) else if Z.n < a ∧ a ≤ Z.n + N then some (d_int 2 M) else Z.Sh a
def zVM (Z : c_S) (N : Nat) : g_V := fun a => if Z.n < a ∧ a ≤ Z.n + N then (fun _ => 0) else Z.V a
def zNewM {ρ : Type} (Z : c_S) (N M : Nat) (k : c_S → Nat → Option ρ) : Option ρ := k ⟨zShM Z N M, zVM Z N, Z.L, Z.n + 1 + N⟩ Z.n
theorem z_W_fill {vm₁ : Vm} {N M : Nat} (hW : z_W gp D K A s Z H locs) (hT : T.heap = H) : z_W gp D K A s ⟨zShM Z N M, zVM Z N, Z.L, Z.n + 1 + N⟩ (zFill (T.setVm vm₁) (K 11) (K 2) N M N).heap (locs ++ (List.range N).map fun j => ⟨T.heap.size, j⟩) := by
  have hsz : H.size = Z.n := hW.1.2.2.2.2.2.2
  have hTz : T.heap.size = Z.n := by rw [hT]; exact hsz
  obtain ⟨g1, g2, -, -, g3, g4⟩ := zFill_facts (T.setVm vm₁) (K 11) (K 2) N M N
  have hz1 : (T.setVm vm₁).heap = T.heap := rfl
  rw [hz1, hTz] at g1 g2 g3 g4
  rw [hTz]
  generalize (zFill (T.setVm vm₁) (K 11) (K 2) N M N).heap = H1 at *
  have hS := hW.1.2.2.2.1
  refine ⟨⟨hW.1.1, ⟨?_, fun _ _ _ _ _ _ h => h⟩, ?_, ⟨?_, ?_, ?_⟩, hW.1.2.2.2.2.1, rfl, g1⟩, hW.2⟩
  · intro j d hj
    have hj : zShM Z N M j = some d := hj
    show va_at D cmCl (j, g_e K idn (zVM Z N j) (Z.L j) d) H1
    unfold zShM at hj
    split at hj
    · rename_i hjn
      cases hj
      subst hjn
      show H1[Z.n]? = some (vp_cell (K 11) (N, .inr (.inr (.inr (.inr (fun i => (if i < N then some (Z.n + 1 + i) else none : Option Nat).map idn))))))
      rw [g2, vp_cell_q]
      unfold zOut
      congr 2
      funext q
      by_cases hq : q < N
      · simp [hq, va_rf]
      · simp [hq, va_rf]
    · split at hj
      · rename_i hjn hjr
        cases hj
        show H1[j]? = some (vp_cell (K 2) (M, .inl (zVM Z N j)))
        have h5 := g4 (j - Z.n - 1) (by omega)
        rw [show Z.n + 1 + (j - Z.n - 1) = j by omega] at h5
        have hv : zVM Z N j = fun _ => 0 := by unfold zVM; rw [if_pos hjr]
        rw [h5, vp_cell_i, hv]
        rfl
      · rename_i hjn hjr
        have hlt : j < Z.n := d_lt hW hj
        have hv : zVM Z N j = Z.V j := by unfold zVM; rw [if_neg (by omega)]
        have h6 : va_at D cmCl (j, g_e K idn (Z.V j) (Z.L j) d) H := hW.1.2.1.1 j d hj
        rw [hv]
        exact h6.kept (by rw [g3 j hlt, hT])
  · intro j d hj
    have hj : zShM Z N M j = some d := hj
    unfold zShM at hj
    split at hj
    · rename_i hjn
      subst hjn
      show A Z.n
      rw [← hsz]; exact hW.2 _ hS.1
    · split at hj
      · rename_i hjn hjr
        show A j
        exact hW.2 _ (by have := hS.1; omega)
      · exact hW.1.2.2.1 j _ hj
  · rw [g1]; have := hS.1; omega
  · intro q h1 h2
    have := hS.1
    rw [g3 q (by omega), hT]
    exact hS.2.1 q h1 h2
  · intro q hq
    rcases List.mem_append.mp hq with h | h
    · exact hS.2.2 q h
    · obtain ⟨z, -, hz⟩ := List.mem_map.mp h
      rw [← hz]
      show A Z.n
      rw [← hsz]; exact hW.2 _ hS.1
theorem zw_newM {n k : Int32} {N M : Nat} {kc : c_S → Nat → Option ρ} (S : CallFix p m c cc nL s args lw_all own) (hW : z_W gp D K A s Z H locs) (hcl : Cond.classLink own index "[[Z" ∈ lw_all) (hn : ¬ n < 0 ∧ (n == 0) = false) (hk : ¬ k < 0) (hN : n.toNatClampNeg = N) (hM : k.toNatClampNeg = M) (hb : N ≤ 1000 ∧ M ≤ 1000)
    (hcells : cells + (1 + N) ≤ R.cells) (hslots : slots + (N + N * M) ≤ R.slots) (hdg : decode cc pc = .ok (.multianewarray index 2, 4)) (h : zNewM Z N M kc = some r)
    (kk : ∀ Z' b, kc Z' b = some r → ∀ (H1 : Heap) (locs1 : List Loc), z_W gp D K A s Z' H1 locs1 → W p l e R s m args below meth c H1 locs1 (cells + (1 + N)) (slots + (N + N * M)) Q (F0 m (pc + 4) ls (.ref b :: rest))) : W p l e R s m args below meth c H locs cells slots Q (F0 m pc ls (.int k :: .int n :: rest)) := by
  obtain ⟨hexec, hbb, hml, hown, hts⟩ := S
  intro T hT X
  subst hbb
  have hpl : e.platform.magicAccessors = ({} : Platform).magicAccessors := by rw [X.admits.platform]
  have e0 : "[" ++ (FieldType.array .boolean).toString = "[[Z" := by decide +kernel
  have hAA : (Cond.arrayOver (.array .boolean)).before #[] s = true := hW.1.2.2.2.2.1.2.2.2.2.2.2.2.2.2.2.2.1
  obtain ⟨cB, cA, kA, hcB, -, hkA, hkindA, hcA⟩ := arrayOverA_spec hAA
  have eA : cA = K 11 := Option.some.inj (hcA.symm.trans (hW.1.1.2 11 _ (g_T_at (F := cmF) rfl)).2)
  have eB : cB = K 2 := by
    have h1 : s.vm.findClass ("[" ++ FieldType.boolean.toString) = some (K 2) := (hW.1.1.2 2 _ (g_T_at (F := cmF) rfl)).2
    have e3 : "[" ++ FieldType.boolean.toString = (FieldType.array .boolean).toString := by decide +kernel
    rw [e3] at h1
    exact Option.some.inj (hcB.symm.trans h1)
  subst eA; subst eB
  obtain ⟨-, kB, hkB, cc', hkindB⟩ := (hW.1.1.2 2 _ (g_T_at (F := cmF) rfl)).1 0 (fun _ => .null)
  have hkB : s.vm.classes[K 2]? = some kB := hkB
  have hkindB : kB.kind = .array cc' .boolean := hkindB
  obtain ⟨c0, hfc0, hclk⟩ := Cond.classLink_spec hown (hts _ hcl) e.platform hpl
  rw [e0] at hcA
  cases hcA.symm.trans hfc0
  obtain ⟨hg₁, hwarm₁, hready₁⟩ := State.classEntry (e := e) X.warmed hclk
  generalize T.vm.noted m.cls index (.cls (K 11)) = vm₁ at hg₁ hwarm₁ hready₁
  have hal : s.vm.Alike vm₁ := hwarm₁.alike
  obtain ⟨kA₁, hkA₁, heA⟩ := hal.2.2 _ _ hkA
  obtain ⟨kB₁, hkB₁, heB⟩ := hal.2.2 _ _ hkB
  have hkindA₁ : kA₁.kind = .array (K 2) (.array .boolean) := by rw [heA]; exact hkindA
  have hkindB₁ : kB₁.kind = .array cc' .boolean := by rw [heB]; exact hkindB
  have X₁ := X.noted hwarm₁
  have X₂ := zfilled X₁ (K 11) (K 2) N M N
  obtain ⟨hr1, hr2⟩ := X.roomAbove hcells hslots
  have hl : ∀ q : Nat, q ≤ 1000 → ¬ q > e.platform.arrayLengthLimit := fun q hq => by rw [Launch.admits_arrayLengthLimit X.admits]; omega
  have hh : ∀ q b : Nat, q ≤ 1000 → b ≤ 8 → ¬ q * b > e.platform.maxHeapBytes := fun q b hq hb => by
    rw [Launch.admits_maxHeapBytes X.admits]
    have : q * b ≤ 1000 * 8 := Nat.mul_le_mul hq hb
    omega
  have hW1 := z_W_fill (vm₁ := vm₁) (N := N) (M := M) hW hT
  have hTz : T.heap.size = Z.n := by rw [hT]; exact hW.1.2.2.2.2.2.2
  obtain ⟨t, a1, b1⟩ := kk _ _ h _ _ hW1 (zFill (T.setVm vm₁) (K 11) (K 2) N M N) rfl X₂
  refine ⟨t, ?_, b1⟩
  jvm_step X.here [hexec, hdg, zmulti_cold (e := e) (s := T) (f := F0 m pc ls (.int k :: .int n :: rest)) X.here.top hg₁ hready₁]
  refine zmulti_ready (s := T.setVm vm₁) (f := F0 m pc ls (.int k :: .int n :: rest)) (kA := kA₁) (kB := kB₁) (cB := K 2) (cc := cc') (N := N) (M := M) (rest := rest) X.here.top hready₁ hkA₁ hkindA₁ hkB₁ hkindB₁ hn.1 hn.2 hk hN hM (hl N hb.1) (hh N _ hb.1 (by decide)) (hl M hb.2) (hh M _ hb.2 (by decide)) (by show T.heap.size + N < _; omega) (by show T.slotsUsed + N + N * M ≤ _; omega) rfl (fun d' acts' => ?_)
  rw [← hTz] at a1
  intro acts
  have htop : (zFill (T.setVm vm₁) (K 11) (K 2) N M N).topJava?.isSome := by rw [zFill_top]; exact X.here.top
  simp [jvm, htop]
  exact a1
end ZM
