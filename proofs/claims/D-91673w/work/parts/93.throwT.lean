/-! an exception of the machine's own, in the component's worlds: from the note to the throw -/
set_option maxRecDepth 100000
section ZTT
variable {p : Program} {l : Launch} {e : Env} {R : Room} {s : State} {m : MethodId} {args : Array Value} {below : List Frame} {meth : Method} {c : Code} {H : Heap} {locs : List Loc} {cells slots : Nat} {Q : State → Prop}
variable {gp : Nat → Nat} {own : String} {cc : ByteArray} {pc nL : Nat} {ls : Array Slot} {st0 : List Value} {D : va_G} {K : Nat → ClassId} {A : Nat → Prop} {Z Z0 : c_S}
/-- no cell that may be written is a cell of statics -/
def zPl (A : Nat → Prop) (s : State) : Prop := ∀ q, A q → ∀ cell, s.heap[q]? = some cell → cell.vm.isStatics = false
theorem zPl_of (hW : z_W gp D K (z_A Z0) s Z0 s.heap []) (hsz : s.heap.size = Z0.n) : zPl (z_A Z0) s := by
  rintro q (⟨d, hq⟩ | hq) cell hc
  · have h := hW.1.2.1.1 q d hq
    rcases d with ⟨t, n⟩ | ⟨t, n⟩ | ⟨t, n, f⟩ | ⟨ci, N, rf⟩
    · have h : s.heap[q]? = some (vp_cell (K t) (n, .inl (Z0.V q))) := h
      rw [hc] at h; cases h; rfl
    · have h : s.heap[q]? = some (vp_cell (K t) (n, .inr (.inl (Z0.L q)))) := h
      rw [hc] at h; cases h; rfl
    · have h : s.heap[q]? = some (vp_cell (K t) (n, .inr (.inr (.inr (.inr (fun i => (f i).map idn)))))) := h
      rw [hc] at h; cases h; rfl
    · obtain ⟨r, -, cell', g1, -, g3, -⟩ := h
      have g1 : s.heap[q]? = some cell' := g1
      rw [hc] at g1; cases g1
      rw [g3]; rfl
  · have : q < s.heap.size := (Array.getElem?_eq_some_iff.mp hc).1
    omega
theorem z_grow {U : State} {k x : Nat} {Lx : List Loc} (hW : z_W gp D K A s Z H locs) (hz : U.heap.size = Z.n + k) (ho : ∀ a, a < Z.n → U.heap[a]? = H[a]?) (hLx : ∀ q ∈ Lx, q.base = Z.n + x) : z_W gp D K A s ⟨Z.Sh, Z.V, Z.L, Z.n + k⟩ U.heap (locs ++ Lx) := by
  have hsz : H.size = Z.n := hW.1.2.2.2.2.2.2
  have hS := hW.1.2.2.2.1
  refine ⟨⟨hW.1.1, ⟨fun j d hj => (hW.1.2.1.1 j d hj).kept (ho j (d_lt hW hj)), fun _ _ _ _ _ _ h => h⟩, hW.1.2.2.1, ⟨?_, ?_, ?_⟩, hW.1.2.2.2.2.1, rfl, hz⟩, hW.2⟩
  · rw [hz]; have := hS.1; omega
  · intro q h1 h2
    rw [ho q (by have := hS.1; omega)]
    exact hS.2.1 q h1 h2
  · intro q hq
    rcases List.mem_append.mp hq with h | h
    · exact hS.2.2 q h
    · rw [hLx q h]; exact hW.2 _ (by have := hS.1; omega)
theorem zthrowM {cls text : String} {names : List String} {B : Nat} (S : CallFix p m c cc nL s args lw_all own) (hW : z_W gp D K A s Z H locs) (hpl : zPl A s) (hlt : l.stackTraces = false) (hcls : Bundle.fit cls = true) (hnames : ∀ n ∈ names, Bundle.fit n = true) (hsoe : (cls == "java/lang/StackOverflowError") = false) (hoom : (cls == "java/lang/OutOfMemoryError") = false) (hok : (Bundle.messageArmAtoms cls names).all okW = true)
    (htext : (text == notModelled) = false) (hB : (stringBytes (stringToUtf16 text)).size ≤ B) (hB2 : B ≤ 1000) (hsize : ls.size = nL) (hro : (st0.map fun v => v.category).sum ≤ 8) (hfr : names.length + 4 < R.frames) (hlo : 10248 ≤ R.locals) (hsh : names.length ≤ 20) (hcells : cells + 3 ≤ R.cells) (hslots : slots + (B + 10) ≤ R.slots)
    (k : ∀ (H1 : Heap) (locs1 : List Loc), z_W gp D K A s ⟨Z.Sh, Z.V, Z.L, Z.n + 3⟩ H1 locs1 → (∃ ce : Cell, H1[Z.n + 2]? = some ce ∧ ce.vm = .none ∧ s.vm.findClass cls = some ce.cls) → WT p l e R s m args below meth c H1 locs1 (cells + 3) (slots + (B + 10)) Q (F0 m pc ls st0) (Z.n + 2)) {T : State} (hT : T.heap = H) (X : Stand p l e R s m args below meth c T locs cells slots) :
    ∃ t, Steps p.tables e below ((T.setTop (F0 m pc ls st0)).pushFrame (.throwNew cls (some text) none)) t ∧ Q t := by
  have hTz : T.heap.size = Z.n := by rw [hT]; exact hW.1.2.2.2.2.2.2
  have hl1 : ¬ (stringBytes (stringToUtf16 text)).size > e.platform.arrayLengthLimit := by rw [Launch.admits_arrayLengthLimit X.admits]; omega
  have hl2 : ¬ (stringBytes (stringToUtf16 text)).size * componentBytes .byte > e.platform.maxHeapBytes := by
    rw [Launch.admits_maxHeapBytes X.admits]; show ¬ (stringBytes (stringToUtf16 text)).size * 1 > _; omega
  obtain ⟨U, Lx, X', hLx, st, hz, ho, ce, c1, c2, c3⟩ := zmsgAt X S.1 (by rw [X.admits.platform]; exact hlt) hcls hnames hsoe hoom (zatoms hok S hW) (fun x hx cell hc => hpl _ (hW.1.2.2.2.1.2.2 x hx) cell hc) htext hl1 hl2 (g := F0 m pc ls st0) rfl (hsize.trans S.2.2.1.symm) hfr (by show 2 * 0 + (st0.map fun v => v.category).sum + _ ≤ _; omega) (by omega) hcells (by omega)
  rw [hTz] at hLx hz ho c1 st
  obtain ⟨t, a1, b1⟩ := k U.heap _ (z_grow (x := 2) hW hz (fun a ha => (ho a ha).trans (by rw [hT])) hLx) ⟨ce, c1, c2, c3⟩ U rfl (stand_widen X' (Nat.le_refl _) (by omega))
  exact ⟨t, st t a1, b1⟩
theorem zthrowN (S : CallFix p m c cc nL s args lw_all own) (hW : z_W gp D K A s Z H locs) (hpl : zPl A s) (hlt : l.stackTraces = false) (hsize : ls.size = nL) (hro : (st0.map fun v => v.category).sum ≤ 8) (hfr : 7 < R.frames) (hlo : 10248 ≤ R.locals) (hcells : cells + 1 ≤ R.cells) (hslots : slots + 8 ≤ R.slots)
    (k : ∀ (H1 : Heap) (locs1 : List Loc), z_W gp D K A s ⟨Z.Sh, Z.V, Z.L, Z.n + 1⟩ H1 locs1 → (∃ ce : Cell, H1[Z.n]? = some ce ∧ ce.vm = .none ∧ s.vm.findClass "java/lang/NullPointerException" = some ce.cls) → WT p l e R s m args below meth c H1 locs1 (cells + 1) (slots + 8) Q (F0 m pc ls st0) Z.n) {T : State} (hT : T.heap = H) (X : Stand p l e R s m args below meth c T locs cells slots) :
    ∃ t, Steps p.tables e below ((T.setTop (F0 m pc ls st0)).pushFrame (.throwNew "java/lang/NullPointerException" none none)) t ∧ Q t := by
  have hTz : T.heap.size = Z.n := by rw [hT]; exact hW.1.2.2.2.2.2.2
  obtain ⟨U, Lx, X', hLx, st, hz, ho, ce, c1, c2, c3⟩ := znpeAt X S.1 (by rw [X.admits.platform]; exact hlt) (n := 8) (zatoms zat_npe S hW) (fun x hx cell hc => hpl _ (hW.1.2.2.2.1.2.2 x hx) cell hc) (g := F0 m pc ls st0) rfl (hsize.trans S.2.2.1.symm) hfr (by show 2 * 0 + (st0.map fun v => v.category).sum + _ ≤ _; omega) hcells hslots
  rw [hTz] at hLx hz ho c1 st
  obtain ⟨t, a1, b1⟩ := k U.heap _ (z_grow (x := 0) hW hz (fun a ha => (ho a ha).trans (by rw [hT])) hLx) ⟨ce, c1, c2, c3⟩ U rfl X'
  exact ⟨t, st t a1, b1⟩
end ZTT
