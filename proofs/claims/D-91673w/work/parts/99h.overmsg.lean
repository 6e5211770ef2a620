/-! an exception with a message over any frames: the whole of its making; in a method's walk, over a native's frame -/
set_option maxRecDepth 100000
set_option maxHeartbeats 2000000 in
theorem ov_all (p : Program) {e : Env} {below base : List Frame} {s₀ S : State} {mm : MethodId} {cw : Code} (hA : At S mm cw below) (hb : ∃ mid, base = mid ++ below) (hexec : p.tables.exec = Jvm.exec)
    (T : ThrowableC) (L : T.Links e.platform s₀) (Z : Init0T) (LZ : Z.LaidS T.toThrowableT) (M : MsgC) (LM : M.Links T e.platform s₀) (hW : s₀.WarmedH S.vm) {t : ThreadId} (ht : S.cur = t) (Zs : StringT) (LZs : Zs.Laid s₀.vm)
    (P1 : PassC) (L1 : P1.LinksS e.platform s₀) (Ps : List PassC) (hL : ∀ P, P ∈ Ps → P.LinksS e.platform s₀) (hlink1 : P1.sup = firstOf (Z.m T.toThrowableT) (Ps.map (·.toPassT))) (hlink : PassesOn (Z.m T.toThrowableT) (Ps.map (·.toPassT)))
    {cls m : String} {kX : Class} (hsoe : (cls == "java/lang/StackOverflowError") = false) (hoom : (cls == "java/lang/OutOfMemoryError") = false) (hfound : s₀.vm.findClass cls = some P1.m.cls) (hk : s₀.vm.classes[P1.m.cls]? = some kX) (hinit : kX.init = .initialized) (hord : kX.kind = .ordinary)
    (hctor : kX.findMethod "<init>" "(Ljava/lang/String;)V" = some P1.m.idx) (hhot : e.platform.hotImplicitExceptions = false)
    (hbeyond : e.platform.stackBeyond ((((S.setFrames (.throwNew cls (some m) none :: base)).threads[S.cur]?).map (·.stackBytes)).getD 0) (S.setFrames (.throwNew cls (some m) none :: base)).frames = false)
    (hfreeW : e.platform.vmThrowRoom ≤ e.platform.stackFree ((((S.setFrames (.throwNew cls (some m) none :: base)).threads[S.cur]?).map (·.stackBytes)).getD 0) (S.setFrames (.throwNew cls (some m) none :: base)).frames)
    (hm : (m == notModelled) = false) (hlimit : ¬ (stringBytes (stringToUtf16 m)).size > e.platform.arrayLengthLimit) (hheap : ¬ (stringBytes (stringToUtf16 m)).size * componentBytes .byte > e.platform.maxHeapBytes)
    (hcells : S.heap.size + 3 ≤ e.platform.maxCells) (hslots : S.slotsUsed + (stringBytes (stringToUtf16 m)).size + Zs.kS.instanceTypes.size + kX.instanceTypes.size ≤ e.platform.maxSlots)
    (hfitv : s₀.fitsSlot Zs.cS .none Zs.fv.slot (.ref S.heap.size) = true) (hfitc : s₀.fitsSlot Zs.cS .none Zs.fc.slot (.int (stringCoder (stringToUtf16 m))) = true)
    {u0 sen : RefV} {cellS : Cell} (hsel0 : selectMethod e.platform s₀.vm P1.m.cls T.fill0 = .method T.fill0)
    (hcellS : S.heap[T.aS]? = some cellS) (hknownS : cellS.vm ≠ .unknown) (hvU : cellS.slots[T.fUnassigned.slot]? = some u0.v) (htS : Takes s₀ (freshCell P1.m.cls kX) T.fStack u0.v)
    (hskip : SkipFacts T e.platform s₀ (fun u => u) u0 ((preparedCellV T.toThrowableT (freshCell P1.m.cls kX) (S.heap.size + 2) u0 sen).withEntry t))
    (hnat : u0.v ≠ .null → ∀ u : State, At u T.fill T.codeFill below → s₀.WarmedH u.vm → u.heap[(S.heap.size + 2)]? = some ((preparedCellV T.toThrowableT (freshCell P1.m.cls kX) (S.heap.size + 2) u0 sen).withEntry t) →
      e.platform.stackFull (((u.setTop (fillJ T.fill (S.heap.size + 2) 16 [])).threads[(u.setTop (fillJ T.fill (S.heap.size + 2) 16 [])).cur]?).getD { frames := [] }) (u.setTop (fillJ T.fill (S.heap.size + 2) 16 [])).frames (nativeFrameWords "java/lang/Throwable" "fillInStackTrace" 2) = false → ∀ t' : State,
      Steps p.tables e below (u.setTop (fillJ T.fill (S.heap.size + 2) 19 [.ref (S.heap.size + 2)])) t' →
      Steps p.tables e below (doInvoke e (u.setTop (fillJ T.fill (S.heap.size + 2) 16 [])) [] T.fill0 #[.ref (S.heap.size + 2), .int 0]).1 t')
    (hselF : selectMethod e.platform s₀.vm P1.m.cls T.fill = .method T.fill) (hvSen : cellS.slots[T.fSentinel.slot]? = some sen.v)
    (htC : Takes s₀ (freshCell P1.m.cls kX) T.fCause (.ref (S.heap.size + 2))) (htP : Takes s₀ (freshCell P1.m.cls kX) T.fSupp sen.v) (htM : Takes s₀ (freshCell P1.m.cls kX) T.fMsg (.ref (S.heap.size + 1))) (hobjLocals : T.codeObj.maxLocals = 1)
    {lim : Nat × Nat} (hlim : e.platform.stackLimits S.me = lim) (hframes : base.length + Ps.length + 4 < lim.1) (hwords : (stackUse base).2 + 13 * Ps.length + 55 ≤ lim.2) :
    ∃ vm', s₀.WarmedH vm' ∧ ∀ target, Steps p.tables e below ((((withThrown S Zs m P1.m.cls kX).setVm vm').setCell (S.heap.size + 2) ((((preparedCellV T.toThrowableT (freshCell P1.m.cls kX) (S.heap.size + 2) u0 sen).withEntry t).setSlot T.fStack.slot u0.v).left.setSlot T.fMsg.slot (.ref (S.heap.size + 1)))).setFrames (.throwing (S.heap.size + 2) :: base)) target →
      Steps p.tables e below (S.setFrames (.throwNew cls (some m) none :: base)) target := by
  -- the tables may be warmer by now
  obtain ⟨kX', hk', he'⟩ := hW.alike.2.2 _ _ hk
  have hty : kX'.instanceTypes = kX.instanceTypes := by rw [he']
  have hfresh : freshCell P1.m.cls kX' = freshCell P1.m.cls kX := by
    show ({ cls := P1.m.cls, slots := kX'.instanceTypes.map defaultValue, vm := .none } : Cell) = _
    rw [hty]
  obtain ⟨kS', kB', LZ', htyS⟩ := LZs.warmer hW.alike
  have hsame : withThrown S { Zs with kS := kS', kB := kB' } m P1.m.cls kX' = withThrown S Zs m P1.m.cls kX := by
    rw [← withThrown_warmer S Zs (kB' := kB') htyS m P1.m.cls kX]
    show (withString S _ _ _ _ _ _).pushCell (freshCell P1.m.cls kX') = (withString S _ _ _ _ _ _).pushCell (freshCell P1.m.cls kX)
    rw [hfresh]
  have hfs : S.fitsSlot = s₀.fitsSlot := (show S.fitsSlot = (s₀.setVm S.vm).fitsSlot from rfl).trans (State.fitsSlot_setVm hW.alike)
  obtain ⟨w1, w2, -, w4, w5, -, w7⟩ := withThrown_facts e.platform S Zs m P1.m.cls kX
  have hltS : T.aS < S.heap.size := (Array.getElem?_eq_some_iff.mp hcellS).1
  have hneS : T.aS ≠ S.heap.size + 2 := Nat.ne_of_lt (Nat.lt_of_lt_of_le hltS (Nat.le_add_right _ 2))
  generalize hWd : withThrown S Zs m P1.m.cls kX = Wd at w1 w2 w4 w5 w7 hsame ⊢
  have hAW : At Wd mm cw below := by rw [← hWd]; simpa [withThrown, withString] using hA
  have hcurW : Wd.cur = t := by rw [← hWd, ← ht]; simp [withThrown, withString]
  have hWw : s₀.WarmedH Wd.vm := by rw [w1]; exact hW
  obtain ⟨f1, -, -⟩ := ov_in hAW hb (S.heap.size + 2) (S.heap.size + 1) (hWw.methodAt L1.method) L1.code (hWw.plainAt L1.plain)
  have hlimN : e.platform.stackLimits (Wd.setFrames (.thenThrow (S.heap.size + 2) :: base)).me = lim := by rw [State.stackLimits_setFrames, w7]; exact hlim
  have hroom := roomAbove (pl := e.platform) (u := Wd.setFrames (.thenThrow (S.heap.size + 2) :: base)) (vars := 2) (pushed := [.thenThrow (S.heap.size + 2)]) (base := base) (free := 13 * Ps.length + 55) (lim := lim) f1 hlimN
    (by simp only [List.length_cons, List.length_nil]; omega) (by omega) (by rw [stackUse_light _ _ (fun f hf => by cases hf) rfl, stackUse_nil]; show 0 + 2 + 11 ≤ _; omega)
  obtain ⟨vm', hW', st⟩ := ov_ctor (tb := p.tables) (e := e) (s₀ := s₀) hAW hb hexec (F := fun u => u.setCell (S.heap.size + 2) ((((preparedCellV T.toThrowableT (freshCell P1.m.cls kX) (S.heap.size + 2) u0 sen).withEntry t).setSlot T.fStack.slot u0.v).left.setSlot T.fMsg.slot (.ref (S.heap.size + 1)))) (heapOnly_id.thenSetCell (S.heap.size + 2) _) P1 L1 hWw (S.heap.size + 2) (S.heap.size + 1) hroom (fun vm1 hW1 hI1 => by
    rw [hlink1]
    obtain ⟨-, -, fI⟩ := ov_in (hAW.setVm (hWw.alike.symm.trans hW1.alike)) hb (S.heap.size + 2) (S.heap.size + 1) (hW1.methodAt L1.method) L1.code (hW1.plainAt (U := Wd.setVm vm1) L1.plain)
    obtain ⟨X, hX⟩ : ∃ X, X = (((Wd.setVm vm1).setFrames (.thenThrow (S.heap.size + 2) :: base)).pushFrame (.java (passJ P1.m (S.heap.size + 2) (.ref (S.heap.size + 1)) 0 []))) := ⟨_, rfl⟩
    have hXvm : ∀ w, X.setVm w = (((Wd.setVm w).setFrames (.thenThrow (S.heap.size + 2) :: base)).pushFrame (.java (passJ P1.m (S.heap.size + 2) (.ref (S.heap.size + 1)) 0 []))) := fun w => by rw [hX, State.pushFrame_setVm, State.setFrames_setVm, State.setVm_twice]
    have hXfr : X.frames = .java (passJ P1.m (S.heap.size + 2) (.ref (S.heap.size + 1)) 0 []) :: .thenThrow (S.heap.size + 2) :: base := by rw [hX]; exact fI
    have hXc : X.heap[S.heap.size + 2]? = some (freshCell P1.m.cls kX) := by rw [hX]; exact w4
    have hXS : X.heap[T.aS]? = some cellS := by rw [hX]; exact (w5 _ hltS).trans hcellS
    have hXcur : X.cur = t := by rw [hX]; exact hcurW
    have hXW : s₀.WarmedH X.vm := by rw [hX]; exact hW1
    have hXlim : e.platform.stackLimits X.me = lim := by rw [hX, State.stackLimits_pushFrame, State.stackLimits_setFrames]; exact w7.trans hlim
    have hXI : At X P1.m P1.code below := by rw [hX]; exact hI1
    rw [← hX]
    obtain ⟨vm2, hW2, st2⟩ := Steps.initThrowableSColdByV p (V := X) (g := passJ P1.m (S.heap.size + 2) (.ref (S.heap.size + 1)) 2 []) (c := P1.code) (self := S.heap.size + 2) hXI hexec T L Z LZ M LM hXW hXcur (Nn := fun u => u) heapOnly_id (fun _ _ => rfl) (fun _ => rfl) (fun u x y => setCell_twice _ _ _ _) (fun _ => Nat.le_refl _) (msg := .ref (S.heap.size + 1)) rfl hXc
      (by intro k hk'; cases hk') (by intro hk'; cases hk') rfl hsel0 hXS hneS hknownS hvU htS (cN := ((preparedCellV T.toThrowableT (freshCell P1.m.cls kX) (S.heap.size + 2) u0 sen).withEntry t)) (fun _ hu => hu) (fun _ hu => hu) rfl rfl rfl (by simp [preparedCellV, Cell.setSlot, Cell.withEntry]) hskip hnat hselF hvSen htC htP htM hobjLocals Ps hL hlink (ig := .invokespecial P1.index) (len := 3) [] hXlim
      (by rw [hXfr]; simp only [List.length_cons]; omega)
      (by rw [hXfr, List.tail_cons, stackUse_java, stackUse_light _ _ (fun f hf => by cases hf) rfl]
          show (stackUse base).2 + (2 + 11 + 2 * 0 + operandWords []) + 13 * Ps.length + 42 ≤ lim.2
          simp only [operandWords, List.foldl_nil]
          omega) L1.at2
    exact ⟨vm2, hW2, fun t' h' => st2 t' (by rw [hXvm]; exact h')⟩)
  refine ⟨vm', hW', fun target hrest => ?_⟩
  refine ov_start hA hb { Zs with kS := kS', kB := kB' } LZ' (cls := cls) (m := m) (cX := P1.m.cls) (kX := kX') (i := P1.m.idx) hsoe hoom (by rw [hW.alike.findClass]; exact hfound) hk' (by rw [he']; exact hinit) (by rw [he']; exact hord)
    hhot hbeyond hfreeW hm (by rw [he']; exact hctor) hlimit hheap hcells (by show S.slotsUsed + _ + kS'.instanceTypes.size + kX'.instanceTypes.size ≤ _; rw [htyS, hty]; exact hslots) (by rw [hfs]; exact hfitv) (by rw [hfs]; exact hfitc) ?_
  rw [hsame]
  exact st target hrest
