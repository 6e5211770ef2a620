/-! an exception with a message that the machine makes over any frames (a native one on top), up to the throw over them -/
set_option maxRecDepth 100000
section OV
variable {e : Env} {below base : List Frame} {W : State} {mm : MethodId} {cw : Code}
theorem ov_cur (hA : At W mm cw below) : W.cur < W.threads.size := by
  obtain ⟨g₀, hg⟩ := Option.isSome_iff_exists.mp hA.top
  obtain ⟨r, hr⟩ := State.topJava?_eq_some.mp hg
  exact State.cur_lt_of_frames hr
theorem ov_go (hA : At W mm cw below) (fs : List Frame) : (W.setFrames fs).goesOn := ⟨hA.running, by simpa using hA.runnable, by simpa using hA.alone⟩
theorem ov_in (hA : At W mm cw below) (hb : ∃ mid, base = mid ++ below) (a str : Addr) {m : MethodId} {meth : Method} {code : Code} (hm : W.vm.method? m = some meth) (hc : meth.code = some code) (hp : W.plainMethod m) :
    (W.setFrames (.thenThrow a :: base)).frames = .thenThrow a :: base ∧ At ((W.setFrames (.thenThrow a :: base)).pushFrame (.java (passJ m a (.ref str) 0 []))) m code below ∧ ((W.setFrames (.thenThrow a :: base)).pushFrame (.java (passJ m a (.ref str) 0 []))).frames = .java (passJ m a (.ref str) 0 []) :: .thenThrow a :: base := by
  have f1 : (W.setFrames (.thenThrow a :: base)).frames = .thenThrow a :: base := State.frames_setFrames _ (ov_cur hA)
  have c1 := State.cur_lt_of_frames f1
  obtain ⟨mid, hmid⟩ := hb
  refine ⟨f1, At.pushOn _ (ov_go hA _) c1 ⟨.thenThrow a :: mid, by rw [f1, hmid]; rfl⟩ hm hc hp, ?_⟩
  rw [show ((W.setFrames (.thenThrow a :: base)).pushFrame (.java (passJ m a (.ref str) 0 []))).frames = .java (passJ m a (.ref str) 0 []) :: (W.setFrames (.thenThrow a :: base)).frames from State.frames_setFrames _ c1, f1]
/-- the constructor's return, and the note behind it -/
theorem ov_ret {tb : Tables} [Ours tb] {target : State} (hA : At W mm cw below) (hb : ∃ mid, base = mid ++ below) (hexec : tb.exec = Jvm.exec) {F : State → State} (hF : HeapOnly F) (a str : Addr) {m : MethodId} {meth : Method} {code : Code} (hm : W.vm.method? m = some meth) (hc : meth.code = some code) (hp : W.plainMethod m) (hl : meth.locks = false) (h5 : decode code.code 5 = .ok (.return_, 1))
    (hrest : Steps tb e below ((F W).setFrames (.throwing a :: base)) target) : Steps tb e below ((F ((W.setFrames (.thenThrow a :: base)).pushFrame (.java (passJ m a (.ref str) 0 [])))).setTop (passJ m a (.ref str) 5 [])) target := by
  obtain ⟨f1, hI, fI⟩ := ov_in hA hb a str hm hc hp
  have hAF : At (F W) mm cw below := hF.at_ hA
  have hB := hF.at_ hI
  have fF : (F ((W.setFrames (.thenThrow a :: base)).pushFrame (.java (passJ m a (.ref str) 0 [])))).frames = .java (passJ m a (.ref str) 0 []) :: .thenThrow a :: base := by rw [hF.frames]; exact fI
  jvm_step hB [hexec, h5, return_.wp_sem]
  intro acts
  rw [ret_to (f := passJ m a (.ref str) 5 []) (f₀ := passJ m a (.ref str) 0 []) (below := .thenThrow a :: base) (fs := .thenThrow a :: base) (meth := meth) fF (by rw [hF.vm]; exact hm) hl rfl rfl rfl acts]
  have sw : ∀ fs, (F ((W.setFrames (.thenThrow a :: base)).pushFrame (.java (passJ m a (.ref str) 0 [])))).setFrames fs = (F W).setFrames fs := fun fs => by
    rw [State.pushFrame, hF.setFrames, hF.setFrames, State.setFrames_setFrames, State.setFrames_setFrames]
  rw [sw]
  have f2 : ((F W).setFrames (.thenThrow a :: base)).frames = .thenThrow a :: base := State.frames_setFrames _ (ov_cur hAF)
  obtain ⟨mid, hmid⟩ := hb
  refine Steps.head (ov_go hAF _) ⟨.thenThrow a :: mid, by rw [f2, hmid]; rfl, by simp, by simp⟩ ?_
  rw [stepThread_thenThrow f2]
  show Steps tb e below (((F W).setFrames (.thenThrow a :: base)).setFrames (.throwing a :: base)) target
  rw [State.setFrames_setFrames]
  exact hrest
/-- the constructor from its call on -/
theorem ov_ctor {tb : Tables} [Ours tb] {s₀ : State} (hA : At W mm cw below) (hb : ∃ mid, base = mid ++ below) (hexec : tb.exec = Jvm.exec) {F : State → State} (hF : HeapOnly F) (P1 : PassC) (L1 : P1.LinksS e.platform s₀) (hW : s₀.WarmedH W.vm) (a str : Addr)
    (hroom : e.platform.stackFull (((W.setFrames (.thenThrow a :: base)).threads[(W.setFrames (.thenThrow a :: base)).cur]?).getD { frames := [] }) (W.setFrames (.thenThrow a :: base)).frames 2 = false)
    (hsup : ∀ vm1, s₀.WarmedH vm1 → At (((W.setVm vm1).setFrames (.thenThrow a :: base)).pushFrame (.java (passJ P1.m a (.ref str) 0 []))) P1.m P1.code below → ∃ vm2, s₀.WarmedH vm2 ∧ ∀ t' : State,
      Steps tb e below ((F (((W.setVm vm2).setFrames (.thenThrow a :: base)).pushFrame (.java (passJ P1.m a (.ref str) 0 [])))).setTop (passJ P1.m a (.ref str) 5 [])) t' →
      Steps tb e below (doInvoke e ((((W.setVm vm1).setFrames (.thenThrow a :: base)).pushFrame (.java (passJ P1.m a (.ref str) 0 []))).setTop (passJ P1.m a (.ref str) 2 [])) [] P1.sup #[.ref a, .ref str]).1 t') :
    ∃ vm', s₀.WarmedH vm' ∧ ∀ target, Steps tb e below ((F (W.setVm vm')).setFrames (.throwing a :: base)) target → Steps tb e below (doInvoke e (W.setFrames (.thenThrow a :: base)) [] P1.m #[.ref a, .ref str]).1 target := by
  have hmW := hW.methodAt L1.method
  obtain ⟨f1, hI, fI⟩ := ov_in hA hb a str hmW L1.code (hW.plainAt L1.plain)
  obtain ⟨vm1, hW1, st1⟩ := Steps.invokeInitCold (tb := tb) (s₀ := s₀) (f := passJ P1.m a (.ref str) 2 [.ref str, .ref a]) (args := [.ref str]) (rest := []) (a := a) hI hexec L1.at2 hW L1.links L1.right L1.notHandle L1.cls L1.file L1.pool L1.supClass L1.supMethod L1.supName L1.supStatic L1.supAbstract L1.supFound L1.supParams.symm rfl
  obtain ⟨vm2, hW2, st2⟩ := hsup vm1 hW1 (hI.setVm (hW.alike.symm.trans hW1.alike))
  refine ⟨vm2, hW2, fun target hrest => ?_⟩
  rw [(doInvoke_java (s := W.setFrames (.thenThrow a :: base)) (e := e) (acts := []) (args := #[.ref a, .ref str]) (meth := P1.meth) (code := P1.code) hmW L1.code L1.locks (by rw [L1.locals]; exact hroom)).1, L1.locals]
  show Steps tb e below ((W.setFrames (.thenThrow a :: base)).pushFrame (.java (passJ P1.m a (.ref str) 0 []))) target
  rw [← State.setTop_self (State.topJava?_of_frames fI)]
  jvm_step hI [hexec, L1.at0, Value.isRef]
  jvm_step hI [hexec, L1.at1, Value.isRef]
  exact st1 target (st2 target (ov_ret (W := W.setVm vm2) (hA.setVm (hW.alike.symm.trans hW2.alike)) hb hexec hF a str (hW2.methodAt L1.method) L1.code (hW2.plainAt (U := W.setVm vm2) L1.plain) L1.locks L1.at5 hrest))
/-- from the note on: the String and the object are made, the constructor is called -/
theorem ov_start {tb : Tables} {target : State} (hA : At W mm cw below) (hb : ∃ mid, base = mid ++ below) (Z : StringT) (LZ : Z.Laid W.vm) {cls m : String} {cX : ClassId} {kX : Class} {i : Nat}
    (hsoe : (cls == "java/lang/StackOverflowError") = false) (hoom : (cls == "java/lang/OutOfMemoryError") = false) (hfound : W.vm.findClass cls = some cX) (hk : W.vm.classes[cX]? = some kX) (hinit : kX.init = .initialized) (hord : kX.kind = .ordinary) (hhot : e.platform.hotImplicitExceptions = false)
    (hbeyond : e.platform.stackBeyond ((((W.setFrames (.throwNew cls (some m) none :: base)).threads[W.cur]?).map (·.stackBytes)).getD 0) (W.setFrames (.throwNew cls (some m) none :: base)).frames = false)
    (hfree : e.platform.vmThrowRoom ≤ e.platform.stackFree ((((W.setFrames (.throwNew cls (some m) none :: base)).threads[W.cur]?).map (·.stackBytes)).getD 0) (W.setFrames (.throwNew cls (some m) none :: base)).frames)
    (hm : (m == notModelled) = false) (hctor : kX.findMethod "<init>" "(Ljava/lang/String;)V" = some i)
    (hlimit : ¬ (stringBytes (stringToUtf16 m)).size > e.platform.arrayLengthLimit) (hheap : ¬ (stringBytes (stringToUtf16 m)).size * componentBytes .byte > e.platform.maxHeapBytes)
    (hcells : W.heap.size + 3 ≤ e.platform.maxCells) (hslots : W.slotsUsed + (stringBytes (stringToUtf16 m)).size + Z.kS.instanceTypes.size + kX.instanceTypes.size ≤ e.platform.maxSlots)
    (hfitv : W.fitsSlot Z.cS .none Z.fv.slot (.ref W.heap.size) = true) (hfitc : W.fitsSlot Z.cS .none Z.fc.slot (.int (stringCoder (stringToUtf16 m))) = true)
    (hrest : Steps tb e below (doInvoke e ((withThrown W Z m cX kX).setFrames (.thenThrow (W.heap.size + 2) :: base)) [] ⟨cX, i⟩ #[.ref (W.heap.size + 2), .ref (W.heap.size + 1)]).1 target) :
    Steps tb e below (W.setFrames (.throwNew cls (some m) none :: base)) target := by
  have f0 : (W.setFrames (.throwNew cls (some m) none :: base)).frames = .throwNew cls (some m) none :: base := State.frames_setFrames _ (ov_cur hA)
  obtain ⟨mid, hmid⟩ := hb
  refine Steps.head (ov_go hA _) ⟨.throwNew cls (some m) none :: mid, by rw [f0, hmid]; rfl, by simp, by simp⟩ ?_
  rw [stepThread_throwNew f0, stepThrowNew_message (s := W.setFrames (.throwNew cls (some m) none :: base)) (c := cX) (k := kX) (i := i) Z LZ hsoe hoom hfound hk hinit hord hhot hbeyond hfree hm hctor hlimit hheap hcells hslots hfitv hfitc]
  rw [withThrown_setFrames, State.setFrames_setFrames]
  exact hrest
end OV
