/-! System.arraycopy outside of a row: up to the note, over its own frame -/
set_option maxRecDepth 100000
def acW (sp dp n : Int32) (sN dN : String) (N0 N1 : Nat) : Option String :=
  if sp < 0 then some (toString "source index " ++ toString sp ++ toString " out of bounds for " ++ toString (toString sN ++ toString "[" ++ toString N0 ++ toString "]"))
  else if dp < 0 then some (toString "destination index " ++ toString dp ++ toString " out of bounds for " ++ toString (toString dN ++ toString "[" ++ toString N1 ++ toString "]"))
  else if n < 0 then some (toString "length " ++ toString n ++ toString " is negative")
  else if sp.toInt + n.toInt > N0 then some (toString "last source index " ++ toString (sp.toInt + n.toInt) ++ toString " out of bounds for " ++ toString (toString sN ++ toString "[" ++ toString N0 ++ toString "]"))
  else if dp.toInt + n.toInt > N1 then some (toString "last destination index " ++ toString (dp.toInt + n.toInt) ++ toString " out of bounds for " ++ toString (toString dN ++ toString "[" ++ toString N1 ++ toString "]"))
  else none
section AC
variable {E : CtlPost} {e : Env} {d : Bool} {acts : List Action} {s : State}
theorem ac_throw {src dst : Addr} {sp dp n : Int32} {cs cd : Cell} {ks kd : Class} {sComp dComp : ClassId} {sType dType : FieldType} {Q : Option Value → Pre} {what : String}
    (hs : s.heap[src]? = some cs) (hd : s.heap[dst]? = some cd) (hsobj : ∀ k, cs.vm ≠ .statics k) (hdobj : ∀ k, cd.vm ≠ .statics k) (hks : s.vm.classes[cs.cls]? = some ks) (hkd : s.vm.classes[cd.cls]? = some kd) (hsk : ks.kind = .array sComp sType) (hdk : kd.kind = .array dComp dType)
    (hty : ((refKind sType != refKind dType) || (!refKind sType && sType != dType)) = false) (hwh : acW sp dp n (Native.java_lang_System.arraycopy.kindName sType) (Native.java_lang_System.arraycopy.kindName dType) cs.slots.size cd.slots.size = some what)
    (hq : ∀ acts', E (.throwNew "java/lang/ArrayIndexOutOfBoundsException" (some ("arraycopy: " ++ what))) acts' s) : wp (Native.java_lang_System.arraycopy.sem #[.ref src, .int sp, .ref dst, .int dp, .int n]) Q E e d acts s := by
  rw [Native.java_lang_System.arraycopy.sem_refs]
  unfold Native.java_lang_System.arraycopy.behind
  simp only [wp_bind', W.classOf, W.theClass, hs, hd, hks, hkd, Option.some.injEq, exists_eq_left', hsk, hdk]
  refine ⟨hsobj, hdobj, ?_⟩
  unfold refKind at hty
  simp only [hty, Bool.false_eq_true, if_false]
  simp only [wp_bind', W.sizeOf, hs, hd, Option.some.injEq, exists_eq_left']
  unfold acW at hwh
  rw [hwh]
  simp only [wp_bind', W.mark, W.throwNew]
  exact hq _
end AC
section NT
theorem native_throws {tb : Tables} {e : Env} {below : List Frame} {s target : State} {g : JFrame} {c : Code} (h : At s g.method c below) {m : MethodId} {meth : Method} {k : Class} {row : NativeRow} {args : Array Value} (acts : List Action)
    (hk : s.vm.classes[m.cls]? = some k) (hx : k.methods[m.idx]? = some meth) (hboot : k.loader = none) (hnat : meth.isNative = true) (hc : meth.code = none) (hl : meth.locks = false)
    (hrow : NativeRow.find? tb.natives k.name meth.name meth.desc = some row)
    (hroom : e.platform.stackFull (((s.setTop g).threads[(s.setTop g).cur]?).getD { frames := [] }) (s.setTop g).frames (nativeFrameWords k.name meth.name (operandWords args.toList)) = false) {cls : String} {msg : Option String}
    (hw : ∀ E : CtlPost, (∀ acts', E (.throwNew cls msg) acts' ((s.setTop g).pushFrame (.native { method := m, args := seenByNative meth args, locked := none }))) → wp (row.sem (seenByNative meth args)) (fun _ _ _ _ => False) E e false [] ((s.setTop g).pushFrame (.native { method := m, args := seenByNative meth args, locked := none })))
    (hrest : Steps tb e below (((s.setTop g).pushFrame (.native { method := m, args := seenByNative meth args, locked := none })).pushFrame (.throwNew cls msg none)) target) : Steps tb e below (doInvoke e (s.setTop g) acts m args).1 target := by
  have hm : (s.setTop g).vm.method? m = some meth := by
    show s.vm.method? m = some meth
    simp [Vm.method?, hk, hx]
  have hroom' : e.platform.stackFull (((s.setTop g).threads[(s.setTop g).cur]?).getD { frames := [] }) (s.setTop g).frames (nativeFrameWords ((((s.setTop g).vm.classes[m.cls]?).map (·.name)).getD "") meth.name (operandWords args.toList)) = false := by
    have e1 : (((s.setTop g).vm.classes[m.cls]?).map (·.name)).getD "" = k.name := by
      show ((s.vm.classes[m.cls]?).map (·.name)).getD "" = k.name
      simp [hk]
    rw [e1]; exact hroom
  rw [(Fast.doInvoke_native (s := s.setTop g) (e := e) (acts := acts) (args := args) hm hnat hc hl hroom').1]
  have hfe := frames_entered (g := g) h.top (.native { method := m, args := seenByNative meth args, locked := none })
  obtain ⟨mid, hmid⟩ := h.above
  refine Steps.head ⟨h.running, by simpa using h.runnable, by simpa using h.alone⟩ ⟨.native { method := m, args := seenByNative meth args, locked := none } :: .java g :: mid, by rw [hfe, hmid]; rfl, by simp, by simp⟩ ?_
  rw [stepThread_native (f := { method := m, args := seenByNative meth args, locked := none }) (k := k) (x := meth) (row := row) hfe hk hx hboot hrow rfl]
  have hW : wpRun (row.sem (seenByNative meth args)) (fun _ _ _ => False) (fun x s₁ _ => x = .throwNew cls msg ∧ s₁ = (s.setTop g).pushFrame (.native { method := m, args := seenByNative meth args, locked := none })) e ((s.setTop g).pushFrame (.native { method := m, args := seenByNative meth args, locked := none })) := hw _ (fun _ => ⟨rfl, rfl⟩)
  have hW := (wpRun_iff_run _ _ _ _ _).mp hW
  cases hr : (row.sem (seenByNative meth args)).run e ((s.setTop g).pushFrame (.native { method := m, args := seenByNative meth args, locked := none })) with
  | ok v s₁ acts₁ => rw [hr] at hW; exact hW.elim
  | ctl x s₁ acts₁ =>
    rw [hr] at hW
    have h2 : x = .throwNew cls msg ∧ s₁ = (s.setTop g).pushFrame (.native { method := m, args := seenByNative meth args, locked := none }) := by cases x <;> first | exact hW.elim | exact hW
    obtain ⟨rfl, rfl⟩ := h2
    exact hrest
/-- a native's frame is left by a throw -/
theorem native_left {tb : Tables} {e : Env} {below : List Frame} {W target : State} {mm : MethodId} {cw : Code} (hA : At W mm cw below) {r : List Frame} (hb : ∃ mid, r = mid ++ below) {x : Addr} {f : NFrame} (hf1 : f.awaiting = false) (hf2 : f.locked = none)
    (hrest : Steps tb e below (W.setFrames (.throwing x :: r)) target) : Steps tb e below (W.setFrames (.throwing x :: .native f :: r)) target := by
  have f0 : (W.setFrames (.throwing x :: .native f :: r)).frames = .throwing x :: .native f :: r := State.frames_setFrames _ (ov_cur hA)
  obtain ⟨mid, hmid⟩ := hb
  refine Steps.head (ov_go hA _) ⟨.throwing x :: .native f :: mid, by rw [f0, hmid]; rfl, by simp, by simp⟩ ?_
  rw [stepThread_throwing f0]
  have hstep : (stepThrowing e (W.setFrames (.throwing x :: .native f :: r)) x (.native f :: r)).1 = (W.setFrames (.throwing x :: .native f :: r)).setFrames (.throwing x :: r) := by
    simp only [stepThrowing, hf1, hf2, vmDo, leaveIfLocked, Bool.false_eq_true, if_false]
    generalize hr : Sem.go _ e false _ _ = res
    have hr2 : (Sem.go (Pure.pure true : Sem Bool) e false [.mark "vm.unwind/native"] (W.setFrames (.throwing x :: .native f :: r))) = res := hr
    cases hr2
    rfl
  rw [hstep, State.setFrames_setFrames]
  exact hrest
end NT
