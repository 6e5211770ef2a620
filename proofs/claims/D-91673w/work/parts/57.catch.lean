/-! catching, where the handler's class may not be resolved yet -/
set_option maxRecDepth 100000
theorem go_cold {Q : Handler → Pre} {E : CtlPost} {e : Env} {d : Bool} {acts : List Action} {s : State} {f : JFrame} {a : Addr} {z : ExceptionTableEntry} {t : List ExceptionTableEntry} {c : ClassId} {vm' : Vm} (hx : covers z f.pc = true) (h0 : z.catchType ≠ 0)
    (hg : (Jvm.resolveClass f.method.cls z.catchType).Gives e.toSetting s.vm (.ok c) vm') (hr : vm'.classReady f.method.cls z.catchType c) (hsz : vm'.classes.size ≤ s.vm.classes.size) :
    wp (findHandler.go f a (z :: t)) Q E e d acts s ↔ wp (findHandler.go f a (z :: t)) Q E e d acts (s.setVm vm') := by
  obtain ⟨ha, ht⟩ := hg.op (op := VmOp.resolveClass f.method.cls z.catchType) rfl
  obtain ⟨k, hkd, hres⟩ := hr
  simp only [covers] at hx
  simp [findHandler.go, hx, h0, ha, ht, hsz, resolveClass_memo e hkd hres, VmOp.dirties, VmOp.acts]
  exact Iff.rfl
theorem finds_cold {e : Env} {s : State} {f : JFrame} {a : Addr} {meth : Method} {code : Code} {c : ClassId} {cell : Cell} {vm' : Vm} (hm : s.vm.method? f.method = some meth) (hc : meth.code = some code)
    (pre : List ExceptionTableEntry) (z : ExceptionTableEntry) (rest : List ExceptionTableEntry) (hsplit : code.exceptionTable.toList = pre ++ z :: rest) (hskip : ∀ y ∈ pre, covers y f.pc = false) (hx : covers z f.pc = true) (h0 : z.catchType ≠ 0)
    (hg : (Jvm.resolveClass f.method.cls z.catchType).Gives e.toSetting s.vm (.ok c) vm') (hr : vm'.classReady f.method.cls z.catchType c) (hsz : vm'.classes.size ≤ s.vm.classes.size)
    (hcell : s.heap[a]? = some cell) (hobj : ∀ k, cell.vm ≠ .statics k) (hk : ∃ k, vm'.classes[cell.cls]? = some k) (hcl : ∃ k, vm'.classes[c]? = some k) (hfit : vm'.assignable cell.cls c = true) :
    ∀ (Q : Handler → Pre) (E : CtlPost) (d : Bool) (acts : List Action), wp (findHandler f a) Q E e d acts s ↔ Q (.found z.handlerPc) d acts (s.setVm vm') := by
  intro Q E d acts
  rw [W.findHandler_eq hm hc, hsplit]
  clear hsplit
  induction pre with
  | nil =>
    show wp (findHandler.go f a (z :: rest)) Q E e d acts s ↔ _
    rw [go_cold hx h0 hg hr hsz, W.findHandler_go_class (s := s.setVm vm') hx h0 hr hcell hobj hk hcl, if_pos (show (s.setVm vm').vm.assignable cell.cls c = true from hfit)]
  | cons y t ih =>
    rw [List.cons_append, W.findHandler_go_skip (hskip y (List.mem_cons_self ..))]
    exact ih (fun w hw => hskip w (List.mem_cons_of_mem _ hw))
theorem caught_to {tb : Tables} {e : Env} {s target : State} {g : JFrame} {c : Code} {below : List Frame} {a : Addr} {vm' : Vm} {pc : Nat} (h : At s g.method c below)
    (hfind : ∀ (Q : Handler → Pre) (E : CtlPost) (d : Bool) (acts : List Action), wp (findHandler g a) Q E e d acts ((s.setTop g).pushFrame (.throwing a)) ↔ Q (.found pc) d acts (((s.setTop g).pushFrame (.throwing a)).setVm vm'))
    (hrest : Steps tb e below ((s.setVm vm').setTop { g with pc := pc, stack := [.ref a] }) target) : Steps tb e below ((s.setTop g).pushFrame (.throwing a)) target := by
  obtain ⟨hgo, hw⟩ := h.throwing a
  refine Steps.head hgo hw ?_
  have hstep : ∀ r, (stepThrowing e ((s.setTop g).pushFrame (.throwing a)) a (.java g :: r)).Is ((((s.setTop g).pushFrame (.throwing a)).setVm vm').setFrames (.java { g with pc := pc, stack := [.ref a] } :: r)) [] := by
    intro r
    simp only [stepThrowing, searchFrame, vmDo]
    generalize hr : Sem.go _ e false [] _ = res
    obtain ⟨as, rfl, ha⟩ := Sem.eq_ok_of hr (a := Handler.found pc) (s' := ((s.setTop g).pushFrame (.throwing a)).setVm vm') (acts' := []) (by simp [hfind _ _ _ _])
    exact ⟨rfl, ha⟩
  rw [stepThread_throwing (frames_entered h.top _), (hstep _).1]
  obtain ⟨g₀, hg⟩ := Option.isSome_iff_exists.mp h.top
  obtain ⟨r, hr⟩ := State.topJava?_eq_some.mp hg
  have hr' : (s.setVm vm').frames = .java g₀ :: r := hr
  have hcomm : ((s.setTop g).pushFrame (.throwing a)).setVm vm' = ((s.setVm vm').setTop g).pushFrame (.throwing a) := rfl
  rw [hcomm, State.pushFrame, State.setFrames_setFrames, State.setTop_of_frames _ hr', State.setFrames_setFrames]
  rw [State.setTop_of_frames _ hr'] at hrest
  rw [hr]
  exact hrest
section WC
variable {p : Program} {l : Launch} {e : Env} {R : Room} {s : State} {m : MethodId} {args : Array Value} {below : List Frame} {meth : Method} {c : Code} {H : Heap} {locs : List Loc} {cells slots : Nat} {Q : State → Prop} {own : String} {pc : Nat} {ls : Array Slot} {st0 : List Value} {x : Nat}
/-- a handler of a class that the object is of (its entry resolved or not) -/
theorem WT.catch {C E : String} {cell : Cell} (hown : s.vm.findClass own = some m.cls) (pre : List ExceptionTableEntry) (z : ExceptionTableEntry) (rest : List ExceptionTableEntry) (hsplit : c.exceptionTable.toList = pre ++ z :: rest) (hskip : ∀ y ∈ pre, covers y pc = false) (hz : covers z pc = true) (h0 : z.catchType ≠ 0)
    (hlink : (Cond.classLink own z.catchType E).before args s = true) (hcell : H[x]? = some cell) (hobj : ∀ k, cell.vm ≠ .statics k) (hcC : s.vm.findClass C = some cell.cls) (hfit : ∀ c1, s.vm.findClass E = some c1 → s.vm.assignable cell.cls c1 = true)
    (k : W p l e R s m args below meth c H locs cells slots Q (F0 m z.handlerPc ls [.ref x])) : WT p l e R s m args below meth c H locs cells slots Q (F0 m pc ls st0) x := by
  intro T hT X
  have hpl : e.platform.magicAccessors = ({} : Platform).magicAccessors := by rw [X.admits.platform]
  obtain ⟨c1, hfc, hcl⟩ := Cond.classLink_spec hown hlink e.platform hpl
  obtain ⟨hg₁, hwarm₁, hready₁⟩ := State.classEntry (e := e) X.warmed hcl
  have hsz : (T.vm.noted m.cls z.catchType (.cls c1)).classes.size ≤ T.vm.classes.size := by no_record
  generalize T.vm.noted m.cls z.catchType (.cls c1) = vm₁ at hg₁ hwarm₁ hready₁ hsz
  have X₁ := X.noted hwarm₁
  obtain ⟨t, a1, b1⟩ := k (T.setVm vm₁) hT X₁
  obtain ⟨kc, hkc, -⟩ := Vm.findClass_spec hfc
  obtain ⟨kd, hkd, -⟩ := Vm.findClass_spec hcC
  obtain ⟨kc', hkc', -⟩ := X₁.warmed.alike.2.2 _ _ hkc
  obtain ⟨kd', hkd', -⟩ := X₁.warmed.alike.2.2 _ _ hkd
  refine ⟨t, caught_to (g := F0 m pc ls st0) (pc := z.handlerPc) (vm' := vm₁) X.here (finds_cold (meth := meth) (code := c) X.method' X.code pre z rest hsplit hskip hz h0 hg₁ hready₁ hsz (cell := cell) ?_ hobj ⟨_, hkd'⟩ ⟨_, hkc'⟩ ?_) a1, b1⟩
  · show T.heap[x]? = some cell
    rw [hT]; exact hcell
  · have ha : s.vm.Alike vm₁ := hwarm₁.alike
    rw [ha.assignable]
    exact hfit c1 hfc
end WC
