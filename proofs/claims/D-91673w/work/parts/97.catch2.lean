/-! handlers that cover and do not catch: passing on, leaving, the next one -/
set_option maxRecDepth 100000
theorem go_nomatch {Q : Handler → Pre} {E : CtlPost} {e : Env} {d : Bool} {acts : List Action} {s : State} {f : JFrame} {a : Addr} {z : ExceptionTableEntry} {t : List ExceptionTableEntry} {c : ClassId} {vm' : Vm} {cell : Cell} (hx : covers z f.pc = true) (h0 : z.catchType ≠ 0)
    (hg : (Jvm.resolveClass f.method.cls z.catchType).Gives e.toSetting s.vm (.ok c) vm') (hr : vm'.classReady f.method.cls z.catchType c) (hsz : vm'.classes.size ≤ s.vm.classes.size)
    (hcell : s.heap[a]? = some cell) (hobj : ∀ k, cell.vm ≠ .statics k) (hk : ∃ k, vm'.classes[cell.cls]? = some k) (hcl : ∃ k, vm'.classes[c]? = some k) (hfit : vm'.assignable cell.cls c = false) :
    wp (findHandler.go f a (z :: t)) Q E e d acts s ↔ wp (findHandler.go f a t) Q E e d acts (s.setVm vm') := by
  rw [go_cold hx h0 hg hr hsz, W.findHandler_go_class (s := s.setVm vm') hx h0 hr hcell hobj hk hcl, if_neg (by rw [show (s.setVm vm').vm.assignable cell.cls c = vm'.assignable cell.cls c from rfl, hfit]; decide)]
theorem left_to {tb : Tables} {e : Env} {s target : State} {g : JFrame} {c : Code} {below : List Frame} {a : Addr} {vm' : Vm} {meth : Method} (h : At s g.method c below) (hm : vm'.method? g.method = some meth) (hl : meth.locks = false) (hlocked : g.locked = none) (hentered : g.entered = [])
    (hfind : ∀ (Q : Handler → Pre) (E : CtlPost) (d : Bool) (acts : List Action), wp (findHandler g a) Q E e d acts ((s.setTop g).pushFrame (.throwing a)) ↔ Q .none d acts (((s.setTop g).pushFrame (.throwing a)).setVm vm'))
    (hrest : Steps tb e below ((s.setVm vm').setFrames (.throwing a :: s.frames.tail)) target) : Steps tb e below ((s.setTop g).pushFrame (.throwing a)) target := by
  obtain ⟨hgo, hw⟩ := h.throwing a
  refine Steps.head hgo hw ?_
  have hstep : ∀ r, (stepThrowing e ((s.setTop g).pushFrame (.throwing a)) a (.java g :: r)).Is ((((s.setTop g).pushFrame (.throwing a)).setVm vm').setFrames (.throwing a :: r)) [] := by
    intro r
    have hm' : (((s.setTop g).pushFrame (.throwing a)).setVm vm').vm.method? g.method = some meth := hm
    simp only [stepThrowing, searchFrame, vmDo]
    generalize hr : Sem.go _ e false [] _ = res
    obtain ⟨as, rfl, ha⟩ := Sem.eq_ok_of hr (a := Handler.none) (s' := ((s.setTop g).pushFrame (.throwing a)).setVm vm') (acts' := [])
      (by cases hp : e.platform.frameOwnsMonitors <;> simp [hfind _ _ _ _, hm, hm', hl, hlocked, hentered, hp, leaveIfLocked])
    exact ⟨rfl, ha⟩
  rw [stepThread_throwing (frames_entered h.top _), (hstep _).1]
  obtain ⟨g₀, hg⟩ := Option.isSome_iff_exists.mp h.top
  obtain ⟨r, hr⟩ := State.topJava?_eq_some.mp hg
  have hr' : (s.setVm vm').frames = .java g₀ :: r := hr
  have hcomm : ((s.setTop g).pushFrame (.throwing a)).setVm vm' = ((s.setVm vm').setTop g).pushFrame (.throwing a) := rfl
  rw [hcomm, State.pushFrame, State.setFrames_setFrames, State.setTop_of_frames _ hr', State.setFrames_setFrames]
  exact hrest
section WC2
variable {p : Program} {l : Launch} {e : Env} {R : Room} {s : State} {m : MethodId} {args : Array Value} {below : List Frame} {meth : Method} {c : Code} {H : Heap} {locs : List Loc} {cells slots : Nat} {Q : State → Prop} {own : String} {pc : Nat} {ls : Array Slot} {st0 : List Value} {x : Nat}
/-- the table's one row covers and does not catch: the method ends -/
theorem WT.leave1 {C E : String} {cell : Cell} {z : ExceptionTableEntry} {Qc : Array Value → State → Outcome → State → Prop} {free : Addr → Prop} (hlocks : meth.locks = false) (hown : s.vm.findClass own = some m.cls) (hsplit : c.exceptionTable.toList = [z]) (hz : covers z pc = true) (h0 : z.catchType ≠ 0)
    (hlink : (Cond.classLink own z.catchType E).before args s = true) (hcell : H[x]? = some cell) (hobj : ∀ k, cell.vm ≠ .statics k) (hcC : s.vm.findClass C = some cell.cls) (hnc : va_Nc C E s)
    (hq : ∀ t : State, t.heap = H → s.WarmedH t.vm → Qc args s (.threw x) t) (hf : ∀ q ∈ locs, free q.base) : WT p l e R s m args below meth c H locs cells slots (MQT below Qc args s cells slots free) (F0 m pc ls st0) x := by
  intro T hT X
  have hpl : e.platform.magicAccessors = ({} : Platform).magicAccessors := by rw [X.admits.platform]
  obtain ⟨c1, hfc, hcl⟩ := Cond.classLink_spec hown hlink e.platform hpl
  obtain ⟨hg₁, hwarm₁, hready₁⟩ := State.classEntry (e := e) X.warmed hcl
  have hsz : (T.vm.noted m.cls z.catchType (.cls c1)).classes.size ≤ T.vm.classes.size := by no_record
  generalize T.vm.noted m.cls z.catchType (.cls c1) = vm₁ at hg₁ hwarm₁ hready₁ hsz
  have X₁ := X.noted hwarm₁
  obtain ⟨d1, d2, n1, n2, n3⟩ := hnc
  cases hcC.symm.trans n1
  cases hfc.symm.trans n2
  obtain ⟨kc, hkc, -⟩ := Vm.findClass_spec hfc
  obtain ⟨kd, hkd, -⟩ := Vm.findClass_spec hcC
  obtain ⟨kc', hkc', -⟩ := X₁.warmed.alike.2.2 _ _ hkc
  obtain ⟨kd', hkd', -⟩ := X₁.warmed.alike.2.2 _ _ hkd
  obtain ⟨g₀, hfr⟩ := X₁.frames_eq
  refine ⟨(T.setVm vm₁).setFrames (.throwing x :: below), left_to (g := F0 m pc ls st0) (vm' := vm₁) (meth := meth) X.here X₁.method' hlocks rfl rfl (fun Q E d acts => ?_) (by rw [X.tail]; exact Steps.refl _), .threw x, X₁.here.running, State.frames_setFrames _ (State.cur_lt_of_frames hfr), hq _ hT (X₁.ends _).1, locs, ⟨(X₁.ends _).1, (X₁.ends _).2⟩, hf⟩
  rw [W.findHandler_eq (meth := meth) (code := c) (show ((T.setTop (F0 m pc ls st0)).pushFrame (.throwing x)).vm.method? (F0 m pc ls st0).method = some meth from X.method') X.code, hsplit]
  rw [go_nomatch (s := (T.setTop (F0 m pc ls st0)).pushFrame (.throwing x)) (f := F0 m pc ls st0) (c := c1) (cell := cell) (vm' := vm₁) hz h0 hg₁ hready₁ hsz (show T.heap[x]? = some cell by rw [hT]; exact hcell) hobj ⟨_, hkd'⟩ ⟨_, hkc'⟩ (by rw [hwarm₁.alike.assignable]; exact n3)]
  exact W.findHandler_go_nil
/-- the first row covers and does not catch, the second one catches -/
theorem WT.catch2 {C E0 E : String} {cell : Cell} {z0 z : ExceptionTableEntry} {zr : List ExceptionTableEntry} (hown : s.vm.findClass own = some m.cls) (hsplit : c.exceptionTable.toList = z0 :: z :: zr) (hz0 : covers z0 pc = true) (h00 : z0.catchType ≠ 0) (hz : covers z pc = true) (h0 : z.catchType ≠ 0)
    (hlink0 : (Cond.classLink own z0.catchType E0).before args s = true) (hlink : (Cond.classLink own z.catchType E).before args s = true) (hcell : H[x]? = some cell) (hobj : ∀ k, cell.vm ≠ .statics k) (hcC : s.vm.findClass C = some cell.cls) (hnc : va_Nc C E0 s) (hfit : ∀ c1, s.vm.findClass E = some c1 → s.vm.assignable cell.cls c1 = true)
    (k : W p l e R s m args below meth c H locs cells slots Q (F0 m z.handlerPc ls [.ref x])) : WT p l e R s m args below meth c H locs cells slots Q (F0 m pc ls st0) x := by
  intro T hT X
  have hpl : e.platform.magicAccessors = ({} : Platform).magicAccessors := by rw [X.admits.platform]
  obtain ⟨c0, hfc0, hcl0⟩ := Cond.classLink_spec hown hlink0 e.platform hpl
  obtain ⟨hg₀, hwarm₀, hready₀⟩ := State.classEntry (e := e) X.warmed hcl0
  have hsz0 : (T.vm.noted m.cls z0.catchType (.cls c0)).classes.size ≤ T.vm.classes.size := by no_record
  generalize T.vm.noted m.cls z0.catchType (.cls c0) = vm₀ at hg₀ hwarm₀ hready₀ hsz0
  have X₀ := X.noted hwarm₀
  obtain ⟨c1, hfc, hcl⟩ := Cond.classLink_spec hown hlink e.platform hpl
  obtain ⟨hg₁, hwarm₁, hready₁⟩ := State.classEntry (e := e) X₀.warmed hcl
  have hsz : ((T.setVm vm₀).vm.noted m.cls z.catchType (.cls c1)).classes.size ≤ (T.setVm vm₀).vm.classes.size := by no_record
  generalize (T.setVm vm₀).vm.noted m.cls z.catchType (.cls c1) = vm₁ at hg₁ hwarm₁ hready₁ hsz
  have X₁ := X₀.noted hwarm₁
  obtain ⟨t, a1, b1⟩ := k ((T.setVm vm₀).setVm vm₁) hT X₁
  obtain ⟨d1, d2, n1, n2, n3⟩ := hnc
  cases hcC.symm.trans n1
  cases hfc0.symm.trans n2
  obtain ⟨kc0, hkc0, -⟩ := Vm.findClass_spec hfc0
  obtain ⟨kc, hkc, -⟩ := Vm.findClass_spec hfc
  obtain ⟨kd, hkd, -⟩ := Vm.findClass_spec hcC
  obtain ⟨kc0', hkc0', -⟩ := X₀.warmed.alike.2.2 _ _ hkc0
  obtain ⟨kd0', hkd0', -⟩ := X₀.warmed.alike.2.2 _ _ hkd
  obtain ⟨kc', hkc', -⟩ := X₁.warmed.alike.2.2 _ _ hkc
  obtain ⟨kd', hkd', -⟩ := X₁.warmed.alike.2.2 _ _ hkd
  refine ⟨t, caught_to (g := F0 m pc ls st0) (pc := z.handlerPc) (vm' := vm₁) X.here (fun Q E d acts => ?_) a1, b1⟩
  rw [W.findHandler_eq (meth := meth) (code := c) (show ((T.setTop (F0 m pc ls st0)).pushFrame (.throwing x)).vm.method? (F0 m pc ls st0).method = some meth from X.method') X.code, hsplit]
  rw [go_nomatch (s := (T.setTop (F0 m pc ls st0)).pushFrame (.throwing x)) (f := F0 m pc ls st0) (c := c0) (cell := cell) (vm' := vm₀) hz0 h00 hg₀ hready₀ hsz0 (show T.heap[x]? = some cell by rw [hT]; exact hcell) hobj ⟨_, hkd0'⟩ ⟨_, hkc0'⟩ (by rw [hwarm₀.alike.assignable]; exact n3)]
  rw [go_cold (s := ((T.setTop (F0 m pc ls st0)).pushFrame (.throwing x)).setVm vm₀) (f := F0 m pc ls st0) (vm' := vm₁) hz h0 hg₁ hready₁ hsz, W.findHandler_go_class (s := (((T.setTop (F0 m pc ls st0)).pushFrame (.throwing x)).setVm vm₀).setVm vm₁) (f := F0 m pc ls st0) (cell := cell) hz h0 hready₁ (show T.heap[x]? = some cell by rw [hT]; exact hcell) hobj ⟨_, hkd'⟩ ⟨_, hkc'⟩, if_pos (by
    show vm₁.assignable cell.cls c1 = true
    rw [hwarm₁.alike.assignable]; exact hfit c1 hfc)]
  rfl
end WC2
