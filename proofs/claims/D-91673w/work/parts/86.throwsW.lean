/-! calls of methods with handlers, that may throw -/
set_option maxRecDepth 100000
theorem backTW {l : Launch} {R : Room} {p : Program} {e : Env} {below : List Frame} {s : State} {sargs : Array Value} {y : MethodName} {len W : Nat} {ws : List Cond} {rm : Room} {Pc : Array Value → State → Prop} {Qc : Array Value → State → Outcome → State → Prop} {mc ms : Nat} {free : Addr → Prop} {bytes : ByteArray} {maxL : Nat} {ret : Option FieldType} {hh : List (Nat × Nat × Nat × Nat)}
    (hM : MetT l y ws rm Pc Qc mc ms free) (hblind : FrameBlind Pc) (hrc : rm.cells = mc) (hrs : rm.slots = ms)
    (hframes : rm.frames + 1 ≤ R.frames) (hlocals : W + (maxL + 11) + rm.locals ≤ R.locals)
    (hws : ∀ w ∈ ws, ∀ a' U, s.WarmedH U.vm → w.before a' U = true) (hcode : Cond.codeWith y bytes maxL ret hh ∈ ws) (hinit : ∀ a' U, s.WarmedH U.vm → (Cond.initialized y.cls).before a' U = true)
    {m : MethodId} {meth : Method} {c : Code} {U : State} {Ls : List Loc} {c0 s0 : Nat} {g : JFrame} {ig : Instr} {mk : MethodId} {a : Array Value}
    (X : Stand p l e R s m sargs below meth c U Ls c0 s0) (hg : g.method = m) (hsize : g.locals.size = c.maxLocals) (hdg : decode c.code g.pc = .ok (ig, len))
    (hW : 2 * g.monitorRoom + (g.stack.map fun v => v.category).sum ≤ W) (hn : U.methodNamed? y = some mk) (h4 : c0 + mc ≤ R.cells) (h5 : s0 + ms ≤ R.slots) (hp : Pc a U) :
    ∃ (o : Outcome) (t B : State) (L : List Loc), Stand p l e R s m sargs below meth c B (Ls ++ L) (c0 + mc) (s0 + ms) ∧ (∀ q ∈ L, free q.base) ∧ B.heap = t.heap ∧ B.vm = t.vm ∧ Qc a (U.calling g mk a) o t ∧
      Steps p.tables e below (doInvoke e (U.setTop g) [] mk a).1 (cameT B g len o) := by
  have h1 : (headSpec ws rm).pre.before a U = true := atoms_intro fun w hw => hws w hw _ _ X.warmed
  have h2 : (Cond.codeWith y bytes maxL ret hh).before a U = true := hws _ hcode _ _ X.warmed
  have h3 : (Cond.initialized y.cls).before a U = true := hinit _ _ X.warmed
  obtain ⟨m9, methY, cY, hn9, hmY, hcY, -, hlY, -, -, -, -⟩ := Cond.codeWith_spec h2
  cases hn.symm.trans hn9
  obtain ⟨kY, hkY, -⟩ := className_of_methodNamed hn
  have hinitY : kY.init = .initialized := Cond.initialized_spec (findClass_of_methodNamed hn) hkY h3
  have h : At U g.method c below := by rw [hg]; exact X.here
  have happ : (headSpec ws rm).appliesLoose y e.platform (U.calling g mk a) = true :=
    Spec.appliesLoose_calling (g := g) h hdg hn hkY hinitY
      (X.room_calling (g := g) (R' := (headSpec ws rm).room) hsize hmY hcY hframes (by rw [hlY]; show _ + rm.locals ≤ _; omega) (by show c0 + rm.cells ≤ _; omega) (by show s0 + rm.slots ≤ _; omega)) h1
  obtain ⟨mid, hmid⟩ := h.above
  have hfr : (U.setTop g).frames = (.java g :: mid) ++ below := by rw [State.frames_setTop' g h.top, hmid]; rfl
  obtain ⟨o, s₂, hsteps, -, hend, hq'⟩ := Steps.callFree hM p X.admits X.cas X.clock (acts := []) hfr happ (hblind _ _ _ _ hp) trivial
  rw [State.frames_setTop' g h.top] at hend
  have hq2 : Qc a (U.calling g mk a) o s₂ ∧ ∃ L, FrameEndT (U.calling g mk a) s₂ L mc ms ∧ ∀ q ∈ L, free q.base := hq'
  obtain ⟨hq, L, hfe, hL⟩ := hq2
  obtain ⟨hW₂, e2, q2, q3, q4, q5, q6⟩ := id hfe
  have e3 : s₂ = ({ (U.calling g mk a).setFrames s₂.frames with heap := s₂.heap, slotsUsed := s₂.slotsUsed } : State).setVm s₂.vm := by
    have : s₂ = ({ s₂ with vm := (U.calling g mk a).vm } : State).setVm s₂.vm := rfl
    rw [e2] at this
    exact this
  have hW' : U.WarmedH s₂.vm := hW₂
  obtain ⟨g₀, hg0⟩ := Option.isSome_iff_exists.mp h.top
  obtain ⟨r, hr⟩ := State.topJava?_eq_some.mp hg0
  have hr' : (({ U with heap := s₂.heap, slotsUsed := s₂.slotsUsed } : State).setVm s₂.vm).frames = .java g₀ :: r := hr
  have hsame : U.sameButNew ({ U with heap := s₂.heap, slotsUsed := s₂.slotsUsed } : State) L mc ms := by
    refine ⟨?_, q2, q3, q4, q5, q6⟩
    obtain ⟨t, ht, -⟩ := State.frames_cons hr
    show ({ U with heap := s₂.heap, slotsUsed := s₂.slotsUsed } : State) = { U.setFrames U.frames with heap := s₂.heap, slotsUsed := s₂.slotsUsed }
    rw [State.setFrames_self ht]
  have hs₂ : s₂ = cameT (({ U with heap := s₂.heap, slotsUsed := s₂.slotsUsed } : State).setVm s₂.vm) g len o := by
    cases o with
    | returned v =>
      obtain ⟨c₂, i₂, len₂, hc₂, hd₂, hf₂⟩ := hend
      have hcc : c₂ = c := by
        have h1 : s₂.code? g.method = U.code? g.method := by
          rw [State.code?_eq, State.code?_eq, hW'.alike.method?]
        exact Option.some.inj (hc₂.symm.trans (h1.trans h.code))
      subst hcc
      have hlen : len₂ = len := by rw [hdg] at hd₂; cases hd₂; rfl
      subst hlen
      refine e3.trans ?_
      rw [hf₂, State.calling_eq h.top, State.setFrames_setFrames]
      show _ = State.setTop _ _
      rw [State.setTop_of_frames _ hr', hr]
      rfl
    | threw x =>
      have hf₂ : s₂.frames = .throwing x :: .java g :: U.frames.tail := hend
      refine e3.trans ?_
      rw [hf₂, State.calling_eq h.top, State.setFrames_setFrames]
      show _ = State.pushFrame (State.setTop _ _) _
      rw [State.pushFrame, State.frames_setTop _ hr', State.setTop_of_frames _ hr', State.setFrames_setFrames, hr]
      rfl
  subst hg
  refine ⟨o, s₂, (({ U with heap := s₂.heap, slotsUsed := s₂.slotsUsed } : State).setVm s₂.vm), L,
    ⟨X.admits, X.cas, X.clock, X.frames, X.room, X.hears, X.method, X.code, (X.here.setHeapUsed s₂.heap s₂.slotsUsed).setVm hW'.alike, X.tail, State.WarmedH.trans X.warmed hW', X.limits, X.bytes, X.same.trans (hsame.setVm s.vm)⟩, hL, rfl, rfl, hq, ?_⟩
  rw [← hs₂]
  exact hsteps
abbrev zCallW (R : Room) (s : State) (args : Array Value) (own C : String) (index : Nat) (y : MethodName) (bytes : ByteArray) (maxL : Nat) (ret : Option FieldType) (hh : List (Nat × Nat × Nat × Nat)) (ws : List Cond) (rm : Room) (mc ms n : Nat) : Prop :=
  (rm.cells = mc ∧ rm.slots = ms ∧ rm.frames + 1 ≤ R.frames ∧ 8 + (maxL + 11) + rm.locals ≤ R.locals ∧ (∀ w ∈ ws, ∀ (a' : Array Value) (U : State), s.WarmedH U.vm → w.before a' U = true) ∧ Cond.codeWith y bytes maxL ret hh ∈ ws ∧ (Cond.codeWith y bytes maxL ret hh).before args s = true ∧ (Cond.initialized y.cls).before args s = true ∧ (y.cls ≠ "java/lang/invoke/MethodHandle" ∧ y.cls ≠ "java/lang/invoke/VarHandle") ∧ (∀ sig, parseMethodDescriptor y.desc = some sig → n = sig.parameters.length) ∧ (Cond.methodLink own index y).before args s = true) ∧
  (Cond.instanceMethod y).before args s = true ∧ (Cond.selects C y y).before args s = true
theorem zcwVW {R : Room} {s : State} {args : Array Value} {own C : String} {index : Nat} {y : MethodName} {bytes : ByteArray} {maxL mc ms : Nat} {ret : Option FieldType} {hh : List (Nat × Nat × Nat × Nat)} {rm : Room} (n : Nat) (hts : ∀ w ∈ lw_all, w.before args s = true) (h1 : Cond.methodLink own index y ∈ lw_all) (h2 : Cond.instanceMethod y ∈ lw_all) (h3 : Cond.selects C y y ∈ lw_all) (h4 : Cond.initialized y.cls ∈ lw_all) (h5 : Cond.codeWith y bytes maxL ret hh ∈ lw_all) (hrc : rm.cells = mc) (hrs : rm.slots = ms)
    (hd : y.cls ≠ "java/lang/invoke/MethodHandle" ∧ y.cls ≠ "java/lang/invoke/VarHandle" ∧ (parseMethodDescriptor y.desc).map (fun d => d.parameters.length) = some n) (hR : rm.frames + 1 ≤ R.frames ∧ 8 + (maxL + 11) + rm.locals ≤ R.locals) : zCallW R s args own C index y bytes maxL ret hh (wsW_ y bytes maxL ret hh) rm mc ms n := by
  refine ⟨⟨hrc, hrs, hR.1, hR.2, pay_in hts (lw_methW h5), List.mem_cons_self, hts _ h5, hts _ h4, ⟨hd.1, hd.2.1⟩, fun sig h => ?_, hts _ h1⟩, hts _ h2, hts _ h3⟩
  have h2 := hd.2.2
  rw [h] at h2
  exact (Option.some.inj h2).symm
section TRW
variable {p : Program} {l : Launch} {e : Env} {R : Room} {s : State} {m : MethodId} {args : Array Value} {below : List Frame} {meth : Method} {c : Code} {H : Heap} {locs : List Loc} {cells slots : Nat} {Q : State → Prop}
variable {gp : Nat → Nat} {own : String} {cc : ByteArray} {pc nL : Nat} {ls : Array Slot} {rest st0 st1 : List Value} {D : va_G} {cl : List vw_C} {F : List FieldType} {K : Nat → ClassId} {Sh Sh' : g_Sh} {A : Nat → Prop} {V V' : g_V} {L L' : g_L} {nx nx' : Nat} {a x : Nat}
variable {y : MethodName} {bytes : ByteArray} {maxL n index mc ms : Nat} {ret : Option FieldType} {ws : List Cond} {rm : Room} {C : String} {As : List Value} {ci N : Nat} {rf : Nat → Option (Option Nat)} {T : u_T} {v : Option Value}
variable {hh : List (Nat × Nat × Nat × Nat)}
/-- a call of a method that may throw, through an object -/
theorem runVTW {Pc : Array Value → State → Prop} {Qc : Array Value → State → Outcome → State → Prop} {free : Addr → Prop} {b : Addr} (S : CallFix p m c cc nL s args lw_all own) (hM : MetT l y ws rm Pc Qc mc ms free) (cw : zCallW R s args own C index y bytes maxL ret hh ws rm mc ms n) (hp : PreV s H C b Pc As)
    (hn : As.length = n) (hsize : ls.size = nL) (hro : (rest.map fun v => v.category).sum ≤ 8) (hdg : decode cc pc = .ok (.invokevirtual index, 3)) (hf : cells + mc ≤ R.cells ∧ slots + ms ≤ R.slots) {T0 : State} (hT : T0.heap = H) (X : Stand p l e R s m args below meth c T0 locs cells slots) :
    ∃ (o : Outcome) (st t B : State) (Lc : List Loc), st.heap = H ∧ Stand p l e R s m args below meth c B (locs ++ Lc) (cells + mc) (slots + ms) ∧ (∀ q ∈ Lc, free q.base) ∧ B.heap = t.heap ∧ B.vm = t.vm ∧ Qc (Value.ref b :: As).toArray st o t ∧
      ∀ target, Steps p.tables e below (cameT B (F0 m pc ls rest) 3 o) target → Steps p.tables e below (T0.setTop (F0 m pc ls (As.reverse ++ .ref b :: rest))) target := by
  obtain ⟨⟨hrc, hrs, hfr, hlo, hws, hcw, hcode, hini, hy, hlen, hlink⟩, hinst, hsel⟩ := cw
  obtain ⟨hexec, hb, hml, hown, -⟩ := S
  obtain ⟨hbl, ⟨cellB, hcell, hobj, hcls⟩, hPc⟩ := hp
  obtain ⟨mk, methM, hnamed, hmethM, hstM, habM⟩ := Cond.instanceMethod_spec hinst
  obtain ⟨m9, methM', cM, hn9, hmethM', -, -, -, -, -, -, hsigM⟩ := Cond.codeWith_spec hcode
  cases hnamed.symm.trans hn9
  cases hmethM.symm.trans hmethM'
  obtain ⟨c2, r2, m2, q1, q2, q3, q4, kP, hkP, hkPi⟩ := Cond.selects_spec hsel
  cases hcls.symm.trans q1
  cases (State.methodFound?_of_named hnamed hy).symm.trans q2
  cases hnamed.symm.trans q3
  have hselP : selectMethod e.platform s.vm cellB.cls mk = .method mk := by rw [Launch.admits_selectMethod X.admits]; exact q4
  obtain ⟨vm₁, X₁, hstep₁⟩ := X.invokevirtual hexec hown hlink hnamed hmethM hstM hkP hkPi hy (a := b) (cell := cellB) (by rw [hT]; exact hcell)
    (fun z h => by rw [h] at hobj; cases hobj) hselP hmethM habM hkP hkPi (g := F0 m pc ls (As.reverse ++ .ref b :: rest)) rfl (argsL := As) (rest := rest) (hn.trans (hlen _ hsigM)) rfl (by rw [hb]; exact hdg)
  obtain ⟨o, t, B, Lc, X', hL, e1, e2, hq, hsteps⟩ := backTW (hh := hh) (R := R) (len := 3) (W := 8) (bytes := bytes) (maxL := maxL) (ret := ret) hM hbl hrc hrs hfr hlo hws hcw (fun a' U hW => word_at hW (Or.inl (by first | rfl | simp [Cond.onTables, Cond.keeps, Cond.steady])) hini)
    (g := F0 m pc ls rest) (ig := .invokevirtual index) (mk := mk) (a := (Value.ref b :: As).toArray) X₁ rfl (hsize.trans hml.symm) (by rw [hb]; exact hdg) (lv_room hro) (X₁.named hnamed) hf.1 hf.2 (hPc _ (by exact hT) X₁.warmed)
  exact ⟨o, _, t, B, Lc, by exact hT, X', hL, e1, e2, hq, fun target h => hstep₁ _ fun acts => by rw [doInvoke_state]; exact hsteps.trans h⟩
theorem d_callVTWr (S : CallFix p m c cc nL s args lw_all own) (hW : d_W gp D cl F K A s Sh V L nx H locs) (hM : MetT l y ws rm (d_Pc gp (.ref a :: As) D cl F K Sh V L nx) (d_Q (.returned v) D cl F K (d_A Sh nx) Sh' V' L' nx') mc ms (d_A Sh nx)) (cw : zCallW R s args own C index y bytes maxL ret hh ws rm mc ms n) (hs : Sh a = some (d_obj ci N rf)) (hc : cl[ci]? = some (C, T, N))
    (hn : As.length = n) (hsize : ls.size = nL) (hst : st0 = As.reverse ++ .ref a :: rest) (hro : (rest.map fun v => v.category).sum ≤ 8) (hdg : decode cc pc = .ok (.invokevirtual index, 3)) (hf : cells + mc ≤ R.cells ∧ slots + ms ≤ R.slots) (hst1 : v.toList ++ rest = st1)
    (kk : ∀ (H1 : Heap) (locs1 : List Loc), d_W gp D cl F K A s Sh' V' L' nx' H1 locs1 → W p l e R s m args below meth c H1 locs1 (cells + mc) (slots + ms) Q (F0 m (pc + 3) ls st1)) : W p l e R s m args below meth c H locs cells slots Q (F0 m pc ls st0) := by
  subst hst; subst hst1
  intro T0 hT X
  obtain ⟨o, st, t, B, Lc, h0, X', hL, e1, e2, hq, hgo⟩ := runVTW S hM cw ⟨d_blind, d_recv hW hs hc, fun U hU hw => ⟨rfl, d_pre hW hU hw⟩⟩ hn hsize hro hdg hf hT X
  obtain ⟨rfl, hW1⟩ := d_after hW h0 hL e1 hq
  obtain ⟨t2, a1, b1⟩ := kk _ _ hW1 B rfl X'
  exact ⟨t2, hgo t2 a1, b1⟩
theorem d_callVTWt (S : CallFix p m c cc nL s args lw_all own) (hW : d_W gp D cl F K A s Sh V L nx H locs) (hM : MetT l y ws rm (d_Pc gp (.ref a :: As) D cl F K Sh V L nx) (d_Q (.threw x) D cl F K (d_A Sh nx) Sh' V' L' nx') mc ms (d_A Sh nx)) (cw : zCallW R s args own C index y bytes maxL ret hh ws rm mc ms n) (hs : Sh a = some (d_obj ci N rf)) (hc : cl[ci]? = some (C, T, N))
    (hn : As.length = n) (hsize : ls.size = nL) (hst : st0 = As.reverse ++ .ref a :: rest) (hro : (rest.map fun v => v.category).sum ≤ 8) (hdg : decode cc pc = .ok (.invokevirtual index, 3)) (hf : cells + mc ≤ R.cells ∧ slots + ms ≤ R.slots)
    (kk : ∀ (H1 : Heap) (locs1 : List Loc), d_W gp D cl F K A s Sh' V' L' nx' H1 locs1 → WT p l e R s m args below meth c H1 locs1 (cells + mc) (slots + ms) Q (F0 m pc ls rest) x) : W p l e R s m args below meth c H locs cells slots Q (F0 m pc ls st0) := by
  subst hst
  intro T0 hT X
  obtain ⟨o, st, t, B, Lc, h0, X', hL, e1, e2, hq, hgo⟩ := runVTW S hM cw ⟨d_blind, d_recv hW hs hc, fun U hU hw => ⟨rfl, d_pre hW hU hw⟩⟩ hn hsize hro hdg hf hT X
  obtain ⟨rfl, hW1⟩ := d_after hW h0 hL e1 hq
  obtain ⟨t2, a1, b1⟩ := kk _ _ hW1 B rfl X'
  exact ⟨t2, hgo t2 a1, b1⟩

end TRW
theorem ztab {L : List ExceptionTableEntry} {a : Nat × Nat × Nat × Nat} {as : List (Nat × Nat × Nat × Nat)} (h : L.map (fun h => (h.startPc, h.endPc, h.handlerPc, h.catchType)) = a :: as) : ∃ z r, L = z :: r ∧ (z.startPc, z.endPc, z.handlerPc, z.catchType) = a := by
  cases L with
  | nil => cases h
  | cons z r =>
    injection h with h1 h2
    exact ⟨z, r, rfl, h1⟩
section ZCT
variable {p : Program} {l : Launch} {e : Env} {R : Room} {s : State} {m : MethodId} {args : Array Value} {below : List Frame} {meth : Method} {c : Code} {H : Heap} {locs : List Loc} {cells slots : Nat} {Q : State → Prop}
variable {gp : Nat → Nat} {own : String} {cc : ByteArray} {pc nL : Nat} {ls : Array Slot} {st0 : List Value} {D : va_G} {K : Nat → ClassId} {A : Nat → Prop} {Z : c_S} {x : Nat}
/-- the table's first row catches an object of exactly its class -/
theorem zcatch {C : String} {T : u_T} {N ci a b hp ct : Nat} {ty : Nat → FieldType} {rf : Nat → Option (Option Nat)} {z : ExceptionTableEntry} {zr : List ExceptionTableEntry} (hsplit : c.exceptionTable.toList = z :: zr) (hf : (z.startPc, z.endPc, z.handlerPc, z.catchType) = (a, b, hp, ct)) (hcov : a ≤ pc ∧ pc < b) (hct : ct ≠ 0)
    (S : CallFix p m c cc nL s args lw_all own) (hW : z_W gp D K A s Z H locs) (hlink : Cond.classLink own ct C ∈ lw_all) (hC : zC ci C T N ty) (hs : Z.Sh x = some (d_obj ci N rf))
    (k : W p l e R s m args below meth c H locs cells slots Q (F0 m hp ls [.ref x])) : WT p l e R s m args below meth c H locs cells slots Q (F0 m pc ls st0) x := by
  injection hf with f1 hf
  injection hf with f2 hf
  injection hf with f3 f4
  subst f1; subst f2; subst f3; subst f4
  obtain ⟨cell, g1, g2, g3⟩ := d_recv hW hs hC.1
  refine WT.catch (C := C) (E := C) S.2.2.2.1 [] z zr hsplit (fun y hy => absurd hy List.not_mem_nil) (by simp [covers, hcov.1, hcov.2]) hct (S.2.2.2.2 _ hlink) g1 (fun q h => by rw [h] at g2; cases g2) g3 (fun c1 h1 => ?_) k
  cases g3.symm.trans h1
  exact vz_refl _ _
end ZCT
