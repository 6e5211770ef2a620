/-! NAMED WORLDS: contracts, entries, returns, calls -/
set_option maxRecDepth 100000
def g_R (nx : Nat) (D : va_G) (cl : List vw_C) (F : List FieldType) (K : Nat → ClassId) (al : Nat → Nat) (Sh : g_Sh) (V : Nat → Nat → Int32) (L : Nat → Nat → Int64) (U : State) : Prop := va_K D cl (g_T F K) U ∧ g_P D cl K al Sh V L U.heap ∧ U.heap.size = nx
def g_B (gp : Nat → Nat) (nx : Nat) (D : va_G) (cl : List vw_C) (F : List FieldType) (K : Nat → ClassId) (al : Nat → Nat) (Sh : g_Sh) (V : Nat → Nat → Int32) (L : Nat → Nat → Int64) (U : State) : Prop := g_R nx D cl F K al Sh V L U ∧ g_X gp (g_A al Sh) U
def g_Pc (gp : Nat → Nat) (nx : Nat) (av : List Value) (D : va_G) (cl : List vw_C) (F : List FieldType) (K : Nat → ClassId) (al : Nat → Nat) (Sh : g_Sh) (V : Nat → Nat → Int32) (L : Nat → Nat → Int64) : Array Value → State → Prop := va_Pc av (g_B gp nx D cl F K al Sh V L)
def g_Qi (r : Int32) (nx : Nat) (D : va_G) (cl : List vw_C) (F : List FieldType) (K : Nat → ClassId) (al : Nat → Nat) (Sh : g_Sh) (V : Nat → Nat → Int32) (L : Nat → Nat → Int64) : Array Value → State → Outcome → State → Prop := va_Qi (fun x (_ : Unit) => x = r) (fun _ t => g_R nx D cl F K al Sh V L t) (g_A al Sh)
def g_Ql (r : Int64) (nx : Nat) (D : va_G) (cl : List vw_C) (F : List FieldType) (K : Nat → ClassId) (al : Nat → Nat) (Sh : g_Sh) (V : Nat → Nat → Int32) (L : Nat → Nat → Int64) : Array Value → State → Outcome → State → Prop := va_Ql (fun x (_ : Unit) => x = r) (fun _ t => g_R nx D cl F K al Sh V L t) (g_A al Sh)
def g_Qv (nx : Nat) (D : va_G) (cl : List vw_C) (F : List FieldType) (K : Nat → ClassId) (al : Nat → Nat) (Sh : g_Sh) (V : Nat → Nat → Int32) (L : Nat → Nat → Int64) : Array Value → State → Outcome → State → Prop := va_Qv (fun (_ : Unit) => True) (fun _ t => g_R nx D cl F K al Sh V L t) (g_A al Sh)
theorem g_R.moved {nx : Nat} {D : va_G} {cl : List vw_C} {F : List FieldType} {K : Nat → ClassId} {al : Nat → Nat} {Sh : g_Sh} {V : Nat → Nat → Int32} {L : Nat → Nat → Int64} {u U : State} (hh : U.heap = u.heap) (hvm : u.vm.Alike U.vm) (h : g_R nx D cl F K al Sh V L u) : g_R nx D cl F K al Sh V L U := ⟨va_K.moved hvm h.1, by rw [hh]; exact h.2⟩
theorem g_blind {gp : Nat → Nat} {nx : Nat} {av : List Value} {D : va_G} {cl : List vw_C} {F : List FieldType} {K : Nat → ClassId} {al : Nat → Nat} {Sh : g_Sh} {V : Nat → Nat → Int32} {L : Nat → Nat → Int64} : FrameBlind (g_Pc gp nx av D cl F K al Sh V L) := by
  intro a U g mk q
  exact ⟨q.1, g_R.moved (u := U) (U := U.calling g mk a) rfl (Vm.Alike.refl U.vm) q.2.1, q.2.2.blind rfl rfl⟩
/-- a contract by a walk of its body, in a named world that keeps its shape -/
theorem g_met {gp : Nat → Nat} {nx : Nat} {l : Launch} {y : MethodName} {code : ByteArray} {nL : Nat} {ret : Option FieldType} {rm : Room} {av : List Value} {D : va_G} {cl : List vw_C} {F : List FieldType} {K : Nat → ClassId} {al : Nat → Nat} {Sh : g_Sh} {V : Nat → Nat → Int32} {L : Nat → Nat → Int64} {Qc : Array Value → State → Outcome → State → Prop} {mc ms : Nat} {free : Addr → Prop}
    (hy : plainName y.cls = true) (hav : (lg_sl av).length ≤ nL)
    (body : ∀ (p : Program) (e : Env) (s : State) (m : MethodId) (below : List Frame) (meth : Method) (c : Code) (ls : Array Slot), CallFix p m c code nL s av.toArray lw_all y.cls → meth.sig.returnType = ret → meth.locks = false → meth.name = y.name → lv_has ls nL (lv_args 0 av) → g_W gp nx D cl F K al Sh (g_A al Sh) s s.heap V L s.heap [] →
      W p l e rm s m av.toArray below meth c s.heap [] 0 0 (MQ below Qc av.toArray s mc ms free) (F0 m 0 ls [])) :
    Met l y (ws_ y code nL ret) rm (g_Pc gp nx av D cl F K al Sh V L) Qc mc ms free := by
  refine Met.ofW (cc := code) (maxL := nL) (ret := ret) hy rfl ?_
  intro p e s m args below meth c s₁ B hml hv
  obtain ⟨rfl, ⟨hK, hP, hz⟩, hX⟩ := hv
  have hts := atoms_spec (ws := ws_ y code nL ret) B.pre
  have hts : ∀ w ∈ lw_all, w.before _ s = true := fun w h => hts w (List.mem_cons_of_mem _ h)
  have hl := lv_entry av (n := nL) hav
  rw [lg_entry_eq]
  generalize (lg_sl av ++ List.replicate (nL - (lg_sl av).length) Slot.unset).toArray = ls at hl ⊢
  exact body p e s m below meth c ls ⟨B.exec, B.bytes, hml, findClass_of_methodNamed B.named, hts⟩ B.returns B.notSynchronized (name_of_methodNamed B.named B.method).1 hl ⟨hK, hP, fun k d h => ⟨k, d, h, rfl⟩, va_S.rf, hX, rfl, hz⟩
section GC
variable {p : Program} {l : Launch} {e : Env} {R : Room} {s : State} {m : MethodId} {args : Array Value} {below : List Frame} {meth : Method} {c : Code} {H : Heap} {locs : List Loc} {cells slots : Nat} {Q : State → Prop}
variable {gp : Nat → Nat} {nx : Nat} {own : String} {cc : ByteArray} {pc nL : Nat} {ls : Array Slot} {rest st0 : List Value} {D : va_G} {cl : List vw_C} {F : List FieldType} {K : Nat → ClassId} {al : Nat → Nat} {Sh : g_Sh} {A : Nat → Prop} {H0 : Heap} {V V' : Nat → Nat → Int32} {L L' : Nat → Nat → Int64}
theorem g_W.Rr {t : State} (hW : g_W gp nx D cl F K al Sh A s H0 V L H locs) (ht : t.heap = H) (hw : s.WarmedH t.vm) : g_R nx D cl F K al Sh V L t := ⟨va_K.moved hw.alike hW.1, by rw [ht]; exact hW.2.1, by rw [ht]; exact hW.2.2.2.2.2.2⟩
theorem g_W.B {t : State} (hW : g_W gp nx D cl F K al Sh A s H0 V L H locs) (ht : t.heap = H) (hw : s.WarmedH t.vm) : g_B gp nx D cl F K al Sh V L t := by
  refine ⟨hW.Rr ht hw, ?_⟩
  obtain ⟨-, -, hA, hS, hX, rfl, -⟩ := hW
  exact (hX.move (fun q h1 h2 => by rw [ht]; exact hS.2.1 q h1 h2) hw).narrow (g_A_of hA)
theorem g_iret {r : Int32} (S : CallFix p m c cc nL s args lw_all own) (hr : meth.sig.returnType = some .int) (hlocks : meth.locks = false) (hW : g_W gp nx D cl F K al Sh (g_A al Sh) s s.heap V L H locs) (hdg : decode cc pc = .ok (.ireturn, 1)) :
    W p l e R s m args below meth c H locs cells slots (MQ below (g_Qi r nx D cl F K al Sh V L) args s cells slots (g_A al Sh)) (F0 m pc ls [.int r]) :=
  W.iret S.1 S.2.1 hr (fun t ht hw => ⟨⟨r, (), rfl, rfl, hW.Rr ht hw⟩, hW.2.2.2.1.F ht⟩) hW.2.2.2.1.2.2 hdg hlocks
theorem g_zret {r : Int32} (S : CallFix p m c cc nL s args lw_all own) (hr : meth.sig.returnType = some .boolean) (hlocks : meth.locks = false) (hn : narrow .boolean (.int r) = .int r) (hW : g_W gp nx D cl F K al Sh (g_A al Sh) s s.heap V L H locs) (hdg : decode cc pc = .ok (.ireturn, 1)) :
    W p l e R s m args below meth c H locs cells slots (MQ below (g_Qi r nx D cl F K al Sh V L) args s cells slots (g_A al Sh)) (F0 m pc ls [.int r]) :=
  W.zret S.1 S.2.1 hr hn (fun t ht hw => ⟨⟨r, (), rfl, rfl, hW.Rr ht hw⟩, hW.2.2.2.1.F ht⟩) hW.2.2.2.1.2.2 hdg hlocks
theorem g_lret {r : Int64} (S : CallFix p m c cc nL s args lw_all own) (hr : meth.sig.returnType = some .long) (hlocks : meth.locks = false) (hW : g_W gp nx D cl F K al Sh (g_A al Sh) s s.heap V L H locs) (hdg : decode cc pc = .ok (.lreturn, 1)) :
    W p l e R s m args below meth c H locs cells slots (MQ below (g_Ql r nx D cl F K al Sh V L) args s cells slots (g_A al Sh)) (F0 m pc ls [.long r]) :=
  W.lret S.1 S.2.1 hr (fun t ht hw => ⟨⟨r, (), rfl, rfl, hW.Rr ht hw⟩, hW.2.2.2.1.F ht⟩) hW.2.2.2.1.2.2 hdg hlocks
theorem g_vret (S : CallFix p m c cc nL s args lw_all own) (hr : meth.sig.returnType = none) (hlocks : meth.locks = false) (hW : g_W gp nx D cl F K al Sh (g_A al Sh) s s.heap V L H locs) (hdg : decode cc pc = .ok (.return_, 1)) :
    W p l e R s m args below meth c H locs cells slots (MQ below (g_Qv nx D cl F K al Sh V L) args s cells slots (g_A al Sh)) (F0 m pc ls []) :=
  W.vret S.1 S.2.1 hr (fun t ht hw => ⟨⟨(), rfl, trivial, hW.Rr ht hw⟩, hW.2.2.2.1.F ht⟩) hW.2.2.2.1.2.2 hdg hlocks
variable {y : MethodName} {bytes : ByteArray} {maxL n index : Nat} {ret : Option FieldType} {ws : List Cond} {rm : Room} {C : String} {As : List Value} {k ci nf : Nat} {rf : Nat → Option (Option Nat)} {T : u_T} {N : Nat}
theorem g_recv (hW : g_W gp nx D cl F K al Sh A s H0 V L H locs) (hs : Sh k = some (.inr (.inr (.inr (ci, nf, rf))))) (hc : cl[ci]? = some (C, T, N)) : ∃ cell : Cell, H[al k]? = some cell ∧ cell.vm.isStatics = false ∧ s.vm.findClass C = some cell.cls :=
  va_recv hW.1 (g_one hW hs) hc (q0 := 0) rfl
/-- behind a call in the same world -/
theorem g_back {t : State} {H1 : Heap} {locs1 : List Loc} (hW : g_W gp nx D cl F K al Sh A s H0 V L H locs) (ht : t.heap = H1) (hvm : s.vm.Alike t.vm) (hB : g_R nx D cl F K al Sh V' L' t) (hS : va_S A H0 H1 locs1) : g_W gp nx D cl F K al Sh A s H0 V' L' H1 locs1 := ⟨hW.1, by rw [← ht]; exact hB.2.1, hW.2.2.1, hS, hW.2.2.2.2.1, hW.2.2.2.2.2.1, by rw [← ht]; exact hB.2.2⟩
theorem g_callVi {r : Int32} (S : CallFix p m c cc nL s args lw_all own) (hW : g_W gp nx D cl F K al Sh A s H0 V L H locs) (hM : Met l y ws rm (g_Pc gp nx (.ref (al k) :: As) D cl F K al Sh V L) (g_Qi r nx D cl F K al Sh V' L') 0 0 (g_A al Sh)) (cw : CallW R s args own C index y bytes maxL ret ws rm 0 0 n) (hs : Sh k = some (.inr (.inr (.inr (ci, nf, rf))))) (hc : cl[ci]? = some (C, T, N))
    (hn : As.length = n) (hsize : ls.size = nL) (hst : st0 = As.reverse ++ .ref (al k) :: rest) (hro : (rest.map fun v => v.category).sum ≤ 8) (hdg : decode cc pc = .ok (.invokevirtual index, 3)) (hf : cells ≤ R.cells ∧ slots ≤ R.slots)
    (kk : ∀ (H1 : Heap) (locs1 : List Loc), g_W gp nx D cl F K al Sh A s H0 V' L' H1 locs1 → W p l e R s m args below meth c H1 locs1 cells slots Q (F0 m (pc + 3) ls (.int r :: rest))) : W p l e R s m args below meth c H locs cells slots Q (F0 m pc ls st0) := by
  subst hst
  refine va_calli (va_runV S hM cw ⟨g_blind, g_recv hW hs hc, fun U hU hw => ⟨rfl, hW.B hU hw⟩⟩ rfl hn hsize rfl (lv_room hro) hdg hf) hW.2.2.2.1 (fun q _ h => g_A_of hW.2.2.1 q h) (g_A_of hW.2.2.1) (fun r' u t H1 locs1 ht hvm hp hB hz hk hS => ?_)
  subst hp
  exact kk H1 locs1 (g_back hW ht hvm hB hS)
theorem g_callVl {r : Int64} (S : CallFix p m c cc nL s args lw_all own) (hW : g_W gp nx D cl F K al Sh A s H0 V L H locs) (hM : Met l y ws rm (g_Pc gp nx (.ref (al k) :: As) D cl F K al Sh V L) (g_Ql r nx D cl F K al Sh V' L') 0 0 (g_A al Sh)) (cw : CallW R s args own C index y bytes maxL ret ws rm 0 0 n) (hs : Sh k = some (.inr (.inr (.inr (ci, nf, rf))))) (hc : cl[ci]? = some (C, T, N))
    (hn : As.length = n) (hsize : ls.size = nL) (hst : st0 = As.reverse ++ .ref (al k) :: rest) (hro : (rest.map fun v => v.category).sum ≤ 8) (hdg : decode cc pc = .ok (.invokevirtual index, 3)) (hf : cells ≤ R.cells ∧ slots ≤ R.slots)
    (kk : ∀ (H1 : Heap) (locs1 : List Loc), g_W gp nx D cl F K al Sh A s H0 V' L' H1 locs1 → W p l e R s m args below meth c H1 locs1 cells slots Q (F0 m (pc + 3) ls (.long r :: rest))) : W p l e R s m args below meth c H locs cells slots Q (F0 m pc ls st0) := by
  subst hst
  refine va_calll (va_runV S hM cw ⟨g_blind, g_recv hW hs hc, fun U hU hw => ⟨rfl, hW.B hU hw⟩⟩ rfl hn hsize rfl (lv_room hro) hdg hf) hW.2.2.2.1 (fun q _ h => g_A_of hW.2.2.1 q h) (g_A_of hW.2.2.1) (fun r' u t H1 locs1 ht hvm hp hB hz hk hS => ?_)
  subst hp
  exact kk H1 locs1 (g_back hW ht hvm hB hS)
theorem g_callVv (S : CallFix p m c cc nL s args lw_all own) (hW : g_W gp nx D cl F K al Sh A s H0 V L H locs) (hM : Met l y ws rm (g_Pc gp nx (.ref (al k) :: As) D cl F K al Sh V L) (g_Qv nx D cl F K al Sh V' L') 0 0 (g_A al Sh)) (cw : CallW R s args own C index y bytes maxL ret ws rm 0 0 n) (hs : Sh k = some (.inr (.inr (.inr (ci, nf, rf))))) (hc : cl[ci]? = some (C, T, N))
    (hn : As.length = n) (hsize : ls.size = nL) (hst : st0 = As.reverse ++ .ref (al k) :: rest) (hro : (rest.map fun v => v.category).sum ≤ 8) (hdg : decode cc pc = .ok (.invokevirtual index, 3)) (hf : cells ≤ R.cells ∧ slots ≤ R.slots)
    (kk : ∀ (H1 : Heap) (locs1 : List Loc), g_W gp nx D cl F K al Sh A s H0 V' L' H1 locs1 → W p l e R s m args below meth c H1 locs1 cells slots Q (F0 m (pc + 3) ls rest)) : W p l e R s m args below meth c H locs cells slots Q (F0 m pc ls st0) := by
  subst hst
  refine va_callv (va_runV S hM cw ⟨g_blind, g_recv hW hs hc, fun U hU hw => ⟨rfl, hW.B hU hw⟩⟩ rfl hn hsize rfl (lv_room hro) hdg hf) hW.2.2.2.1 (fun q _ h => g_A_of hW.2.2.1 q h) (g_A_of hW.2.2.1) (fun u t H1 locs1 ht hvm hp hB hz hk hS => ?_)
  exact kk H1 locs1 (g_back hW ht hvm hB hS)
theorem g_callSi {r : Int32} (S : CallFix p m c cc nL s args lw_all own) (hW : g_W gp nx D cl F K al Sh A s H0 V L H locs) (hM : Met l y ws rm (g_Pc gp nx As D cl F K al Sh V L) (g_Qi r nx D cl F K al Sh V' L') 0 0 (g_A al Sh)) (cw : CallB R s args own index y bytes maxL ret ws rm 0 0 n ∧ (Cond.static y).before args s = true)
    (hn : As.length = n) (hsize : ls.size = nL) (hst : st0 = As.reverse ++ rest) (hro : (rest.map fun v => v.category).sum ≤ 8) (hdg : decode cc pc = .ok (.invokestatic index, 3)) (hf : cells ≤ R.cells ∧ slots ≤ R.slots)
    (kk : ∀ (H1 : Heap) (locs1 : List Loc), g_W gp nx D cl F K al Sh A s H0 V' L' H1 locs1 → W p l e R s m args below meth c H1 locs1 cells slots Q (F0 m (pc + 3) ls (.int r :: rest))) : W p l e R s m args below meth c H locs cells slots Q (F0 m pc ls st0) := by
  subst hst
  refine va_calli (va_runS S hM cw ⟨g_blind, fun U hU hw => ⟨rfl, hW.B hU hw⟩⟩ rfl hn hsize rfl (lv_room hro) hdg hf) hW.2.2.2.1 (fun q _ h => g_A_of hW.2.2.1 q h) (g_A_of hW.2.2.1) (fun r' u t H1 locs1 ht hvm hp hB hz hk hS => ?_)
  subst hp
  exact kk H1 locs1 (g_back hW ht hvm hB hS)
theorem g_callSl {r : Int64} (S : CallFix p m c cc nL s args lw_all own) (hW : g_W gp nx D cl F K al Sh A s H0 V L H locs) (hM : Met l y ws rm (g_Pc gp nx As D cl F K al Sh V L) (g_Ql r nx D cl F K al Sh V' L') 0 0 (g_A al Sh)) (cw : CallB R s args own index y bytes maxL ret ws rm 0 0 n ∧ (Cond.static y).before args s = true)
    (hn : As.length = n) (hsize : ls.size = nL) (hst : st0 = As.reverse ++ rest) (hro : (rest.map fun v => v.category).sum ≤ 8) (hdg : decode cc pc = .ok (.invokestatic index, 3)) (hf : cells ≤ R.cells ∧ slots ≤ R.slots)
    (kk : ∀ (H1 : Heap) (locs1 : List Loc), g_W gp nx D cl F K al Sh A s H0 V' L' H1 locs1 → W p l e R s m args below meth c H1 locs1 cells slots Q (F0 m (pc + 3) ls (.long r :: rest))) : W p l e R s m args below meth c H locs cells slots Q (F0 m pc ls st0) := by
  subst hst
  refine va_calll (va_runS S hM cw ⟨g_blind, fun U hU hw => ⟨rfl, hW.B hU hw⟩⟩ rfl hn hsize rfl (lv_room hro) hdg hf) hW.2.2.2.1 (fun q _ h => g_A_of hW.2.2.1 q h) (g_A_of hW.2.2.1) (fun r' u t H1 locs1 ht hvm hp hB hz hk hS => ?_)
  subst hp
  exact kk H1 locs1 (g_back hW ht hvm hB hS)
theorem g_callSv (S : CallFix p m c cc nL s args lw_all own) (hW : g_W gp nx D cl F K al Sh A s H0 V L H locs) (hM : Met l y ws rm (g_Pc gp nx As D cl F K al Sh V L) (g_Qv nx D cl F K al Sh V' L') 0 0 (g_A al Sh)) (cw : CallB R s args own index y bytes maxL ret ws rm 0 0 n ∧ (Cond.static y).before args s = true)
    (hn : As.length = n) (hsize : ls.size = nL) (hst : st0 = As.reverse ++ rest) (hro : (rest.map fun v => v.category).sum ≤ 8) (hdg : decode cc pc = .ok (.invokestatic index, 3)) (hf : cells ≤ R.cells ∧ slots ≤ R.slots)
    (kk : ∀ (H1 : Heap) (locs1 : List Loc), g_W gp nx D cl F K al Sh A s H0 V' L' H1 locs1 → W p l e R s m args below meth c H1 locs1 cells slots Q (F0 m (pc + 3) ls rest)) : W p l e R s m args below meth c H locs cells slots Q (F0 m pc ls st0) := by
  subst hst
  refine va_callv (va_runS S hM cw ⟨g_blind, fun U hU hw => ⟨rfl, hW.B hU hw⟩⟩ rfl hn hsize rfl (lv_room hro) hdg hf) hW.2.2.2.1 (fun q _ h => g_A_of hW.2.2.1 q h) (g_A_of hW.2.2.1) (fun u t H1 locs1 ht hvm hp hB hz hk hS => ?_)
  exact kk H1 locs1 (g_back hW ht hvm hB hS)
end GC
/-! the words of what is computed: each gives none where the machine would throw -/
section SP
variable {ρ : Type}
def rdI (f : Nat → Int32) (n : Nat) (i : Int32) (k : Int32 → Option ρ) : Option ρ := if i < 0 ∨ n ≤ i.toNatClampNeg then none else k (f i.toNatClampNeg)
def rdL (f : Nat → Int64) (n : Nat) (i : Int32) (k : Int64 → Option ρ) : Option ρ := if i < 0 ∨ n ≤ i.toNatClampNeg then none else k (f i.toNatClampNeg)
def wrI (V : Nat → Nat → Int32) (a n : Nat) (i x : Int32) (k : (Nat → Nat → Int32) → Option ρ) : Option ρ := if i < 0 ∨ n ≤ i.toNatClampNeg then none else k (upd2 V a i.toNatClampNeg x)
def wrL (L : Nat → Nat → Int64) (a n : Nat) (i : Int32) (x : Int64) (k : (Nat → Nat → Int64) → Option ρ) : Option ρ := if i < 0 ∨ n ≤ i.toNatClampNeg then none else k (updL2 L a i.toNatClampNeg x)
/-- a number in the range of its type -/
def okI (b : Bool) (k : Option ρ) : Option ρ := if b = true then k else none
def nmI (x : Int32) (k : Int32 → Option ρ) : Option ρ := k x
def nmL (x : Int64) (k : Int64 → Option ρ) : Option ρ := k x
def ptI (V : Nat → Nat → Int32) (a i : Nat) (x : Int32) (k : (Nat → Nat → Int32) → Option ρ) : Option ρ := k (upd2 V a i x)
def bnd {σ : Type} (o : Option σ) (k : σ → Option ρ) : Option ρ := match o with
  | none => none
  | some x => k x
variable {r : ρ}
theorem rdI_some {f : Nat → Int32} {n : Nat} {i : Int32} {k : Int32 → Option ρ} (h : rdI f n i k = some r) : vp_in i n ∧ ∃ x, x = f i.toNatClampNeg ∧ k x = some r := by
  unfold rdI at h
  split at h
  · cases h
  · rename_i hq
    exact ⟨hq, _, rfl, h⟩
theorem rdL_some {f : Nat → Int64} {n : Nat} {i : Int32} {k : Int64 → Option ρ} (h : rdL f n i k = some r) : vp_in i n ∧ ∃ x, x = f i.toNatClampNeg ∧ k x = some r := by
  unfold rdL at h
  split at h
  · cases h
  · rename_i hq
    exact ⟨hq, _, rfl, h⟩
theorem wrI_some {V : Nat → Nat → Int32} {a n : Nat} {i x : Int32} {k : (Nat → Nat → Int32) → Option ρ} (h : wrI V a n i x k = some r) : vp_in i n ∧ ∃ V', V' = upd2 V a i.toNatClampNeg x ∧ k V' = some r := by
  unfold wrI at h
  split at h
  · cases h
  · rename_i hq
    exact ⟨hq, _, rfl, h⟩
theorem wrL_some {L : Nat → Nat → Int64} {a n : Nat} {i : Int32} {x : Int64} {k : (Nat → Nat → Int64) → Option ρ} (h : wrL L a n i x k = some r) : vp_in i n ∧ ∃ L', L' = updL2 L a i.toNatClampNeg x ∧ k L' = some r := by
  unfold wrL at h
  split at h
  · cases h
  · rename_i hq
    exact ⟨hq, _, rfl, h⟩
theorem okI_some {b : Bool} {k : Option ρ} (h : okI b k = some r) : b = true ∧ k = some r := by
  unfold okI at h
  split at h
  · rename_i hq
    exact ⟨hq, h⟩
  · cases h
theorem nmI_some {x : Int32} {k : Int32 → Option ρ} (h : nmI x k = some r) : ∃ y, y = x ∧ k y = some r := ⟨x, rfl, h⟩
theorem nmL_some {x : Int64} {k : Int64 → Option ρ} (h : nmL x k = some r) : ∃ y, y = x ∧ k y = some r := ⟨x, rfl, h⟩
theorem ptI_some {V : Nat → Nat → Int32} {a i : Nat} {x : Int32} {k : (Nat → Nat → Int32) → Option ρ} (h : ptI V a i x k = some r) : ∃ V', V' = upd2 V a i x ∧ k V' = some r := ⟨_, rfl, h⟩
theorem bnd_some {σ : Type} {o : Option σ} {k : σ → Option ρ} (h : bnd o k = some r) : ∃ x, o = some x ∧ k x = some r := by
  unfold bnd at h
  split at h
  · cases h
  · exact ⟨_, rfl, h⟩
theorem if_t {P : Prop} [Decidable P] {a b : Option ρ} (h : (if P then a else b) = some r) (hp : P) : a = some r := by rwa [if_pos hp] at h
theorem if_f {P : Prop} [Decidable P] {a b : Option ρ} (h : (if P then a else b) = some r) (hp : ¬ P) : b = some r := by rwa [if_neg hp] at h
end SP
/-! more words of what is computed; loops -/
abbrev g_V : Type := Nat → Nat → Int32
abbrev g_L : Type := Nat → Nat → Int64
section SP2
variable {ρ a1 a2 a3 a4 a5 a6 a7 a8 : Type}
def un2 (k : a1 → a2 → Option ρ) (q : a1 × a2) : Option ρ := k q.1 q.2
def un3 (k : a1 → a2 → a3 → Option ρ) (q : a1 × a2 × a3) : Option ρ := k q.1 q.2.1 q.2.2
def un4 (k : a1 → a2 → a3 → a4 → Option ρ) (q : a1 × a2 × a3 × a4) : Option ρ := k q.1 q.2.1 q.2.2.1 q.2.2.2
def un5 (k : a1 → a2 → a3 → a4 → a5 → Option ρ) (q : a1 × a2 × a3 × a4 × a5) : Option ρ := k q.1 q.2.1 q.2.2.1 q.2.2.2.1 q.2.2.2.2
def un6 (k : a1 → a2 → a3 → a4 → a5 → a6 → Option ρ) (q : a1 × a2 × a3 × a4 × a5 × a6) : Option ρ := k q.1 q.2.1 q.2.2.1 q.2.2.2.1 q.2.2.2.2.1 q.2.2.2.2.2
variable {r : ρ}
theorem un2_some {k : a1 → a2 → Option ρ} {q : a1 × a2} (h : un2 k q = some r) : ∃ x1 x2, q = (x1, x2) ∧ k x1 x2 = some r := ⟨_, _, rfl, h⟩
theorem un3_some {k : a1 → a2 → a3 → Option ρ} {q : a1 × a2 × a3} (h : un3 k q = some r) : ∃ x1 x2 x3, q = (x1, x2, x3) ∧ k x1 x2 x3 = some r := ⟨_, _, _, rfl, h⟩
theorem un4_some {k : a1 → a2 → a3 → a4 → Option ρ} {q : a1 × a2 × a3 × a4} (h : un4 k q = some r) : ∃ x1 x2 x3 x4, q = (x1, x2, x3, x4) ∧ k x1 x2 x3 x4 = some r := ⟨_, _, _, _, rfl, h⟩
theorem un5_some {k : a1 → a2 → a3 → a4 → a5 → Option ρ} {q : a1 × a2 × a3 × a4 × a5} (h : un5 k q = some r) : ∃ x1 x2 x3 x4 x5, q = (x1, x2, x3, x4, x5) ∧ k x1 x2 x3 x4 x5 = some r := ⟨_, _, _, _, _, rfl, h⟩
theorem un6_some {k : a1 → a2 → a3 → a4 → a5 → a6 → Option ρ} {q : a1 × a2 × a3 × a4 × a5 × a6} (h : un6 k q = some r) : ∃ x1 x2 x3 x4 x5 x6, q = (x1, x2, x3, x4, x5, x6) ∧ k x1 x2 x3 x4 x5 x6 = some r := ⟨_, _, _, _, _, _, rfl, h⟩
theorem bnd2_some {o : Option (a1 × a2)} {k : a1 → a2 → Option ρ} (h : bnd o (un2 k) = some r) : ∃ x1 x2, o = some (x1, x2) ∧ k x1 x2 = some r := by
  obtain ⟨q, h1, h2⟩ := bnd_some h
  exact ⟨_, _, h1, h2⟩
theorem bnd3_some {o : Option (a1 × a2 × a3)} {k : a1 → a2 → a3 → Option ρ} (h : bnd o (un3 k) = some r) : ∃ x1 x2 x3, o = some (x1, x2, x3) ∧ k x1 x2 x3 = some r := by
  obtain ⟨q, h1, h2⟩ := bnd_some h
  exact ⟨_, _, _, h1, h2⟩
theorem bnd4_some {o : Option (a1 × a2 × a3 × a4)} {k : a1 → a2 → a3 → a4 → Option ρ} (h : bnd o (un4 k) = some r) : ∃ x1 x2 x3 x4, o = some (x1, x2, x3, x4) ∧ k x1 x2 x3 x4 = some r := by
  obtain ⟨q, h1, h2⟩ := bnd_some h
  exact ⟨_, _, _, _, h1, h2⟩
theorem bnd5_some {o : Option (a1 × a2 × a3 × a4 × a5)} {k : a1 → a2 → a3 → a4 → a5 → Option ρ} (h : bnd o (un5 k) = some r) : ∃ x1 x2 x3 x4 x5, o = some (x1, x2, x3, x4, x5) ∧ k x1 x2 x3 x4 x5 = some r := by
  obtain ⟨q, h1, h2⟩ := bnd_some h
  exact ⟨_, _, _, _, _, h1, h2⟩
theorem bnd6_some {o : Option (a1 × a2 × a3 × a4 × a5 × a6)} {k : a1 → a2 → a3 → a4 → a5 → a6 → Option ρ} (h : bnd o (un6 k) = some r) : ∃ x1 x2 x3 x4 x5 x6, o = some (x1, x2, x3, x4, x5, x6) ∧ k x1 x2 x3 x4 x5 x6 = some r := by
  obtain ⟨q, h1, h2⟩ := bnd_some h
  exact ⟨_, _, _, _, _, _, h1, h2⟩
def cs2 (k1 : a1 → Option ρ) (k2 : a2 → Option ρ) (q : a1 ⊕ a2) : Option ρ := match q with
  | .inl x => k1 x
  | .inr x => k2 x
theorem cs2_some {k1 : a1 → Option ρ} {k2 : a2 → Option ρ} {q : a1 ⊕ a2} (h : cs2 k1 k2 q = some r) : (∃ x, q = .inl x ∧ k1 x = some r) ∨ ∃ x, q = .inr x ∧ k2 x = some r := by
  unfold cs2 at h
  split at h
  · exact Or.inl ⟨_, rfl, h⟩
  · exact Or.inr ⟨_, rfl, h⟩
def lp {σ : Type} (body : (σ → Option ρ) → σ → Option ρ) : Nat → σ → Option ρ
  | 0, _ => none
  | n + 1, s => body (lp body n) s
theorem lp_s {σ : Type} (body : (σ → Option ρ) → σ → Option ρ) (n : Nat) (s : σ) : lp body (n + 1) s = body (lp body n) s := rfl
theorem lp_0 {σ : Type} {body : (σ → Option ρ) → σ → Option ρ} {s : σ} (h : lp body 0 s = some r) : False := by cases h
end SP2
section GN
variable {p : Program} {l : Launch} {e : Env} {R : Room} {s : State} {m : MethodId} {args : Array Value} {below : List Frame} {meth : Method} {c : Code} {H : Heap} {locs : List Loc} {cells slots : Nat} {Q : State → Prop} {pc : Nat} {ls : Array Slot} {rest : List Value}
theorem g_nmi {x y : Int32} (he : y = x) (k : W p l e R s m args below meth c H locs cells slots Q (F0 m pc ls (.int y :: rest))) : W p l e R s m args below meth c H locs cells slots Q (F0 m pc ls (.int x :: rest)) := by subst he; exact k
theorem g_nml {x y : Int64} (he : y = x) (k : W p l e R s m args below meth c H locs cells slots Q (F0 m pc ls (.long y :: rest))) : W p l e R s m args below meth c H locs cells slots Q (F0 m pc ls (.long x :: rest)) := by subst he; exact k
end GN
/-- a boolean is 0 or 1 -/
def isB (x : Int32) : Bool := x == 0 || x == 1
theorem isB_or {x : Int32} (h : isB x = true) : x = 0 ∨ x = 1 := by simpa [isB] using h
theorem isB_nar {x : Int32} (h : isB x = true) : vp_nar .boolean x = x := by rcases isB_or h with rfl | rfl <;> decide
theorem isB_narrow {x : Int32} (h : isB x = true) : narrow .boolean (.int x) = .int x := by rcases isB_or h with rfl | rfl <;> rfl
theorem isB_fits {x : Int32} (h : isB x = true) : fits .boolean (.int x) = true := by rcases isB_or h with rfl | rfl <;> rfl
