/-! dynamic worlds: contracts, entries, returns, calls -/
set_option maxRecDepth 100000
def d_A (Sh : g_Sh) (nx : Nat) : Nat → Prop := fun q => (∃ d, Sh q = some d) ∨ nx ≤ q
def d_R (D : va_G) (cl : List vw_C) (F : List FieldType) (K : Nat → ClassId) (Sh : g_Sh) (V : g_V) (L : g_L) (nx : Nat) (U : State) : Prop := g_R nx D cl F K idn Sh V L U
def d_Pc (gp : Nat → Nat) (av : List Value) (D : va_G) (cl : List vw_C) (F : List FieldType) (K : Nat → ClassId) (Sh : g_Sh) (V : g_V) (L : g_L) (nx : Nat) : Array Value → State → Prop := va_Pc av (fun U => d_R D cl F K Sh V L nx U ∧ g_X gp (d_A Sh nx) U)
/-- a method's end: this outcome, and the world behind it -/
def d_Q (o : Outcome) (D : va_G) (cl : List vw_C) (F : List FieldType) (K : Nat → ClassId) (A : Nat → Prop) (Sh : g_Sh) (V : g_V) (L : g_L) (nx : Nat) : Array Value → State → Outcome → State → Prop := fun _ st oc t => (oc = o ∧ d_R D cl F K Sh V L nx t ∧ ∀ q d, Sh q = some d → A q) ∧ va_F A st t
abbrev rmD (f n c d : Nat) : Room := { frames := f, cells := c, slots := d, locals := n }
theorem d_blind {gp : Nat → Nat} {av : List Value} {D : va_G} {cl : List vw_C} {F : List FieldType} {K : Nat → ClassId} {Sh : g_Sh} {V : g_V} {L : g_L} {nx : Nat} : FrameBlind (d_Pc gp av D cl F K Sh V L nx) := by
  intro a U g mk q
  exact ⟨q.1, g_R.moved (u := U) (U := U.calling g mk a) rfl (Vm.Alike.refl U.vm) q.2.1, q.2.2.blind rfl rfl⟩
theorem d_met {gp : Nat → Nat} {nx : Nat} {l : Launch} {y : MethodName} {code : ByteArray} {nL : Nat} {ret : Option FieldType} {rm : Room} {av : List Value} {D : va_G} {cl : List vw_C} {F : List FieldType} {K : Nat → ClassId} {Sh : g_Sh} {V : g_V} {L : g_L} {Qc : Array Value → State → Outcome → State → Prop} {mc ms : Nat} {free : Addr → Prop}
    (hy : plainName y.cls = true) (hav : (lg_sl av).length ≤ nL)
    (body : ∀ (p : Program) (e : Env) (s : State) (m : MethodId) (below : List Frame) (meth : Method) (c : Code) (ls : Array Slot), CallFix p m c code nL s av.toArray lw_all y.cls → meth.sig.returnType = ret → meth.locks = false → meth.name = y.name → lv_has ls nL (lv_args 0 av) → d_W gp D cl F K (d_A Sh nx) s Sh V L nx s.heap [] → s.heap.size = nx →
      W p l e rm s m av.toArray below meth c s.heap [] 0 0 (MQ below Qc av.toArray s mc ms free) (F0 m 0 ls [])) :
    Met l y (ws_ y code nL ret) rm (d_Pc gp av D cl F K Sh V L nx) Qc mc ms free := by
  refine Met.ofW (cc := code) (maxL := nL) (ret := ret) hy rfl ?_
  intro p e s m args below meth c s₁ B hml hv
  obtain ⟨rfl, ⟨hK, hP, hz⟩, hX⟩ := hv
  have hts := atoms_spec (ws := ws_ y code nL ret) B.pre
  have hts : ∀ w ∈ lw_all, w.before _ s = true := fun w h => hts w (List.mem_cons_of_mem _ h)
  have hl := lv_entry av (n := nL) hav
  rw [lg_entry_eq]
  generalize (lg_sl av ++ List.replicate (nL - (lg_sl av).length) Slot.unset).toArray = ls at hl ⊢
  exact body p e s m below meth c ls ⟨B.exec, B.bytes, hml, findClass_of_methodNamed B.named, hts⟩ B.returns B.notSynchronized (name_of_methodNamed B.named B.method).1 hl ⟨⟨hK, hP, fun k d h => Or.inl ⟨d, h⟩, va_S.rf, hX, rfl, hz⟩, fun q h => Or.inr (by omega)⟩ hz
section DC
variable {p : Program} {l : Launch} {e : Env} {R : Room} {s : State} {m : MethodId} {args : Array Value} {below : List Frame} {meth : Method} {c : Code} {H : Heap} {locs : List Loc} {cells slots : Nat} {Q : State → Prop}
variable {gp : Nat → Nat} {own : String} {cc : ByteArray} {pc nL : Nat} {ls : Array Slot} {rest st0 : List Value} {D : va_G} {cl : List vw_C} {F : List FieldType} {K : Nat → ClassId} {Sh Sh' : g_Sh} {A : Nat → Prop} {V V' : g_V} {L L' : g_L} {nx nx' : Nat} {a : Nat}
theorem d_W.Rr {t : State} (hW : d_W gp D cl F K A s Sh V L nx H locs) (ht : t.heap = H) (hw : s.WarmedH t.vm) : d_R D cl F K Sh V L nx t := hW.1.Rr ht hw
theorem d_sub (hW : d_W gp D cl F K A s Sh V L nx H locs) : ∀ q, d_A Sh nx q → A q := by
  rintro q (⟨d, h⟩ | h)
  · exact hW.1.2.2.1 q d h
  · exact hW.2 q (by have := hW.1.2.2.2.1.1; have := hW.1.2.2.2.2.2.2; omega)
theorem d_pre {U : State} (hW : d_W gp D cl F K A s Sh V L nx H locs) (hU : U.heap = H) (hw : s.WarmedH U.vm) : d_R D cl F K Sh V L nx U ∧ g_X gp (d_A Sh nx) U := by
  refine ⟨hW.Rr hU hw, ?_⟩
  exact (hW.1.2.2.2.2.1.move (fun q h1 h2 => by rw [hU]; exact hW.1.2.2.2.1.2.1 q h1 h2) hw).narrow (d_sub hW)
theorem d_iret {r : Int32} {mc ms : Nat} (S : CallFix p m c cc nL s args lw_all own) (hr : meth.sig.returnType = some .int) (hlocks : meth.locks = false) (hW : d_W gp D cl F K A s Sh V L nx H locs) (h1 : cells ≤ mc) (h2 : slots ≤ ms) (hdg : decode cc pc = .ok (.ireturn, 1)) :
    W p l e R s m args below meth c H locs cells slots (MQ below (d_Q (.returned (some (.int r))) D cl F K A Sh V L nx) args s mc ms A) (F0 m pc ls [.int r]) :=
  W.widen h1 h2 (W.iret S.1 S.2.1 hr (fun t ht hw => ⟨⟨rfl, hW.Rr ht hw, hW.1.2.2.1⟩, hW.1.2.2.2.1.F ht⟩) hW.1.2.2.2.1.2.2 hdg hlocks)
theorem d_zret {r : Int32} {ty : FieldType} {mc ms : Nat} (S : CallFix p m c cc nL s args lw_all own) (hr : meth.sig.returnType = some ty) (hlocks : meth.locks = false) (hn : narrow ty (.int r) = .int r) (hW : d_W gp D cl F K A s Sh V L nx H locs) (h1 : cells ≤ mc) (h2 : slots ≤ ms) (hdg : decode cc pc = .ok (.ireturn, 1)) :
    W p l e R s m args below meth c H locs cells slots (MQ below (d_Q (.returned (some (.int r))) D cl F K A Sh V L nx) args s mc ms A) (F0 m pc ls [.int r]) :=
  W.widen h1 h2 (W.zret S.1 S.2.1 hr hn (fun t ht hw => ⟨⟨rfl, hW.Rr ht hw, hW.1.2.2.1⟩, hW.1.2.2.2.1.F ht⟩) hW.1.2.2.2.1.2.2 hdg hlocks)
theorem d_lret {r : Int64} {mc ms : Nat} (S : CallFix p m c cc nL s args lw_all own) (hr : meth.sig.returnType = some .long) (hlocks : meth.locks = false) (hW : d_W gp D cl F K A s Sh V L nx H locs) (h1 : cells ≤ mc) (h2 : slots ≤ ms) (hdg : decode cc pc = .ok (.lreturn, 1)) :
    W p l e R s m args below meth c H locs cells slots (MQ below (d_Q (.returned (some (.long r))) D cl F K A Sh V L nx) args s mc ms A) (F0 m pc ls [.long r]) :=
  W.widen h1 h2 (W.lret S.1 S.2.1 hr (fun t ht hw => ⟨⟨rfl, hW.Rr ht hw, hW.1.2.2.1⟩, hW.1.2.2.2.1.F ht⟩) hW.1.2.2.2.1.2.2 hdg hlocks)
theorem d_vret {mc ms : Nat} (S : CallFix p m c cc nL s args lw_all own) (hr : meth.sig.returnType = none) (hlocks : meth.locks = false) (hW : d_W gp D cl F K A s Sh V L nx H locs) (h1 : cells ≤ mc) (h2 : slots ≤ ms) (hdg : decode cc pc = .ok (.return_, 1)) :
    W p l e R s m args below meth c H locs cells slots (MQ below (d_Q (.returned none) D cl F K A Sh V L nx) args s mc ms A) (F0 m pc ls []) :=
  W.widen h1 h2 (W.vret S.1 S.2.1 hr (fun t ht hw => ⟨⟨rfl, hW.Rr ht hw, hW.1.2.2.1⟩, hW.1.2.2.2.1.F ht⟩) hW.1.2.2.2.1.2.2 hdg hlocks)
theorem d_aret {o : Option Nat} {rt : FieldType} {mc ms : Nat} (S : CallFix p m c cc nL s args lw_all own) (hr : meth.sig.returnType = some rt) (hrt : (∃ n, rt = .object n) ∨ ∃ t, rt = .array t) (hlocks : meth.locks = false) (hW : d_W gp D cl F K A s Sh V L nx H locs) (h1 : cells ≤ mc) (h2 : slots ≤ ms) (hdg : decode cc pc = .ok (.areturn, 1)) :
    W p l e R s m args below meth c H locs cells slots (MQ below (d_Q (.returned (some (va_rf o))) D cl F K A Sh V L nx) args s mc ms A) (F0 m pc ls [va_rf o]) :=
  W.widen h1 h2 (W.aret S.1 S.2.1 hr hrt (by cases o <;> simp [va_rf]) (fun t ht hw => ⟨⟨rfl, hW.Rr ht hw, hW.1.2.2.1⟩, hW.1.2.2.2.1.F ht⟩) hW.1.2.2.2.1.2.2 hdg hlocks)
/-- behind a call that returned -/
theorem d_back {mc ms : Nat} {v : Option Value} {ar : Array Value} (hr : va_Run p l e R s m args below meth c H locs cells slots mc ms (F0 m pc ls st0) rest (d_Q (.returned v) D cl F K (d_A Sh nx) Sh' V' L' nx' ar) (d_A Sh nx)) (hW : d_W gp D cl F K A s Sh V L nx H locs)
    (kk : ∀ (H1 : Heap) (locs1 : List Loc), d_W gp D cl F K A s Sh' V' L' nx' H1 locs1 → W p l e R s m args below meth c H1 locs1 (cells + mc) (slots + ms) Q (F0 m (pc + 3) ls (v.toList ++ rest))) : W p l e R s m args below meth c H locs cells slots Q (F0 m pc ls st0) := by
  intro T hT X
  obtain ⟨v', st₀, t, T', L1, h0, X', hL, e1, e2, ⟨⟨hv, hB, hdom⟩, hz, hk⟩, st⟩ := hr T hT X
  cases hv
  rw [h0] at hz hk
  have hS := hW.1.2.2.2.1
  have hsub := d_sub hW
  have hS1 : va_S A s.heap T'.heap (locs ++ L1) := ⟨Nat.le_trans hS.1 (by rw [e1]; exact hz), fun q h1 h2 => by
      rw [e1, hk q (Nat.lt_of_lt_of_le h1 hS.1) (fun z => h2 (hsub q z))]; exact hS.2.1 q h1 h2, fun q hq => by
      rcases List.mem_append.mp hq with h | h
      · exact hS.2.2 q h
      · exact hsub _ (hL q h)⟩
  obtain ⟨t2, a1, b1⟩ := kk T'.heap (locs ++ L1) ⟨⟨hW.1.1, by rw [e1]; exact hB.2.1, fun q d hq => hsub q (hdom q d hq), hS1, hW.1.2.2.2.2.1, rfl, by rw [e1]; exact hB.2.2⟩, hW.2⟩ T' rfl X'
  exact ⟨t2, st t2 a1, b1⟩
end DC
