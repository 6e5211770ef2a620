/-! dynamic worlds: shorts, rows of rows, methods with handlers -/
set_option maxRecDepth 100000
section DM
variable {p : Program} {l : Launch} {e : Env} {R : Room} {s : State} {m : MethodId} {args : Array Value} {below : List Frame} {meth : Method} {c : Code} {H : Heap} {locs : List Loc} {cells slots : Nat} {Q : State → Prop}
variable {gp : Nat → Nat} {own : String} {cc : ByteArray} {pc nL : Nat} {ls : Array Slot} {rest st0 : List Value} {D : va_G} {cl : List vw_C} {F : List FieldType} {K : Nat → ClassId} {Sh Sh' : g_Sh} {A : Nat → Prop} {V V' : g_V} {L L' : g_L} {nx nx' : Nat} {a : Nat}
theorem d_sald {t n : Nat} {i x : Int32} (S : CallFix p m c cc nL s args lw_all own) (hW : d_W gp D cl F K A s Sh V L nx H locs) (hs : Sh a = some (d_int t n)) (ht : F[t]? = some .short) (hin : vp_in i n) (ex : x = V a i.toNatClampNeg) (hdg : decode cc pc = .ok (.saload, 1))
    (kk : W p l e R s m args below meth c H locs cells slots Q (F0 m (pc + 1) ls (.int x :: rest))) : W p l e R s m args below meth c H locs cells slots Q (F0 m pc ls (.int i :: .ref a :: rest)) := by
  subst ex
  exact va_sald S.1 S.2.1 hW.1.1 (g_one hW.1 (k := a) hs) 0 t rfl (g_T_at ht) hin hdg kk
theorem d_sast {t n : Nat} {i x : Int32} (S : CallFix p m c cc nL s args lw_all own) (hW : d_W gp D cl F K A s Sh V L nx H locs) (hs : Sh a = some (d_int t n)) (ht : F[t]? = some .short) (hin : vp_in i n) (eV : V' = upd2 V a i.toNatClampNeg x) (hx8 : vp_nar .short x = x) (hdg : decode cc pc = .ok (.sastore, 1))
    (kk : ∀ (H1 : Heap) (locs1 : List Loc), d_W gp D cl F K A s Sh V' L nx H1 locs1 → W p l e R s m args below meth c H1 locs1 cells slots Q (F0 m (pc + 1) ls rest)) : W p l e R s m args below meth c H locs cells slots Q (F0 m pc ls (.int x :: .int i :: .ref a :: rest)) := by
  obtain ⟨hx, hb, -, hown, hts⟩ := S
  subst eV
  have h0 := hW.1.2.1.1 a _ hs
  refine W.sast hx hb (show H[a]? = some (vp_cell (K t) (n, .inl (V a))) from h0) ((hW.1.1.2 t _ (g_T_at ht)).1 n (fun j => .int (V a j))) (fun q => by cases q) (by show ¬ (i < 0 ∨ (arrV _ _ _).slots.size ≤ _); rw [arrV_size]; exact hin) rfl rfl hdg fun H1 e z oq => ?_
  refine kk H1 _ ⟨⟨hW.1.1, hW.1.2.1.put (k := a) hs upd2_ne (fun _ _ => rfl) ?_ oq, hW.1.2.2.1, hW.1.2.2.2.1.put z oq (hW.1.2.2.1 a _ hs), hW.1.2.2.2.2.1, rfl, z.trans hW.1.2.2.2.2.2.2⟩, hW.2⟩
  show H1[a]? = some (vp_cell (K t) (n, .inl (upd2 V a i.toNatClampNeg x a)))
  rw [e, upd2_eq, vp_cell_i, vp_cell_i, arrV_store]
  congr 2
  funext q
  by_cases hq : q = i.toNatClampNeg
  · subst hq
    have h9 : narrow .short (.int x) = .int (vp_nar .short x) := rfl
    simp [updV, upd, h9, hx8]
  · simp [updV, upd, hq]
theorem d_aaldA {t n : Nat} {f : Nat → Option Nat} {ty : FieldType} {i : Int32} {o : Option Nat} (S : CallFix p m c cc nL s args lw_all own) (hW : d_W gp D cl F K A s Sh V L nx H locs) (hs : Sh a = some (d_ref t n f)) (ht : F[t]? = some (.array ty)) (hin : vp_in i n) (eo : o = f i.toNatClampNeg) (hdg : decode cc pc = .ok (.aaload, 1))
    (kk : W p l e R s m args below meth c H locs cells slots Q (F0 m (pc + 1) ls (va_rf o :: rest))) : W p l e R s m args below meth c H locs cells slots Q (F0 m pc ls (.int i :: .ref a :: rest)) := by
  subst eo
  have hlt : i.toNatClampNeg < n := Nat.not_le.mp fun q => hin (Or.inr q)
  have h0 : H[a]? = some (vp_cell (K t) (n, .inr (.inr (.inr (.inr (fun i => (f i).map idn)))))) := hW.1.2.1.1 a _ hs
  refine W.aald (v := va_rf ((f i.toNatClampNeg).map idn)) (ty := .array ty) S.1 S.2.1 h0 ((hW.1.1.2 t _ (g_T_at ht)).1 n (fun j => va_rf ((f j).map idn))) rfl (fun q => by cases q) (by show ¬ (i < 0 ∨ (arrV _ _ _).slots.size ≤ _); rw [arrV_size]; exact hin) (by show (arrV _ _ _).slots[_]? = _; rw [arrV_read _ _ hlt]) rfl rfl hdg ?_
  rw [show (f i.toNatClampNeg).map idn = f i.toNatClampNeg by cases f i.toNatClampNeg <;> rfl]
  exact kk
end DM
/-- a contract of a method WITH HANDLERS by a walk of its body; hh: its table -/
theorem d_metH {gp : Nat → Nat} {nx : Nat} {l : Launch} {y : MethodName} {code : ByteArray} {nL : Nat} {ret : Option FieldType} {hh : List (Nat × Nat × Nat × Nat)} {rm : Room} {av : List Value} {D : va_G} {cl : List vw_C} {F : List FieldType} {K : Nat → ClassId} {Sh : g_Sh} {V : g_V} {L : g_L} {Qc : Array Value → State → Outcome → State → Prop} {mc ms : Nat} {free : Addr → Prop}
    (hy : plainName y.cls = true) (hav : (lg_sl av).length ≤ nL)
    (body : ∀ (p : Program) (e : Env) (s : State) (m : MethodId) (below : List Frame) (meth : Method) (c : Code) (ls : Array Slot), CallFix p m c code nL s av.toArray lw_all y.cls → meth.sig.returnType = ret → meth.locks = false → c.exceptionTable.toList.map (fun h => (h.startPc, h.endPc, h.handlerPc, h.catchType)) = hh → lv_has ls nL (lv_args 0 av) → d_W gp D cl F K (d_A Sh nx) s Sh V L nx s.heap [] → s.heap.size = nx →
      W p l e rm s m av.toArray below meth c s.heap [] 0 0 (MQT below Qc av.toArray s mc ms free) (F0 m 0 ls [])) :
    MetT l y (wsW_ y code nL ret hh) rm (d_Pc gp av D cl F K Sh V L nx) Qc mc ms free := by
  refine MetFree.of_bodyS (code := code) (maxLocals := nL) (ret := ret) hy ?_ ?_
  · intro args s m h hn
    obtain ⟨m', meth, c, h0, h1, h2, h3, h4, -, h5, h6, -⟩ := Cond.codeWith_spec (atoms_spec (ws := wsW_ y code nL ret hh) h _ List.mem_cons_self)
    cases hn.symm.trans h0
    exact ⟨meth, c, h1, h2, h3, h4, h5, h6⟩
  · intro p e s m args below meth c s₁ B hml hv _
    obtain ⟨rfl, ⟨hK, hP, hz⟩, hX⟩ := hv
    have hts0 := atoms_spec (ws := wsW_ y code nL ret hh) B.pre
    have hts : ∀ w ∈ lw_all, w.before _ s = true := fun w h => hts0 w (List.mem_cons_of_mem _ h)
    obtain ⟨m', meth', c', h0, h1, h2, h3, h4, h7, h5, h6, -⟩ := Cond.codeWith_spec (hts0 _ List.mem_cons_self)
    cases B.named.symm.trans h0
    cases B.method.symm.trans h1
    cases (Stand.of_body B).code.symm.trans h2
    have hh0 : s₁.heap = s.heap := by rw [B.state]; rfl
    have hl := lv_entry av (n := nL) hav
    have hb := body p e s m below meth c _ ⟨B.exec, B.bytes, hml, findClass_of_methodNamed B.named, hts⟩ B.returns B.notSynchronized h7 hl ⟨⟨hK, hP, fun k d h => Or.inl ⟨d, h⟩, va_S.rf, hX, rfl, hz⟩, fun q h => Or.inr (by omega)⟩ hz
    rw [← lg_entry_eq] at hb
    obtain ⟨t, a1, o, b1, b2, b3⟩ := hb s₁ hh0 (Stand.of_body B)
    exact ⟨t, o, a1, b1, b2, ⟨b3.1, b3.2⟩⟩
