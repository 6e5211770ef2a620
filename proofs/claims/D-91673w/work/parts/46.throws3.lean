/-! throwing, in dynamic worlds -/
set_option maxRecDepth 100000
theorem d_metT {gp : Nat → Nat} {nx : Nat} {l : Launch} {y : MethodName} {code : ByteArray} {nL : Nat} {ret : Option FieldType} {rm : Room} {av : List Value} {D : va_G} {cl : List vw_C} {F : List FieldType} {K : Nat → ClassId} {Sh : g_Sh} {V : g_V} {L : g_L} {Qc : Array Value → State → Outcome → State → Prop} {mc ms : Nat} {free : Addr → Prop}
    (hy : plainName y.cls = true) (hav : (lg_sl av).length ≤ nL)
    (body : ∀ (p : Program) (e : Env) (s : State) (m : MethodId) (below : List Frame) (meth : Method) (c : Code) (ls : Array Slot), CallFix p m c code nL s av.toArray lw_all y.cls → meth.sig.returnType = ret → meth.locks = false → meth.name = y.name → c.exceptionTable.isEmpty = true → lv_has ls nL (lv_args 0 av) → d_W gp D cl F K (d_A Sh nx) s Sh V L nx s.heap [] → s.heap.size = nx →
      W p l e rm s m av.toArray below meth c s.heap [] 0 0 (MQT below Qc av.toArray s mc ms free) (F0 m 0 ls [])) :
    MetT l y (ws_ y code nL ret) rm (d_Pc gp av D cl F K Sh V L nx) Qc mc ms free := by
  refine MetT.ofW (cc := code) (maxL := nL) (ret := ret) hy rfl ?_
  intro p e s m args below meth c s₁ B hml hv
  obtain ⟨rfl, ⟨hK, hP, hz⟩, hX⟩ := hv
  have hts0 := atoms_spec (ws := ws_ y code nL ret) B.pre
  have hts : ∀ w ∈ lw_all, w.before _ s = true := fun w h => hts0 w (List.mem_cons_of_mem _ h)
  have hne := B.noHandlers (hts0 _ List.mem_cons_self)
  have hl := lv_entry av (n := nL) hav
  rw [lg_entry_eq]
  generalize (lg_sl av ++ List.replicate (nL - (lg_sl av).length) Slot.unset).toArray = ls at hl ⊢
  exact body p e s m below meth c ls ⟨B.exec, B.bytes, hml, findClass_of_methodNamed B.named, hts⟩ B.returns B.notSynchronized (name_of_methodNamed B.named B.method).1 hne hl ⟨⟨hK, hP, fun k d h => Or.inl ⟨d, h⟩, va_S.rf, hX, rfl, hz⟩, fun q h => Or.inr (by omega)⟩ hz
section TD
variable {p : Program} {l : Launch} {e : Env} {R : Room} {s : State} {m : MethodId} {args : Array Value} {below : List Frame} {meth : Method} {c : Code} {H : Heap} {locs : List Loc} {cells slots : Nat} {Q : State → Prop}
variable {gp : Nat → Nat} {own : String} {cc : ByteArray} {pc nL : Nat} {ls : Array Slot} {rest st0 st1 : List Value} {D : va_G} {cl : List vw_C} {F : List FieldType} {K : Nat → ClassId} {Sh Sh' : g_Sh} {A : Nat → Prop} {V V' : g_V} {L L' : g_L} {nx nx' : Nat} {a x : Nat}
variable {y : MethodName} {bytes : ByteArray} {maxL n index mc ms : Nat} {ret : Option FieldType} {ws : List Cond} {rm : Room} {C : String} {As : List Value} {ci N : Nat} {rf : Nat → Option (Option Nat)} {T : u_T} {v : Option Value}
/-- the world behind a call, however it ended -/
theorem d_after {o : Outcome} {st t B : State} {Lc : List Loc} {ar : Array Value} (hW : d_W gp D cl F K A s Sh V L nx H locs) (h0 : st.heap = H) (hL : ∀ q ∈ Lc, d_A Sh nx q.base) (e1 : B.heap = t.heap) {o' : Outcome} (hq : d_Q o D cl F K (d_A Sh nx) Sh' V' L' nx' ar st o' t) : o' = o ∧ d_W gp D cl F K A s Sh' V' L' nx' B.heap (locs ++ Lc) := by
  obtain ⟨⟨hv, hB, hdom⟩, hz, hk⟩ := hq
  rw [h0] at hz hk
  have hS := hW.1.2.2.2.1
  have hsub := d_sub hW
  have hS1 : va_S A s.heap B.heap (locs ++ Lc) := ⟨Nat.le_trans hS.1 (by rw [e1]; exact hz), fun q h1 h2 => by
      rw [e1, hk q (Nat.lt_of_lt_of_le h1 hS.1) (fun z => h2 (hsub q z))]; exact hS.2.1 q h1 h2, fun q hq => by
      rcases List.mem_append.mp hq with h | h
      · exact hS.2.2 q h
      · exact hsub _ (hL q h)⟩
  exact ⟨hv, ⟨⟨hW.1.1, by rw [e1]; exact hB.2.1, fun q d hq => hsub q (hdom q d hq), hS1, hW.1.2.2.2.2.1, rfl, by rw [e1]; exact hB.2.2⟩, hW.2⟩⟩
theorem d_callVTr (S : CallFix p m c cc nL s args lw_all own) (hW : d_W gp D cl F K A s Sh V L nx H locs) (hM : MetT l y ws rm (d_Pc gp (.ref a :: As) D cl F K Sh V L nx) (d_Q (.returned v) D cl F K (d_A Sh nx) Sh' V' L' nx') mc ms (d_A Sh nx)) (cw : CallW R s args own C index y bytes maxL ret ws rm mc ms n) (hs : Sh a = some (d_obj ci N rf)) (hc : cl[ci]? = some (C, T, N))
    (hn : As.length = n) (hsize : ls.size = nL) (hst : st0 = As.reverse ++ .ref a :: rest) (hro : (rest.map fun v => v.category).sum ≤ 8) (hdg : decode cc pc = .ok (.invokevirtual index, 3)) (hf : cells + mc ≤ R.cells ∧ slots + ms ≤ R.slots) (hst1 : v.toList ++ rest = st1)
    (kk : ∀ (H1 : Heap) (locs1 : List Loc), d_W gp D cl F K A s Sh' V' L' nx' H1 locs1 → W p l e R s m args below meth c H1 locs1 (cells + mc) (slots + ms) Q (F0 m (pc + 3) ls st1)) : W p l e R s m args below meth c H locs cells slots Q (F0 m pc ls st0) := by
  subst hst; subst hst1
  intro T0 hT X
  obtain ⟨o, st, t, B, Lc, h0, X', hL, e1, e2, hq, hgo⟩ := runVT S hM cw ⟨d_blind, d_recv hW hs hc, fun U hU hw => ⟨rfl, d_pre hW hU hw⟩⟩ hn hsize hro hdg hf hT X
  obtain ⟨rfl, hW1⟩ := d_after hW h0 hL e1 hq
  obtain ⟨t2, a1, b1⟩ := kk _ _ hW1 B rfl X'
  exact ⟨t2, hgo t2 a1, b1⟩
theorem d_callVTt (S : CallFix p m c cc nL s args lw_all own) (hW : d_W gp D cl F K A s Sh V L nx H locs) (hM : MetT l y ws rm (d_Pc gp (.ref a :: As) D cl F K Sh V L nx) (d_Q (.threw x) D cl F K (d_A Sh nx) Sh' V' L' nx') mc ms (d_A Sh nx)) (cw : CallW R s args own C index y bytes maxL ret ws rm mc ms n) (hs : Sh a = some (d_obj ci N rf)) (hc : cl[ci]? = some (C, T, N))
    (hn : As.length = n) (hsize : ls.size = nL) (hst : st0 = As.reverse ++ .ref a :: rest) (hro : (rest.map fun v => v.category).sum ≤ 8) (hdg : decode cc pc = .ok (.invokevirtual index, 3)) (hf : cells + mc ≤ R.cells ∧ slots + ms ≤ R.slots)
    (kk : ∀ (H1 : Heap) (locs1 : List Loc), d_W gp D cl F K A s Sh' V' L' nx' H1 locs1 → WT p l e R s m args below meth c H1 locs1 (cells + mc) (slots + ms) Q (F0 m pc ls rest) x) : W p l e R s m args below meth c H locs cells slots Q (F0 m pc ls st0) := by
  subst hst
  intro T0 hT X
  obtain ⟨o, st, t, B, Lc, h0, X', hL, e1, e2, hq, hgo⟩ := runVT S hM cw ⟨d_blind, d_recv hW hs hc, fun U hU hw => ⟨rfl, d_pre hW hU hw⟩⟩ hn hsize hro hdg hf hT X
  obtain ⟨rfl, hW1⟩ := d_after hW h0 hL e1 hq
  obtain ⟨t2, a1, b1⟩ := kk _ _ hW1 B rfl X'
  exact ⟨t2, hgo t2 a1, b1⟩
end TD
