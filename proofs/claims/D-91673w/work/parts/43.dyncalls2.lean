/-! dynamic worlds: calls of every kind -/
set_option maxRecDepth 100000
section DC2
variable {p : Program} {l : Launch} {e : Env} {R : Room} {s : State} {m : MethodId} {args : Array Value} {below : List Frame} {meth : Method} {c : Code} {H : Heap} {locs : List Loc} {cells slots : Nat} {Q : State → Prop}
variable {gp : Nat → Nat} {own host owner : String} {cc : ByteArray} {pc nL : Nat} {ls : Array Slot} {rest st0 st1 : List Value} {D : va_G} {cl : List vw_C} {F : List FieldType} {K : Nat → ClassId} {Sh Sh' : g_Sh} {A : Nat → Prop} {V V' : g_V} {L L' : g_L} {nx nx' : Nat} {a : Nat}
variable {x y : MethodName} {bytes : ByteArray} {maxL n index mc ms count : Nat} {ret : Option FieldType} {ws : List Cond} {rm : Room} {C : String} {As : List Value} {ci N : Nat} {rf : Nat → Option (Option Nat)} {T : u_T} {v : Option Value}
theorem d_recv (hW : d_W gp D cl F K A s Sh V L nx H locs) (hs : Sh a = some (d_obj ci N rf)) (hc : cl[ci]? = some (C, T, N)) : ∃ cell : Cell, H[a]? = some cell ∧ cell.vm.isStatics = false ∧ s.vm.findClass C = some cell.cls :=
  va_recv hW.1.1 (g_one hW.1 (k := a) hs) hc (q0 := 0) rfl
theorem d_callV (S : CallFix p m c cc nL s args lw_all own) (hW : d_W gp D cl F K A s Sh V L nx H locs) (hM : Met l y ws rm (d_Pc gp (.ref a :: As) D cl F K Sh V L nx) (d_Q (.returned v) D cl F K (d_A Sh nx) Sh' V' L' nx') mc ms (d_A Sh nx)) (cw : CallW R s args own C index y bytes maxL ret ws rm mc ms n) (hs : Sh a = some (d_obj ci N rf)) (hc : cl[ci]? = some (C, T, N))
    (hn : As.length = n) (hsize : ls.size = nL) (hst : st0 = As.reverse ++ .ref a :: rest) (hro : (rest.map fun v => v.category).sum ≤ 8) (hdg : decode cc pc = .ok (.invokevirtual index, 3)) (hf : cells + mc ≤ R.cells ∧ slots + ms ≤ R.slots) (hst1 : v.toList ++ rest = st1)
    (kk : ∀ (H1 : Heap) (locs1 : List Loc), d_W gp D cl F K A s Sh' V' L' nx' H1 locs1 → W p l e R s m args below meth c H1 locs1 (cells + mc) (slots + ms) Q (F0 m (pc + 3) ls st1)) : W p l e R s m args below meth c H locs cells slots Q (F0 m pc ls st0) := by
  subst hst; subst hst1
  exact d_back (va_runV S hM cw ⟨d_blind, d_recv hW hs hc, fun U hU hw => ⟨rfl, d_pre hW hU hw⟩⟩ rfl hn hsize rfl (lv_room hro) hdg hf) hW kk
theorem d_callS (S : CallFix p m c cc nL s args lw_all own) (hW : d_W gp D cl F K A s Sh V L nx H locs) (hM : Met l y ws rm (d_Pc gp (As) D cl F K Sh V L nx) (d_Q (.returned v) D cl F K (d_A Sh nx) Sh' V' L' nx') mc ms (d_A Sh nx)) (cw : CallB R s args own index y bytes maxL ret ws rm mc ms n ∧ (Cond.static y).before args s = true)
    (hn : As.length = n) (hsize : ls.size = nL) (hst : st0 = As.reverse ++ rest) (hro : (rest.map fun v => v.category).sum ≤ 8) (hdg : decode cc pc = .ok (.invokestatic index, 3)) (hf : cells + mc ≤ R.cells ∧ slots + ms ≤ R.slots) (hst1 : v.toList ++ rest = st1)
    (kk : ∀ (H1 : Heap) (locs1 : List Loc), d_W gp D cl F K A s Sh' V' L' nx' H1 locs1 → W p l e R s m args below meth c H1 locs1 (cells + mc) (slots + ms) Q (F0 m (pc + 3) ls st1)) : W p l e R s m args below meth c H locs cells slots Q (F0 m pc ls st0) := by
  subst hst; subst hst1
  exact d_back (va_runS S hM cw ⟨d_blind, fun U hU hw => ⟨rfl, d_pre hW hU hw⟩⟩ rfl hn hsize rfl (lv_room hro) hdg hf) hW kk
theorem d_callI (S : CallFix p m c cc nL s args lw_all own) (hW : d_W gp D cl F K A s Sh V L nx H locs) (hM : Met l y ws rm (d_Pc gp (.ref a :: As) D cl F K Sh V L nx) (d_Q (.returned v) D cl F K (d_A Sh nx) Sh' V' L' nx') mc ms (d_A Sh nx)) (cw : CallB R s args own index y bytes maxL none ws rm mc ms n ∧ y.name = "<init>" ∧ (Cond.instanceMethod y).before args s = true)
    (hn : As.length = n) (hsize : ls.size = nL) (hst : st0 = As.reverse ++ .ref a :: rest) (hro : (rest.map fun v => v.category).sum ≤ 8) (hdg : decode cc pc = .ok (.invokespecial index, 3)) (hf : cells + mc ≤ R.cells ∧ slots + ms ≤ R.slots) (hst1 : v.toList ++ rest = st1)
    (kk : ∀ (H1 : Heap) (locs1 : List Loc), d_W gp D cl F K A s Sh' V' L' nx' H1 locs1 → W p l e R s m args below meth c H1 locs1 (cells + mc) (slots + ms) Q (F0 m (pc + 3) ls st1)) : W p l e R s m args below meth c H locs cells slots Q (F0 m pc ls st0) := by
  subst hst; subst hst1
  exact d_back (va_runI S hM cw ⟨d_blind, fun U hU hw => ⟨rfl, d_pre hW hU hw⟩⟩ rfl hn hsize rfl (lv_room hro) hdg hf) hW kk
theorem d_callVN (S : CallFix p m c cc nL s args lw_all own) (hW : d_W gp D cl F K A s Sh V L nx H locs) (hM : Met l y ws rm (d_Pc gp (.ref a :: As) D cl F K Sh V L nx) (d_Q (.returned v) D cl F K (d_A Sh nx) Sh' V' L' nx') mc ms (d_A Sh nx)) (cw : va_CN R s args own index y host bytes maxL ret ws rm mc ms n ∧ (Cond.instanceMethod y).before args s = true ∧ (Cond.selects C y y).before args s = true) (hs : Sh a = some (d_obj ci N rf)) (hc : cl[ci]? = some (C, T, N))
    (hn : As.length = n) (hsize : ls.size = nL) (hst : st0 = As.reverse ++ .ref a :: rest) (hro : (rest.map fun v => v.category).sum ≤ 8) (hdg : decode cc pc = .ok (.invokevirtual index, 3)) (hf : cells + mc ≤ R.cells ∧ slots + ms ≤ R.slots) (hst1 : v.toList ++ rest = st1)
    (kk : ∀ (H1 : Heap) (locs1 : List Loc), d_W gp D cl F K A s Sh' V' L' nx' H1 locs1 → W p l e R s m args below meth c H1 locs1 (cells + mc) (slots + ms) Q (F0 m (pc + 3) ls st1)) : W p l e R s m args below meth c H locs cells slots Q (F0 m pc ls st0) := by
  subst hst; subst hst1
  exact d_back (va_runVN S hM cw ⟨d_blind, d_recv hW hs hc, fun U hU hw => ⟨rfl, d_pre hW hU hw⟩⟩ rfl hn hsize rfl (lv_room hro) hdg hf) hW kk
theorem d_callSN (S : CallFix p m c cc nL s args lw_all own) (hW : d_W gp D cl F K A s Sh V L nx H locs) (hM : Met l y ws rm (d_Pc gp (As) D cl F K Sh V L nx) (d_Q (.returned v) D cl F K (d_A Sh nx) Sh' V' L' nx') mc ms (d_A Sh nx)) (cw : va_CN R s args own index y host bytes maxL ret ws rm mc ms n ∧ (Cond.static y).before args s = true ∧ True)
    (hn : As.length = n) (hsize : ls.size = nL) (hst : st0 = As.reverse ++ rest) (hro : (rest.map fun v => v.category).sum ≤ 8) (hdg : decode cc pc = .ok (.invokestatic index, 3)) (hf : cells + mc ≤ R.cells ∧ slots + ms ≤ R.slots) (hst1 : v.toList ++ rest = st1)
    (kk : ∀ (H1 : Heap) (locs1 : List Loc), d_W gp D cl F K A s Sh' V' L' nx' H1 locs1 → W p l e R s m args below meth c H1 locs1 (cells + mc) (slots + ms) Q (F0 m (pc + 3) ls st1)) : W p l e R s m args below meth c H locs cells slots Q (F0 m pc ls st0) := by
  subst hst; subst hst1
  exact d_back (va_runSN S hM cw ⟨d_blind, fun U hU hw => ⟨rfl, d_pre hW hU hw⟩⟩ rfl hn hsize rfl (lv_room hro) hdg hf) hW kk
theorem d_callIN (S : CallFix p m c cc nL s args lw_all own) (hW : d_W gp D cl F K A s Sh V L nx H locs) (hM : Met l y ws rm (d_Pc gp (.ref a :: As) D cl F K Sh V L nx) (d_Q (.returned v) D cl F K (d_A Sh nx) Sh' V' L' nx') mc ms (d_A Sh nx)) (cw : va_CN R s args own index y host bytes maxL none ws rm mc ms n ∧ y.name = "<init>" ∧ (Cond.instanceMethod y).before args s = true)
    (hn : As.length = n) (hsize : ls.size = nL) (hst : st0 = As.reverse ++ .ref a :: rest) (hro : (rest.map fun v => v.category).sum ≤ 8) (hdg : decode cc pc = .ok (.invokespecial index, 3)) (hf : cells + mc ≤ R.cells ∧ slots + ms ≤ R.slots) (hst1 : v.toList ++ rest = st1)
    (kk : ∀ (H1 : Heap) (locs1 : List Loc), d_W gp D cl F K A s Sh' V' L' nx' H1 locs1 → W p l e R s m args below meth c H1 locs1 (cells + mc) (slots + ms) Q (F0 m (pc + 3) ls st1)) : W p l e R s m args below meth c H locs cells slots Q (F0 m pc ls st0) := by
  subst hst; subst hst1
  exact d_back (va_runIN S hM cw ⟨d_blind, fun U hU hw => ⟨rfl, d_pre hW hU hw⟩⟩ rfl hn hsize rfl (lv_room hro) hdg hf) hW kk
theorem d_callU (S : CallFix p m c cc nL s args lw_all own) (hW : d_W gp D cl F K A s Sh V L nx H locs) (hM : Met l y ws rm (d_Pc gp (.ref a :: As) D cl F K Sh V L nx) (d_Q (.returned v) D cl F K (d_A Sh nx) Sh' V' L' nx') mc ms (d_A Sh nx)) (cw : va_CU R s args own C owner index x y bytes maxL ret ws rm mc ms n) (hs : Sh a = some (d_obj ci N rf)) (hc : cl[ci]? = some (C, T, N))
    (hn : As.length = n) (hsize : ls.size = nL) (hst : st0 = As.reverse ++ .ref a :: rest) (hro : (rest.map fun v => v.category).sum ≤ 8) (hdg : decode cc pc = .ok (.invokevirtual index, 3)) (hf : cells + mc ≤ R.cells ∧ slots + ms ≤ R.slots) (hst1 : v.toList ++ rest = st1)
    (kk : ∀ (H1 : Heap) (locs1 : List Loc), d_W gp D cl F K A s Sh' V' L' nx' H1 locs1 → W p l e R s m args below meth c H1 locs1 (cells + mc) (slots + ms) Q (F0 m (pc + 3) ls st1)) : W p l e R s m args below meth c H locs cells slots Q (F0 m pc ls st0) := by
  subst hst; subst hst1
  exact d_back (va_runU S hM cw ⟨d_blind, d_recv hW hs hc, fun U hU hw => ⟨rfl, d_pre hW hU hw⟩⟩ rfl hn hsize rfl (lv_room hro) hdg hf) hW kk
/-- behind a call that returned -/
theorem d_back5 {mc ms : Nat} {v : Option Value} {ar : Array Value} (hr : va_Run5 p l e R s m args below meth c H locs cells slots mc ms (F0 m pc ls st0) rest (d_Q (.returned v) D cl F K (d_A Sh nx) Sh' V' L' nx' ar) (d_A Sh nx)) (hW : d_W gp D cl F K A s Sh V L nx H locs)
    (kk : ∀ (H1 : Heap) (locs1 : List Loc), d_W gp D cl F K A s Sh' V' L' nx' H1 locs1 → W p l e R s m args below meth c H1 locs1 (cells + mc) (slots + ms) Q (F0 m (pc + 5) ls (v.toList ++ rest))) : W p l e R s m args below meth c H locs cells slots Q (F0 m pc ls st0) := by
  intro T hT X
  obtain ⟨v', st₀, t, T', L1, h0, X', hL, e1, e2, ⟨⟨hv, hB, hdom⟩, hz, hk⟩, st⟩ := hr T hT X
  cases hv
  rw [h0] at hz hk
  have hS := hW.1.2.2.2.1
  have hsub := d_sub hW
  have hS1 : va_S A s.heap T'.heap (locs ++ L1) := ⟨Nat.le_trans hS.1 (by rw [e1]; exact hz), fun q h1 h2 => by
      rw [e1, hk q (Nat.lt_of_lt_of_le h1 hS.1) (fun z => h2 (hsub q z))]; exact hS.2.1 q h1 h2, fun q hq => by
      rcases List.mem_append.mp hq with h | h
      · exact hS.2.2 q h
      · exact hsub _ (hL q h)⟩
  obtain ⟨t2, a1, b1⟩ := kk T'.heap (locs ++ L1) ⟨⟨hW.1.1, by rw [e1]; exact hB.2.1, fun q d hq => hsub q (hdom q d hq), hS1, hW.1.2.2.2.2.1, rfl, by rw [e1]; exact hB.2.2⟩, hW.2⟩ T' rfl X'
  exact ⟨t2, st t2 a1, b1⟩
theorem d_callF (S : CallFix p m c cc nL s args lw_all own) (hW : d_W gp D cl F K A s Sh V L nx H locs) (hM : Met l y ws rm (d_Pc gp (.ref a :: As) D cl F K Sh V L nx) (d_Q (.returned v) D cl F K (d_A Sh nx) Sh' V' L' nx') mc ms (d_A Sh nx)) (cw : va_CI R s args own C index x y bytes maxL ret ws rm mc ms n) (hs : Sh a = some (d_obj ci N rf)) (hc : cl[ci]? = some (C, T, N))
    (hn : As.length = n) (hsize : ls.size = nL) (hst : st0 = As.reverse ++ .ref a :: rest) (hro : (rest.map fun v => v.category).sum ≤ 8) (hdg : decode cc pc = .ok (.invokeinterface index count, 5)) (hf : cells + mc ≤ R.cells ∧ slots + ms ≤ R.slots) (hst1 : v.toList ++ rest = st1)
    (kk : ∀ (H1 : Heap) (locs1 : List Loc), d_W gp D cl F K A s Sh' V' L' nx' H1 locs1 → W p l e R s m args below meth c H1 locs1 (cells + mc) (slots + ms) Q (F0 m (pc + 5) ls st1)) : W p l e R s m args below meth c H locs cells slots Q (F0 m pc ls st0) := by
  subst hst; subst hst1
  exact d_back5 (va_runF (hW.1.1.1 ci _ hc).2 S hM cw ⟨d_blind, d_recv hW hs hc, fun U hU hw => ⟨rfl, d_pre hW hU hw⟩⟩ rfl hn hsize rfl (lv_room hro) hdg hf) hW kk
end DC2
