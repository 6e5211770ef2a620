/-! a cast that fails: from a row of longs to a row of ints -/
set_option maxRecDepth 100000
def cceA : String := "class [J cannot be cast to class [I ([J and [I are in module java.base of loader 'bootstrap')"
def cceB : String := "class [J cannot be cast to class [I ([J and [I are in unnamed module of loader 'bootstrap')"
theorem found_facts {vm : Vm} {n : String} {c : ClassId} {k : Class} (h : vm.findClass n = some c) (hk : vm.classes[c]? = some k) : k.name = n ∧ k.hidden = none ∧ k.loader = none := by
  obtain ⟨hlt, hp, -⟩ := Array.findIdx?_eq_some_iff_getElem.mp h
  have e : vm.classes[c] = k := by
    rw [Array.getElem?_eq_getElem hlt] at hk
    exact Option.some.inj hk
  rw [e] at hp
  simp only [Bool.and_eq_true, beq_iff_eq, Option.isNone_iff_eq_none] at hp
  exact ⟨hp.1.1.1, hp.1.1.2, hp.2⟩
theorem shown_of {k : Class} {n : String} (hn : k.name = n) (hh : k.hidden = none) : k.shown = dotted n := by
  unfold Class.shown
  rw [hh, hn]
theorem prims_of {k : Class} {n : String} (hn : k.name = n) (ha : ∃ cm ty, k.kind = .array cm ty) (h1 : ((withoutBrackets n).length == 1) = true) : k.ofPrimitives = true := by
  obtain ⟨cm, ty, ha⟩ := ha
  unfold Class.ofPrimitives
  rw [ha, hn]
  exact h1
theorem cast_msg {vm : Vm} {c1 c2 : ClassId} {k1 k2 : Class} (h1 : vm.findClass "[J" = some c1) (h2 : vm.findClass "[I" = some c2) (hk1 : vm.classes[c1]? = some k1) (hk2 : vm.classes[c2]? = some k2) (a1 : ∃ cm ty, k1.kind = .array cm ty) (a2 : ∃ cm ty, k2.kind = .array cm ty) : checkcast.message vm k1 k2 = cceA ∨ checkcast.message vm k1 k2 = cceB := by
  obtain ⟨n1, d1, l1⟩ := found_facts h1 hk1
  obtain ⟨n2, d2, l2⟩ := found_facts h2 hk2
  have s1 : k1.shown = "[J" := by rw [shown_of n1 d1]; decide +kernel
  have s2 : k2.shown = "[I" := by rw [shown_of n2 d2]; decide +kernel
  have p1 : k1.ofPrimitives = true := prims_of n1 a1 (by decide +kernel)
  have p2 : k2.ofPrimitives = true := prims_of n2 a2 (by decide +kernel)
  have m1 : vm.moduleOf k1 = vm.modules.find? (·.name == "java.base") := by unfold Vm.moduleOf; rw [if_pos p1]
  have m2 : vm.moduleOf k2 = vm.modules.find? (·.name == "java.base") := by unfold Vm.moduleOf; rw [if_pos p2]
  have lo : vm.loaderName k1.loader = "'bootstrap'" := by rw [l1]; rfl
  have same : vm.sameModule k1 k2 = true := by
    unfold Vm.sameModule
    rw [m1, m2, l1, l2]
    cases vm.modules.find? (·.name == "java.base") with
    | none => rfl
    | some x => simp
  unfold checkcast.message Vm.homes
  rw [if_pos same, s1, s2]
  unfold Vm.home
  rw [m1, lo]
  cases hm : vm.modules.find? (·.name == "java.base") with
  | none =>
    right
    show (toString "class " ++ toString "[J" ++ toString " cannot be cast to class " ++ toString "[I" ++ toString " (" ++ toString (toString "[J" ++ toString " and " ++ toString "[I" ++ toString " are in " ++ toString ("unnamed module" ++ " of loader " ++ "'bootstrap'")) ++ toString ")") = cceB
    decide +kernel
  | some x =>
    left
    have hx : x.name = "java.base" := by
      have := List.find?_some hm
      exact eq_of_beq this
    show (toString "class " ++ toString "[J" ++ toString " cannot be cast to class " ++ toString "[I" ++ toString " (" ++ toString (toString "[J" ++ toString " and " ++ toString "[I" ++ toString " are in " ++ toString ("module " ++ x.name ++ " of loader " ++ "'bootstrap'")) ++ toString ")") = cceA
    rw [hx]
    decide +kernel
theorem cceA_ok : (cceA == notModelled) = false ∧ (stringBytes (stringToUtf16 cceA)).size ≤ 200 := by decide +kernel
theorem cceB_ok : (cceB == notModelled) = false ∧ (stringBytes (stringToUtf16 cceB)).size ≤ 200 := by decide +kernel
section ZCF
variable {p : Program} {l : Launch} {e : Env} {R : Room} {s : State} {m : MethodId} {args : Array Value} {below : List Frame} {meth : Method} {c : Code} {H : Heap} {locs : List Loc} {cells slots : Nat} {Q : State → Prop}
variable {gp : Nat → Nat} {own : String} {cc : ByteArray} {pc nL : Nat} {ls : Array Slot} {rest : List Value} {a : Nat} {D : va_G} {K : Nat → ClassId} {A : Nat → Prop} {Z : c_S}
theorem zx_castF {index n : Nat} (S : CallFix p m c cc nL s args lw_all own) (hW : z_W gp D K A s Z H locs) (hs : Z.Sh a = some (d_lng 4 n)) (hcl : Cond.classLink own index "[I" ∈ lw_all) (hdg : decode cc pc = .ok (.checkcast index, 3))
    (k : ∀ text, (text = cceA ∨ text = cceB) → zNote p l e R s m args below meth c H locs cells slots Q (F0 m pc ls (.ref a :: rest)) "java/lang/ClassCastException" (some text)) : W p l e R s m args below meth c H locs cells slots Q (F0 m pc ls (.ref a :: rest)) := by
  intro T hT X
  obtain ⟨hexec, hb, -, hown, hts⟩ := S
  have hpl : e.platform.magicAccessors = ({} : Platform).magicAccessors := by rw [X.admits.platform]
  have fJ : s.vm.findClass "[J" = some (K 4) := z_nm (t := 4) hW (by omega)
  have fI : s.vm.findClass "[I" = some (K 0) := z_nm (t := 0) hW (by omega)
  obtain ⟨cT, hcT, hcl⟩ := Cond.classLink_spec hown (hts _ hcl) e.platform hpl
  cases hcT.symm.trans fI
  have hnc : va_Nc "[J" "[I" s := hW.1.2.2.2.2.1.2.2.2.2.2.2.2.1 ("[J", "[I") (by simp [ncW])
  obtain ⟨d1, d2, n1, n2, n3⟩ := hnc
  cases fJ.symm.trans n1
  cases fI.symm.trans n2
  obtain ⟨dk, _, _, kt, hd, _, _, _, _, hkt, _, hopen⟩ := hcl.here
  have hcl₀ := X.warmed.classLinks hcl
  have hW' : s.WarmedH (T.vm.noted m.cls index (.cls (K 0))) := X.warmed.noted hd hopen (State.rightAt_cls hcl)
  have X' := X.noted hW'
  have h0 : T.heap[a]? = some (vp_cell (K 4) (n, .inr (.inl (Z.L a)))) := by rw [hT]; exact hW.1.2.1.1 a _ hs
  obtain ⟨w1, k4, w2, cm4, w3⟩ := (hW.1.1.2 4 _ (g_T_at (F := cmF) rfl)).1 n (fun j => .long (Z.L a j))
  obtain ⟨w1', k0, w2', cm0, w3'⟩ := (hW.1.1.2 0 _ (g_T_at (F := cmF) rfl)).1 0 (fun j => .int 0)
  have w2 : s.vm.classes[K 4]? = some k4 := w2
  have w2' : s.vm.classes[K 0]? = some k0 := w2'
  obtain ⟨k4', g4, g4'⟩ := hW'.alike.2.2 _ _ w2
  obtain ⟨k0', g0, g0'⟩ := hW'.alike.2.2 _ _ w2'
  have hmsg := cast_msg (vm := T.vm.noted m.cls index (.cls (K 0))) (by rw [hW'.alike.findClass]; exact fJ) (by rw [hW'.alike.findClass]; exact fI) g4 g0 ⟨cm4, _, by rw [g4']; exact w3⟩ ⟨cm0, _, by rw [g0']; exact w3'⟩
  obtain ⟨t, h1, h2⟩ := k _ hmsg (T.setVm (T.vm.noted m.cls index (.cls (K 0)))) hT X'
  refine ⟨t, ?_, h2⟩
  subst hb
  jvm_step X.here [hexec, hdg, checkcast.wp_cold (e := e) (s := T) (f := F0 m pc ls (.ref a :: rest)) X.here.top rfl (resolveClass_links e.toSetting hcl₀) hcl₀.ready,
    checkcast.wp_ready (e := e) (s := T.setVm (T.vm.noted m.cls index (.cls (K 0)))) (f := F0 m pc ls (.ref a :: rest)) X.here.top hcl₀.ready rfl]
  refine ⟨_, h0, (fun q hq => by cases hq), k4', g4, k0', g0, ?_⟩
  rw [if_neg (by rw [show (vp_cell (K 4) (n, .inr (.inl (Z.L a)))).cls = K 4 from rfl, hW'.alike.assignable, n3]; decide)]
  exact h1
end ZCF
