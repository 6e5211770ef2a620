/-! dynamic worlds: new arrays, stores of references -/
set_option maxRecDepth 100000
section DA
variable {p : Program} {l : Launch} {e : Env} {R : Room} {s : State} {m : MethodId} {args : Array Value} {below : List Frame} {meth : Method} {c : Code} {H : Heap} {locs : List Loc} {cells slots : Nat} {Q : State → Prop}
variable {gp : Nat → Nat} {own : String} {cc : ByteArray} {pc nL : Nat} {ls : Array Slot} {rest st0 : List Value} {D : va_G} {cl : List vw_C} {F : List FieldType} {K : Nat → ClassId} {Sh Sh' : g_Sh} {A : Nat → Prop} {V V' : g_V} {L L' : g_L} {nx nx' : Nat} {a : Nat}
/-- a new cell at the heap's end -/
theorem d_push {H1 : Heap} {d : g_D} (hW : d_W gp D cl F K A s Sh V L nx H locs) (z1 : H1.size = nx + 1) (o1 : ∀ q, q < nx → H1[q]? = H[q]?) (hV : ∀ j, j ≠ nx → V' j = V j) (hL : ∀ j, j ≠ nx → L' j = L j) (he : va_at D cl (nx, g_e K idn (V' nx) (L' nx) d) H1) : d_W gp D cl F K A s (updS Sh nx d) V' L' (nx + 1) H1 locs := by
  have hsz := hW.1.2.2.2.2.2.2
  refine ⟨⟨hW.1.1, d_put hW.1.2.1 hV hL he (fun j d' hj hd => o1 j (d_lt hW hd)), ?_, ?_, hW.1.2.2.2.2.1, rfl, z1⟩, hW.2⟩
  · intro k d hk
    by_cases hka : k = nx
    · subst hka; rw [← hsz]; exact hW.2 _ hW.1.2.2.2.1.1
    · simp [updS, hka] at hk; exact hW.1.2.2.1 k _ hk
  · exact ⟨Nat.le_trans hW.1.2.2.2.1.1 (by omega), fun x h1 h2 => (o1 x (by have := hW.1.2.2.2.1.1; omega)).trans (hW.1.2.2.2.1.2.1 x h1 h2), hW.1.2.2.2.1.2.2⟩
theorem d_newi {atype : ArrayType} {t : Nat} {n : Int32} {N : Nat} (S : CallFix p m c cc nL s args lw_all own) (hW : d_W gp D cl F K A s Sh V L nx H locs) (harr : Cond.arrayClass (newarray.typeOf atype) ∈ lw_all) (ht : F[t]? = some (newarray.typeOf atype)) (hdv : defaultValue (newarray.typeOf atype) = .int 0) (hra : va_RA s (K t) (newarray.typeOf atype) → s.vm.findClass ("[" ++ (newarray.typeOf atype).toString) = some (K t)) (hn : ¬ n < 0) (hN : n.toNatClampNeg = N) (hbytes : N * componentBytes (newarray.typeOf atype) ≤ 536870912)
    (eS : Sh' = updS Sh nx (d_int t N)) (eV : V' = rowV V nx (fun _ => 0)) (en : nx' = nx + 1) (hcells : cells + 1 ≤ R.cells) (hslots : slots + N ≤ R.slots) (hdg : decode cc pc = .ok (.newarray atype, 2))
    (kk : ∀ H1 : Heap, d_W gp D cl F K A s Sh' V' L nx' H1 locs → W p l e R s m args below meth c H1 locs (cells + 1) (slots + N) Q (F0 m (pc + 2) ls (.ref nx :: rest))) : W p l e R s m args below meth c H locs cells slots Q (F0 m pc ls (.int n :: rest)) := by
  obtain ⟨hx, hb, -, hown, hts⟩ := S
  subst eS; subst eV; subst en
  refine va_newaK hx hb (hts _ harr) rfl hdg rfl hn hN hbytes hcells hslots hW.1.2.2.2.2.2.2 fun H1 cA e1 z1 o1 hAr hNm => ?_
  have hcA : cA = K t := Option.some.inj (hNm.symm.trans (hra (hW.1.1.2 t _ (g_T_at ht)).2))
  subst hcA
  refine kk H1 (d_push hW z1 o1 (fun j hj => by simp [rowV, hj]) (fun _ _ => rfl) ?_)
  show H1[nx]? = some (vp_cell (K t) (N, .inl (rowV V nx (fun _ => 0) nx)))
  rw [e1, hdv, vp_cell_i]
  simp [rowV]
theorem d_newl {t : Nat} {n : Int32} {N : Nat} (S : CallFix p m c cc nL s args lw_all own) (hW : d_W gp D cl F K A s Sh V L nx H locs) (harr : Cond.arrayClass .long ∈ lw_all) (ht : F[t]? = some .long) (hn : ¬ n < 0) (hN : n.toNatClampNeg = N) (hbytes : N * componentBytes .long ≤ 536870912)
    (eS : Sh' = updS Sh nx (d_lng t N)) (eL : L' = rowL L nx (fun _ => 0)) (en : nx' = nx + 1) (hcells : cells + 1 ≤ R.cells) (hslots : slots + N ≤ R.slots) (hdg : decode cc pc = .ok (.newarray .long, 2))
    (kk : ∀ H1 : Heap, d_W gp D cl F K A s Sh' V L' nx' H1 locs → W p l e R s m args below meth c H1 locs (cells + 1) (slots + N) Q (F0 m (pc + 2) ls (.ref nx :: rest))) : W p l e R s m args below meth c H locs cells slots Q (F0 m pc ls (.int n :: rest)) := by
  obtain ⟨hx, hb, -, hown, hts⟩ := S
  subst eS; subst eL; subst en
  refine va_newaK (atype := .long) hx hb (hts _ harr) rfl hdg rfl hn hN hbytes hcells hslots hW.1.2.2.2.2.2.2 fun H1 cA e1 z1 o1 hAr hNm => ?_
  have hra : s.vm.findClass ("[" ++ FieldType.long.toString) = some (K t) := (hW.1.1.2 t _ (g_T_at ht)).2
  have hcA : cA = K t := Option.some.inj (hNm.symm.trans hra)
  subst hcA
  refine kk H1 (d_push hW z1 o1 (fun _ _ => rfl) (fun j hj => by simp [rowL, hj]) ?_)
  show H1[nx]? = some (vp_cell (K t) (N, .inr (.inl (rowL L nx (fun _ => 0) nx))))
  rw [e1, vp_cell_l]
  simp [rowL, newarray.typeOf, defaultValue]
theorem d_newr {C : String} {index t : Nat} {n : Int32} {N : Nat} (S : CallFix p m c cc nL s args lw_all own) (hW : d_W gp D cl F K A s Sh V L nx H locs) (hclink : Cond.classLink own index C ∈ lw_all) (hover : va_AO C s) (ht : F[t]? = some (.object C)) (hn : ¬ n < 0) (hN : n.toNatClampNeg = N) (hbytes : N * 4 ≤ 536870912)
    (eS : Sh' = updS Sh nx (d_ref t N (fun _ => none))) (en : nx' = nx + 1) (hcells : cells + 1 ≤ R.cells) (hslots : slots + N ≤ R.slots) (hdg : decode cc pc = .ok (.anewarray index, 3))
    (kk : ∀ H1 : Heap, d_W gp D cl F K A s Sh' V L nx' H1 locs → W p l e R s m args below meth c H1 locs (cells + 1) (slots + N) Q (F0 m (pc + 3) ls (.ref nx :: rest))) : W p l e R s m args below meth c H locs cells slots Q (F0 m pc ls (.int n :: rest)) := by
  obtain ⟨hx, hb, -, hown, hts⟩ := S
  subst eS; subst en; subst hN
  have hsz := hW.1.2.2.2.2.2.2
  refine W.anew hx hb hown (hts _ hclink) (va_AO.use hover) rfl hdg rfl hn hbytes hcells hslots fun cA kA comp f1 f2 f3 f4 => ?_
  generalize hH1 : H.push ({ cls := cA, slots := Array.replicate n.toNatClampNeg .null, vm := .none } : Cell) = H1
  have z1 : H1.size = nx + 1 := by rw [← hH1, Array.size_push, hsz]
  have e1 : H1[nx]? = some (arrV cA n.toNatClampNeg (fun _ => .null)) := by rw [← hsz, ← hH1, Array.getElem?_push_size, ← arrV_new]
  have o1 : ∀ q : Nat, q < nx → H1[q]? = H[q]? := fun q hq => by rw [← hH1, Array.getElem?_push, if_neg (by omega)]
  obtain ⟨kA', comp', g1, g2, g3, g4⟩ := (hW.1.1.2 t _ (g_T_at ht)).2
  have hcA : cA = K t := Option.some.inj (f1.symm.trans g4)
  subst hcA
  rw [hsz]
  refine kk H1 (d_push hW z1 o1 (fun _ _ => rfl) (fun _ _ => rfl) ?_)
  show H1[nx]? = some (vp_cell (K t) (n.toNatClampNeg, .inr (.inr (.inr (.inr (fun i => Option.map idn none))))))
  rw [e1, vp_cell_q]
  rfl
/-- a reference is stored: null, or an object that may lie there -/
theorem d_aastN {C : String} {t n : Nat} {f : Nat → Option Nat} {i : Int32} (S : CallFix p m c cc nL s args lw_all own) (hW : d_W gp D cl F K A s Sh V L nx H locs) (hs : Sh a = some (d_ref t n f)) (ht : F[t]? = some (.object C)) (hin : vp_in i n) (eS : Sh' = updS Sh a (d_ref t n (va_up f i.toNatClampNeg none))) (hdg : decode cc pc = .ok (.aastore, 1))
    (kk : ∀ (H1 : Heap) (locs1 : List Loc), d_W gp D cl F K A s Sh' V L nx H1 locs1 → W p l e R s m args below meth c H1 locs1 cells slots Q (F0 m (pc + 1) ls rest)) : W p l e R s m args below meth c H locs cells slots Q (F0 m pc ls (.null :: .int i :: .ref a :: rest)) := by
  obtain ⟨hx, hb, -, hown, hts⟩ := S
  subst eS
  have h0 : H[a]? = some (vp_cell (K t) (n, .inr (.inr (.inr (.inr (fun i => (f i).map idn)))))) := hW.1.2.1.1 a _ hs
  refine va_WaastN (C := C) hx hb h0 ((hW.1.1.2 t _ (g_T_at ht)).1 n (fun j => va_rf ((f j).map idn))) (fun h => by cases h) (by show ¬ (i < 0 ∨ (arrV _ _ _).slots.size ≤ _); rw [arrV_size]; exact hin) rfl rfl hdg fun H1 e z oq => ?_
  refine kk H1 _ ⟨⟨hW.1.1, d_put hW.1.2.1 (fun _ _ => rfl) (fun _ _ => rfl) ?_ (fun j d' hj _ => oq j hj), ?_, hW.1.2.2.2.1.put z oq (hW.1.2.2.1 a _ hs), hW.1.2.2.2.2.1, rfl, z.trans hW.1.2.2.2.2.2.2⟩, hW.2⟩
  · show H1[a]? = some (vp_cell (K t) (n, .inr (.inr (.inr (.inr (fun j => (va_up f i.toNatClampNeg none j).map idn))))))
    rw [e, vp_cell_q, vp_cell_q, arrV_store]
    congr 2
    funext q
    by_cases hq : q = i.toNatClampNeg
    · subst hq
      simp [updV, va_up, va_rf]
    · simp [updV, va_up, hq]
  · intro k d hk
    by_cases hka : k = a
    · subst hka; exact hW.1.2.2.1 k _ hs
    · simp [updS, hka] at hk; exact hW.1.2.2.1 k _ hk
theorem d_aast {C C' : String} {T : u_T} {t n v ci N : Nat} {rf : Nat → Option (Option Nat)} {f : Nat → Option Nat} {i : Int32} (S : CallFix p m c cc nL s args lw_all own) (hW : d_W gp D cl F K A s Sh V L nx H locs) (hs : Sh a = some (d_ref t n f)) (ht : F[t]? = some (.object C)) (hv : Sh v = some (d_obj ci N rf)) (hc : cl[ci]? = some (C', T, N)) (hasg : C' = C ∨ va_Nw (.castable C' C) s) (hin : vp_in i n) (eS : Sh' = updS Sh a (d_ref t n (va_up f i.toNatClampNeg (some v)))) (hdg : decode cc pc = .ok (.aastore, 1))
    (kk : ∀ (H1 : Heap) (locs1 : List Loc), d_W gp D cl F K A s Sh' V L nx H1 locs1 → W p l e R s m args below meth c H1 locs1 cells slots Q (F0 m (pc + 1) ls rest)) : W p l e R s m args below meth c H locs cells slots Q (F0 m pc ls (.ref v :: .int i :: .ref a :: rest)) := by
  obtain ⟨hx, hb, -, hown, hts⟩ := S
  subst eS
  have hlt : i.toNatClampNeg < n := Nat.not_le.mp fun q => hin (Or.inr q)
  have h00 : ¬ i < 0 := fun q => hin (Or.inl q)
  have h0 : H[a]? = some (vp_cell (K t) (n, .inr (.inr (.inr (.inr (fun i => (f i).map idn)))))) := hW.1.2.1.1 a _ hs
  obtain ⟨r', hr', cellV, g1, g2, g3, -⟩ := hW.1.2.1.1 v _ hv
  have hcls := (hW.1.1.1 ci _ hc).2
  obtain ⟨kA, comp, k1, k2, k3, -⟩ := (hW.1.1.2 t _ (g_T_at ht)).2
  obtain ⟨kC, hkC, -⟩ := hcls.2
  obtain ⟨kD, hkD, -⟩ := Vm.findClass_spec k3
  have hass : s.vm.assignable (D.1 ci) comp = true := by
    rcases hasg with rfl | hasg
    · have hcomp : comp = D.1 ci := Option.some.inj (k3.symm.trans hcls.1)
      rw [hcomp]; exact va_assign hcls
    · exact vb_asgC hasg comp (D.1 ci) k3 hcls.1
  refine W.aast hx hb h0 (fun q h => by cases h) (fun h => by cases h) k1 k2 rfl hkD ⟨h00, by show _ < (arrV _ _ _).slots.size; rw [arrV_size]; exact hlt⟩ g1 (fun q h => by rw [g3] at h; cases h) (by rw [g2]; exact hkC) (by rw [g2]; exact hass) rfl rfl hdg fun H1 e z oq => ?_
  refine kk H1 _ ⟨⟨hW.1.1, d_put hW.1.2.1 (fun _ _ => rfl) (fun _ _ => rfl) ?_ (fun j d' hj _ => oq j hj), ?_, hW.1.2.2.2.1.put z oq (hW.1.2.2.1 a _ hs), hW.1.2.2.2.2.1, rfl, z.trans hW.1.2.2.2.2.2.2⟩, hW.2⟩
  · show H1[a]? = some (vp_cell (K t) (n, .inr (.inr (.inr (.inr (fun j => (va_up f i.toNatClampNeg (some v) j).map idn))))))
    rw [e, vp_cell_q, vp_cell_q, arrV_store]
    congr 2
    funext q
    by_cases hq : q = i.toNatClampNeg
    · subst hq
      simp [updV, va_up, va_rf]
    · simp [updV, va_up, hq]
  · intro k d hk
    by_cases hka : k = a
    · subst hka; exact hW.1.2.2.1 k _ hs
    · simp [updS, hka] at hk; exact hW.1.2.2.1 k _ hk
end DA
