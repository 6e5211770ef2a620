/-! DYNAMIC WORLDS: names are addresses; Sh, V, L, nx (the heap's size) are what a method knows and changes -/
set_option maxRecDepth 100000
abbrev idn : Nat → Nat := fun k => k
def d_W (gp : Nat → Nat) (D : va_G) (cl : List vw_C) (F : List FieldType) (K : Nat → ClassId) (A : Nat → Prop) (s : State) (Sh : g_Sh) (V : g_V) (L : g_L) (nx : Nat) (H : Heap) (locs : List Loc) : Prop :=
  g_W gp nx D cl F K idn Sh A s s.heap V L H locs ∧ ∀ q, s.heap.size ≤ q → A q
abbrev d_obj (ci N : Nat) (rf : Nat → Option (Option Nat)) : g_D := .inr (.inr (.inr (ci, N, rf)))
abbrev d_ref (t n : Nat) (f : Nat → Option Nat) : g_D := .inr (.inr (.inl (t, n, f)))
abbrev d_lng (t n : Nat) : g_D := .inr (.inl (t, n))
abbrev d_int (t n : Nat) : g_D := .inl (t, n)
def updS (Sh : g_Sh) (a : Nat) (d : g_D) : g_Sh := fun k => if k = a then some d else Sh k
def updR (rf : Nat → Option (Option Nat)) (i : Nat) (o : Option Nat) : Nat → Option (Option Nat) := fun k => if k = i then some o else rf k
def rowV (V : g_V) (a : Nat) (v : Nat → Int32) : g_V := fun k => if k = a then v else V k
def rowL (L : g_L) (a : Nat) (v : Nat → Int64) : g_L := fun k => if k = a then v else L k
theorem d_lt {gp : Nat → Nat} {D : va_G} {cl : List vw_C} {F : List FieldType} {K : Nat → ClassId} {A : Nat → Prop} {s : State} {Sh : g_Sh} {V : g_V} {L : g_L} {nx : Nat} {H : Heap} {locs : List Loc} {k : Nat} {d : g_D} (hW : d_W gp D cl F K A s Sh V L nx H locs) (hs : Sh k = some d) : k < nx := by
  rw [← hW.1.2.2.2.2.2.2]; exact (hW.1.2.1.1 k d hs).lt
/-- one cell's descriptor and contents change, or it is new -/
theorem d_put {D : va_G} {cl : List vw_C} {K : Nat → ClassId} {Sh : g_Sh} {V V' : g_V} {L L' : g_L} {H H1 : Heap} {k : Nat} {d : g_D} (h : g_P D cl K idn Sh V L H) (hV : ∀ j, j ≠ k → V' j = V j) (hL : ∀ j, j ≠ k → L' j = L j)
    (he : va_at D cl (k, g_e K idn (V' k) (L' k) d) H1) (oq : ∀ j d', j ≠ k → Sh j = some d' → H1[j]? = H[j]?) : g_P D cl K idn (updS Sh k d) V' L' H1 := by
  refine ⟨fun j e hj => ?_, fun _ _ _ _ _ _ h => h⟩
  by_cases hjk : j = k
  · subst hjk
    simp [updS] at hj
    subst hj
    exact he
  · simp [updS, hjk] at hj
    rw [hV j hjk, hL j hjk]
    exact (h.1 j e hj).kept (oq j e hjk hj)
theorem d_fv {rf : Nat → Option (Option Nat)} {v : Nat → Int32} {i : Nat} {o : Option Nat} (hr : rf i = some o) : g_fv idn rf v i = va_rf o := by
  cases o <;> simp [g_fv, hr, va_rf]
/-- a field's entry: the class's own, or a nest mate's -/
def d_lk (own : String) (index : Nat) (ref name desc : String) : Prop := Cond.fieldLink own index ref name desc ∈ lw_all ∨ ∃ host, Cond.fieldLinkNest own index ref name desc host ∈ nestW
section DR
variable {p : Program} {l : Launch} {e : Env} {R : Room} {s : State} {m : MethodId} {args : Array Value} {below : List Frame} {meth : Method} {c : Code} {H : Heap} {locs : List Loc} {cells slots : Nat} {Q : State → Prop}
variable {gp : Nat → Nat} {own : String} {cc : ByteArray} {pc nL : Nat} {ls : Array Slot} {rest st0 : List Value} {D : va_G} {cl : List vw_C} {F : List FieldType} {K : Nat → ClassId} {Sh Sh' : g_Sh} {A : Nat → Prop} {V V' : g_V} {L L' : g_L} {nx : Nat} {a : Nat}
theorem d_alen {d : g_D} {t n : Nat} {ty : FieldType} {v : Int32} (S : CallFix p m c cc nL s args lw_all own) (hW : d_W gp D cl F K A s Sh V L nx H locs) (hs : Sh a = some d) (hd : d = d_int t n ∨ d = d_lng t n ∨ ∃ f, d = d_ref t n f) (ht : F[t]? = some ty) (hv : Int32.ofNat n = v) (hdg : decode cc pc = .ok (.arraylength, 1))
    (kk : W p l e R s m args below meth c H locs cells slots Q (F0 m (pc + 1) ls (.int v :: rest))) : W p l e R s m args below meth c H locs cells slots Q (F0 m pc ls (.ref a :: rest)) := by
  rcases hd with rfl | rfl | ⟨f, rfl⟩
  · exact va_alen S.1 S.2.1 hW.1.1 (g_one hW.1 (k := a) hs) 0 t rfl (g_T_at ht) hv hdg kk
  · exact va_alen S.1 S.2.1 hW.1.1 (g_one hW.1 (k := a) hs) 0 t rfl (g_T_at ht) hv hdg kk
  · exact va_alen S.1 S.2.1 hW.1.1 (g_one hW.1 (k := a) hs) 0 t rfl (g_T_at ht) hv hdg kk
theorem d_aald {t n : Nat} {f : Nat → Option Nat} {C : String} {i : Int32} {o : Option Nat} (S : CallFix p m c cc nL s args lw_all own) (hW : d_W gp D cl F K A s Sh V L nx H locs) (hs : Sh a = some (d_ref t n f)) (ht : F[t]? = some (.object C)) (hin : vp_in i n) (eo : o = f i.toNatClampNeg) (hdg : decode cc pc = .ok (.aaload, 1))
    (kk : W p l e R s m args below meth c H locs cells slots Q (F0 m (pc + 1) ls (va_rf o :: rest))) : W p l e R s m args below meth c H locs cells slots Q (F0 m pc ls (.int i :: .ref a :: rest)) := by
  subst eo
  refine va_aldq S.1 S.2.1 hW.1.1 (g_one hW.1 (k := a) hs) 0 t rfl (g_T_at ht) hin hdg ?_
  show W p l e R s m args below meth c H locs cells slots Q (F0 m (pc + 1) ls (va_rf ((f i.toNatClampNeg).map idn) :: rest))
  rw [show (f i.toNatClampNeg).map idn = f i.toNatClampNeg by cases f i.toNatClampNeg <;> rfl]
  exact kk
theorem d_getv {C ref : String} {T : u_T} {N ci index : Nat} {rf : Nat → Option (Option Nat)} {v : Value} (S : CallFix p m c cc nL s args lw_all own) (hW : d_W gp D cl F K A s Sh V L nx H locs) (hs : Sh a = some (d_obj ci N rf)) (hc : cl[ci]? = some (C, T, N)) (hin : ∀ w ∈ u_ws C T N, w ∈ lw_all) (i : Nat) (hi : i < N) (hq : d_lk own index ref (T i).2.1 (T i).2.2.1) (hsame : ∀ x, s.fieldFound? (T i).1 (T i).2.1 (T i).2.2.1 = some x → s.fieldFound? ref (T i).2.1 (T i).2.2.1 = some x)
    (hv : g_fv idn rf (V a) i = v) (hdg : decode cc pc = .ok (.getfield index, 3))
    (kk : W p l e R s m args below meth c H locs cells slots Q (F0 m (pc + 3) ls (v :: rest))) : W p l e R s m args below meth c H locs cells slots Q (F0 m pc ls (.ref a :: rest)) := by
  obtain ⟨hx, hb, -, hown, hts⟩ := S
  subst hv
  rcases hq with hq | ⟨host, hq⟩
  · exact va_get hx hb hts hin hown hW.1.1 (g_one hW.1 (k := a) hs) 0 rfl hc i hi (hts _ hq) hsame (g_fs hi) hdg kk
  · exact va_getN hx hb hts hin hown hW.1.1 (g_one hW.1 (k := a) hs) 0 rfl hc i hi (va_Nw.use rfl (hW.1.2.2.2.2.1.2.2.2.2.1 _ hq)) hsame (g_fs hi) hdg kk
/-- a field is written: its new contents given as a row of fields -/
theorem d_putv {C ref : String} {T : u_T} {N ci index : Nat} {rf rf' : Nat → Option (Option Nat)} {ty : FieldType} {v : Value} (S : CallFix p m c cc nL s args lw_all own) (hW : d_W gp D cl F K A s Sh V L nx H locs) (hs : Sh a = some (d_obj ci N rf)) (hc : cl[ci]? = some (C, T, N)) (hin : ∀ w ∈ u_ws C T N, w ∈ lw_all) (ty0 : Nat → FieldType) (hty : ∀ k, k < N → parseFieldDescriptor (T k).2.2.1 = some (ty0 k)) (hnm : ∀ a, a < N → ∀ b, b < N → a ≠ b → (T a).2.1 ≠ (T b).2.1)
    (i : Nat) (hi : i < N) (hfin : (T i).2.2.2 = false ∨ ((T i).2.2.2 = true ∧ meth.name = "<init>" ∧ (T i).1 = own ∧ Cond.fieldLink own index ref (T i).2.1 (T i).2.2.1 ∈ lw_all)) (hd : ty0 i = ty) (hn : narrow ty v = v) (hfit : fits ty v = true) (hq : d_lk own index ref (T i).2.1 (T i).2.2.1) (hsame : ∀ x, s.fieldFound? (T i).1 (T i).2.1 (T i).2.2.1 = some x → s.fieldFound? ref (T i).2.1 (T i).2.2.1 = some x)
    (hV : ∀ j, j ≠ a → V' j = V j) (hi' : g_fv idn rf' (V' a) i = v) (hj' : ∀ j, j ≠ i → g_fv idn rf' (V' a) j = g_fv idn rf (V a) j) (eS : Sh' = updS Sh a (d_obj ci N rf')) (hdg : decode cc pc = .ok (.putfield index, 3))
    (kk : ∀ (H1 : Heap) (locs1 : List Loc), d_W gp D cl F K A s Sh' V' L nx H1 locs1 → W p l e R s m args below meth c H1 locs1 cells slots Q (F0 m (pc + 3) ls rest)) : W p l e R s m args below meth c H locs cells slots Q (F0 m pc ls (v :: .ref a :: rest)) := by
  obtain ⟨hx, hb, -, hown, hts⟩ := S
  subst eS
  have hap := va_apart (own := own) hts hin ty0 hty hnm hW.1.1 hc
  obtain ⟨r, h1, cell, q1, q2, q3, q4⟩ := hW.1.2.1.1 a _ hs
  have hre : r = (C, T, N) := Option.some.inj (h1.symm.trans hc)
  subst hre
  obtain ⟨hS, hfc, kC, hkC, hkind⟩ := hW.1.1.1 ci _ hc
  obtain ⟨cf, kf, fi, f, hff, hsl⟩ := hS i hi
  have hlay := hts _ (hin _ (u_in_lay hi))
  unfold u_lay at hlay
  have hst := (u_facts hfc hkC (u_lays hts hin hi) hff).1
  have e9 : ∀ (rg : Nat → Option (Option Nat)) (w : Nat → Int32) (j : Nat), j < N → vp_V ((List.range N).map (g_fv idn rg w)) j = g_fv idn rg w j := fun rg w j hj => by
    show ((List.range N).map (g_fv idn rg w)).getD j .null = _
    rw [List.getD_eq_getElem?_getD, g_fs hj]; rfl
  have fin : ∀ H' : Heap, H'[a]? = some (cell.setSlot f.slot v) → H'.size = H.size → (∀ q, q ≠ a → H'[q]? = H[q]?) → W p l e R s m args below meth c H' (locs ++ [⟨a, f.slot⟩]) cells slots Q (F0 m (pc + 3) ls rest) := by
    intro H' e1 e2 e3
    rw [hsl] at e1 ⊢
    refine kk H' _ ⟨⟨hW.1.1, d_put hW.1.2.1 hV (fun _ _ => rfl) ⟨_, hc, t_OB.to (V := updV (vp_V ((List.range N).map (g_fv idn rf (V a)))) i v) ⟨_, e1, q2, q3, t_set q4 hap hi _⟩ (fun j hj => ?_)⟩ (fun j d' hj _ => e3 j hj), ?_, hW.1.2.2.2.1.put e2 e3 (hW.1.2.2.1 a _ hs), hW.1.2.2.2.2.1, rfl, e2.trans hW.1.2.2.2.2.2.2⟩, hW.2⟩
    · show updV _ i v j = vp_V ((List.range N).map (g_fv idn rf' (V' a))) j
      rw [e9 _ _ _ hj]
      by_cases hji : j = i
      · subst hji
        simp [updV, hi']
      · simp only [updV, if_neg hji]
        rw [e9 _ _ _ hj, hj' j hji]
    · intro k d hk
      by_cases hka : k = a
      · subst hka; exact hW.1.2.2.1 k _ hs
      · simp [updS, hka] at hk; exact hW.1.2.2.1 k _ hk
  rcases hfin with hfin | ⟨hfin, hin2, hdecl, hq2⟩
  · rw [if_neg (by rw [hfin]; decide)] at hlay
    have h6 := u_store hfc hkC hkind hlay hff (by rw [hty i hi, hd]) hn hfit
    rcases hq with hq | ⟨host, hq⟩
    · exact W.putK hx hb (f := f) ⟨hown, hts _ hq, ⟨_, _, _, hsame _ hff⟩, hst⟩ (by rw [q2]; exact h6) q1 q3 (by rw [hsl]; exact k2_hasslot (q4 i hi)) rfl rfl hdg fin
    · exact va_WputK hx hb (f := f) hown (va_Nw.use rfl (hW.1.2.2.2.2.1.2.2.2.2.1 _ hq)) (hsame _ hff) hst (by rw [q2]; exact h6) q1 q3 (by rw [hsl]; exact k2_hasslot (q4 i hi)) rfl rfl hdg fin
  · rw [if_pos hfin] at hlay
    have hcf : m.cls = cf := by
      obtain ⟨_, _, c', _, _, _, -, -, hf', -, -, -, hown2, -⟩ := Cond.laysFinal_spec hlay
      have e1 : c' = cf := by have := hff.symm.trans hf'; simp at this; exact this.1.symm
      rw [hdecl] at hown2
      rw [← e1]; exact Option.some.inj (hown.symm.trans hown2)
    have h6 := u_fits hfc hkC hkind (Or.inr hlay) hff (by rw [hty i hi, hd]) hn hfit
    exact W.putFinK hx hb hown (hts _ hq2) (hsame _ hff) hst hcf hin2 (by rw [q2]; exact h6) q1 q3 (by rw [hsl]; exact k2_hasslot (q4 i hi)) rfl rfl hdg fin
/-- a new object: every field at its first value -/
theorem d_new {C : String} {T : u_T} {N ci index nx' : Nat} {rf : Nat → Option (Option Nat)} (S : CallFix p m c cc nL s args lw_all own) (hW : d_W gp D cl F K A s Sh V L nx H locs) (hc : cl[ci]? = some (C, T, N)) (hin : ∀ w ∈ u_ws C T N, w ∈ lw_all) (ty0 : Nat → FieldType) (hty : ∀ k, k < N → parseFieldDescriptor (T k).2.2.1 = some (ty0 k))
    (hcl : Cond.classLink own index C ∈ lw_all) (hinst : Cond.instantiable C N ∈ lw_all) (hini : Cond.initialized C ∈ lw_all) (hfs : ∀ j, j < N → defaultValue (ty0 j) = g_fv idn rf (fun _ => 0) j) (eS : Sh' = updS Sh nx (d_obj ci N rf)) (eV : V' = rowV V nx (fun _ => 0)) (en : nx' = nx + 1) (hcells : cells + 1 ≤ R.cells) (hslots : slots + N ≤ R.slots) (hdg : decode cc pc = .ok (.new index, 3))
    (kk : ∀ H1 : Heap, d_W gp D cl F K A s Sh' V' L nx' H1 locs → W p l e R s m args below meth c H1 locs (cells + 1) (slots + N) Q (F0 m (pc + 3) ls (.ref nx :: rest))) : W p l e R s m args below meth c H locs cells slots Q (F0 m pc ls rest) := by
  obtain ⟨hx, hb, -, hown, hts⟩ := S
  subst eS; subst eV; subst en
  have hKn := hW.1.1.1 ci _ hc
  have hsz := hW.1.2.2.2.2.2.2
  refine W.newcK hx hb hown (hts _ hcl) (hts _ hinst) (hts _ hini) rfl hdg hcells hslots hKn.2.1 hsz fun H1 kC hkC e1 z1 o1 => ?_
  refine kk H1 ⟨⟨hW.1.1, d_put hW.1.2.1 (fun j hj => by simp [rowV, hj]) (fun _ _ => rfl) ⟨_, hc, ?_⟩ (fun j d' hj hd => o1 j (d_lt hW hd)), ?_, ?_, hW.1.2.2.2.2.1, rfl, z1⟩, hW.2⟩
  · refine (u_born ty0 hts hin hKn hkC e1 hty).to (fun j hj => ?_)
    show _ = ((List.range N).map (g_fv idn rf (rowV V nx (fun _ => 0) nx))).getD j .null
    rw [List.getD_eq_getElem?_getD, g_fs hj, hfs j hj]
    simp [rowV]
  · intro k d hk
    by_cases hka : k = nx
    · subst hka; rw [← hsz]; exact hW.2 _ hW.1.2.2.2.1.1
    · simp [updS, hka] at hk; exact hW.1.2.2.1 k _ hk
  · exact ⟨Nat.le_trans hW.1.2.2.2.1.1 (by omega), fun x h1 h2 => (o1 x (by have := hW.1.2.2.2.1.1; omega)).trans (hW.1.2.2.2.1.2.1 x h1 h2), hW.1.2.2.2.1.2.2⟩
end DR
