/-! NAMED WORLDS: cells by names; ints in V, longs in L, the shape in Sh, addresses in al -/
set_option maxRecDepth 100000
def upd2 (V : Nat → Nat → Int32) (k i : Nat) (x : Int32) : Nat → Nat → Int32 := fun j => if j = k then upd (V k) i x else V j
def updL2 (L : Nat → Nat → Int64) (k i : Nat) (x : Int64) : Nat → Nat → Int64 := fun j => if j = k then vp_updL (L k) i x else L j
/-- what a named cell is: ints (type's number, length); longs; references (by names); an object (class's number, fields, which of them are references) -/
abbrev g_D : Type := (Nat × Nat) ⊕ (Nat × Nat) ⊕ (Nat × Nat × (Nat → Option Nat)) ⊕ (Nat × Nat × (Nat → Option (Option Nat)))
abbrev g_Sh : Type := Nat → Option g_D
def g_fv (al : Nat → Nat) (r : Nat → Option (Option Nat)) (v : Nat → Int32) (i : Nat) : Value := match r i with
  | none => .int (v i)
  | some none => .null
  | some (some j) => .ref (al j)
def g_e (K : Nat → ClassId) (al : Nat → Nat) (v : Nat → Int32) (w : Nat → Int64) (d : g_D) : va_E := match d with
  | .inl q => .inl (K q.1, q.2, .inl v)
  | .inr (.inl q) => .inl (K q.1, q.2, .inr (.inl w))
  | .inr (.inr (.inl q)) => .inl (K q.1, q.2.1, .inr (.inr (.inr (.inr (fun i => (q.2.2 i).map al)))))
  | .inr (.inr (.inr q)) => .inr (q.1, (List.range q.2.1).map (g_fv al q.2.2 v))
def g_T (F : List FieldType) (K : Nat → ClassId) : List (ClassId × FieldType) := (List.range F.length).map (fun i => (K i, F.getD i .int))
theorem g_T_at {F : List FieldType} {K : Nat → ClassId} {t : Nat} {ty : FieldType} (h : F[t]? = some ty) : (g_T F K)[t]? = some (K t, ty) := by
  have hl : t < F.length := (List.getElem?_eq_some_iff.mp h).1
  unfold g_T
  rw [List.getElem?_map, List.getElem?_range hl]
  simp [List.getD, h]
def g_P (D : va_G) (cl : List vw_C) (K : Nat → ClassId) (al : Nat → Nat) (Sh : g_Sh) (V : Nat → Nat → Int32) (L : Nat → Nat → Int64) (H : Heap) : Prop :=
  (∀ k d, Sh k = some d → va_at D cl (al k, g_e K al (V k) (L k) d) H) ∧ ∀ j k d e, Sh j = some d → Sh k = some e → al j = al k → j = k
def g_A (al : Nat → Nat) (Sh : g_Sh) : Nat → Prop := fun q => ∃ k d, Sh k = some d ∧ q = al k
def g_W (gp : Nat → Nat) (nx : Nat) (D : va_G) (cl : List vw_C) (F : List FieldType) (K : Nat → ClassId) (al : Nat → Nat) (Sh : g_Sh) (A : Nat → Prop) (s : State) (H0 : Heap) (V : Nat → Nat → Int32) (L : Nat → Nat → Int64) (H : Heap) (locs : List Loc) : Prop :=
  va_K D cl (g_T F K) s ∧ g_P D cl K al Sh V L H ∧ (∀ k d, Sh k = some d → A (al k)) ∧ va_S A H0 H locs ∧ g_X gp A s ∧ H0 = s.heap ∧ H.size = nx
theorem g_P.put {D : va_G} {cl : List vw_C} {K : Nat → ClassId} {al : Nat → Nat} {Sh : g_Sh} {V V' : Nat → Nat → Int32} {L L' : Nat → Nat → Int64} {H H1 : Heap} {k : Nat} {d : g_D} (h : g_P D cl K al Sh V L H) (hk : Sh k = some d) (hV : ∀ j, j ≠ k → V' j = V j) (hL : ∀ j, j ≠ k → L' j = L j)
    (he : va_at D cl (al k, g_e K al (V' k) (L' k) d) H1) (oq : ∀ q : Nat, q ≠ al k → H1[q]? = H[q]?) : g_P D cl K al Sh V' L' H1 := by
  refine ⟨fun j e hj => ?_, h.2⟩
  by_cases hjk : j = k
  · subst hjk
    rw [hk] at hj
    cases hj
    exact he
  · rw [hV j hjk, hL j hjk]
    exact (h.1 j e hj).kept (oq _ (fun z => hjk (h.2 j k e d hj hk z)))
theorem upd2_ne {V : Nat → Nat → Int32} {k i : Nat} {x : Int32} : ∀ j, j ≠ k → upd2 V k i x j = V j := fun j h => by simp [upd2, h]
theorem upd2_eq {V : Nat → Nat → Int32} {k i : Nat} {x : Int32} : upd2 V k i x k = upd (V k) i x := by simp [upd2]
theorem updL2_ne {V : Nat → Nat → Int64} {k i : Nat} {x : Int64} : ∀ j, j ≠ k → updL2 V k i x j = V j := fun j h => by simp [updL2, h]
theorem updL2_eq {V : Nat → Nat → Int64} {k i : Nat} {x : Int64} : updL2 V k i x k = vp_updL (V k) i x := by simp [updL2]
theorem g_fs {al : Nat → Nat} {r : Nat → Option (Option Nat)} {v : Nat → Int32} {n i : Nat} (h : i < n) : ((List.range n).map (g_fv al r v))[i]? = some (g_fv al r v i) := by
  rw [List.getElem?_map, List.getElem?_range h]; rfl
theorem g_A_of {al : Nat → Nat} {Sh : g_Sh} {A : Nat → Prop} (h : ∀ k d, Sh k = some d → A (al k)) : ∀ q, g_A al Sh q → A q := by
  rintro q ⟨k, d, hk, rfl⟩
  exact h k d hk
section GR
variable {p : Program} {l : Launch} {e : Env} {R : Room} {s : State} {m : MethodId} {args : Array Value} {below : List Frame} {meth : Method} {c : Code} {H : Heap} {locs : List Loc} {cells slots : Nat} {Q : State → Prop}
variable {gp : Nat → Nat} {nx : Nat} {own : String} {cc : ByteArray} {pc nL : Nat} {ls : Array Slot} {rest st0 : List Value} {D : va_G} {cl : List vw_C} {F : List FieldType} {K : Nat → ClassId} {al : Nat → Nat} {Sh : g_Sh} {A : Nat → Prop} {H0 : Heap} {V V' : Nat → Nat → Int32} {L L' : Nat → Nat → Int64}
/-- a cell of the world, alone -/
theorem g_one {k : Nat} {d : g_D} (hW : g_W gp nx D cl F K al Sh A s H0 V L H locs) (hs : Sh k = some d) : va_P D cl [(al k, g_e K al (V k) (L k) d)] H := by
  intro i q hq
  have hz : i < 1 := (List.getElem?_eq_some_iff.mp hq).1
  rw [show i = 0 by omega] at hq
  cases hq
  exact hW.2.1.1 k d hs
theorem g_getv {C : String} {T : u_T} {N ci index k : Nat} {rf : Nat → Option (Option Nat)} (S : CallFix p m c cc nL s args lw_all own) (hW : g_W gp nx D cl F K al Sh A s H0 V L H locs) (hs : Sh k = some (.inr (.inr (.inr (ci, N, rf))))) (hc : cl[ci]? = some (C, T, N)) (hin : ∀ w ∈ u_ws C T N, w ∈ lw_all) (i : Nat) (hi : i < N) (hf : (T i).1 = C)
    (hq : Cond.fieldLink own index C (T i).2.1 (T i).2.2.1 ∈ lw_all) {v : Value} (hv : g_fv al rf (V k) i = v) (hdg : decode cc pc = .ok (.getfield index, 3))
    (kk : W p l e R s m args below meth c H locs cells slots Q (F0 m (pc + 3) ls (v :: rest))) : W p l e R s m args below meth c H locs cells slots Q (F0 m pc ls (.ref (al k) :: rest)) := by
  obtain ⟨hx, hb, -, hown, hts⟩ := S
  subst hv
  exact va_get hx hb hts hin hown hW.1 (g_one hW hs) 0 rfl hc i hi (hts _ hq) (fun x h => by rw [hf] at h; exact h) (g_fs hi) hdg kk
theorem g_iald {k t n : Nat} {i x : Int32} (S : CallFix p m c cc nL s args lw_all own) (hW : g_W gp nx D cl F K al Sh A s H0 V L H locs) (hs : Sh k = some (.inl (t, n))) (ht : F[t]? = some .int) (hin : vp_in i n) (ex : x = V k i.toNatClampNeg) (hdg : decode cc pc = .ok (.iaload, 1))
    (kk : W p l e R s m args below meth c H locs cells slots Q (F0 m (pc + 1) ls (.int x :: rest))) : W p l e R s m args below meth c H locs cells slots Q (F0 m pc ls (.int i :: .ref (al k) :: rest)) := by
  subst ex
  exact va_iald S.1 S.2.1 hW.1 (g_one hW hs) 0 t rfl (g_T_at ht) hin hdg kk
theorem g_bald {k t n : Nat} {i x : Int32} (S : CallFix p m c cc nL s args lw_all own) (hW : g_W gp nx D cl F K al Sh A s H0 V L H locs) (hs : Sh k = some (.inl (t, n))) (ht : F[t]? = some .byte) (hin : vp_in i n) (ex : x = V k i.toNatClampNeg) (hdg : decode cc pc = .ok (.baload, 1))
    (kk : W p l e R s m args below meth c H locs cells slots Q (F0 m (pc + 1) ls (.int x :: rest))) : W p l e R s m args below meth c H locs cells slots Q (F0 m pc ls (.int i :: .ref (al k) :: rest)) := by
  subst ex
  exact va_bald S.1 S.2.1 hW.1 (g_one hW hs) 0 t rfl (g_T_at ht) hin hdg kk
theorem g_zald {k t n : Nat} {i x : Int32} (S : CallFix p m c cc nL s args lw_all own) (hW : g_W gp nx D cl F K al Sh A s H0 V L H locs) (hs : Sh k = some (.inl (t, n))) (ht : F[t]? = some .boolean) (hin : vp_in i n) (ex : x = V k i.toNatClampNeg) (hdg : decode cc pc = .ok (.baload, 1))
    (kk : W p l e R s m args below meth c H locs cells slots Q (F0 m (pc + 1) ls (.int x :: rest))) : W p l e R s m args below meth c H locs cells slots Q (F0 m pc ls (.int i :: .ref (al k) :: rest)) := by
  subst ex
  exact va_zald S.1 S.2.1 hW.1 (g_one hW hs) 0 t rfl (g_T_at ht) hin hdg kk
theorem g_lald {k t n : Nat} {i : Int32} {x : Int64} (S : CallFix p m c cc nL s args lw_all own) (hW : g_W gp nx D cl F K al Sh A s H0 V L H locs) (hs : Sh k = some (.inr (.inl (t, n)))) (ht : F[t]? = some .long) (hin : vp_in i n) (ex : x = L k i.toNatClampNeg) (hdg : decode cc pc = .ok (.laload, 1))
    (kk : W p l e R s m args below meth c H locs cells slots Q (F0 m (pc + 1) ls (.long x :: rest))) : W p l e R s m args below meth c H locs cells slots Q (F0 m pc ls (.int i :: .ref (al k) :: rest)) := by
  subst ex
  exact va_lald S.1 S.2.1 hW.1 (g_one hW hs) 0 t rfl (g_T_at ht) hin hdg kk
theorem g_alen {k t n : Nat} {ty : FieldType} {v : Int32} (S : CallFix p m c cc nL s args lw_all own) (hW : g_W gp nx D cl F K al Sh A s H0 V L H locs) (hs : Sh k = some (.inl (t, n))) (ht : F[t]? = some ty) (hv : Int32.ofNat n = v) (hdg : decode cc pc = .ok (.arraylength, 1))
    (kk : W p l e R s m args below meth c H locs cells slots Q (F0 m (pc + 1) ls (.int v :: rest))) : W p l e R s m args below meth c H locs cells slots Q (F0 m pc ls (.ref (al k) :: rest)) :=
  va_alen S.1 S.2.1 hW.1 (g_one hW hs) 0 t rfl (g_T_at ht) hv hdg kk
theorem g_iast {k t n : Nat} {i x : Int32} (S : CallFix p m c cc nL s args lw_all own) (hW : g_W gp nx D cl F K al Sh A s H0 V L H locs) (hs : Sh k = some (.inl (t, n))) (ht : F[t]? = some .int) (hin : vp_in i n) (eV : V' = upd2 V k i.toNatClampNeg x) (hdg : decode cc pc = .ok (.iastore, 1))
    (kk : ∀ (H1 : Heap) (locs1 : List Loc), g_W gp nx D cl F K al Sh A s H0 V' L H1 locs1 → W p l e R s m args below meth c H1 locs1 cells slots Q (F0 m (pc + 1) ls rest)) : W p l e R s m args below meth c H locs cells slots Q (F0 m pc ls (.int x :: .int i :: .ref (al k) :: rest)) := by
  obtain ⟨hx, hb, -, hown, hts⟩ := S
  subst eV
  have h0 := hW.2.1.1 k _ hs
  refine W.iast hx hb (show H[al k]? = some (vp_cell (K t) (n, .inl (V k))) from h0) ((hW.1.2 t _ (g_T_at ht)).1 n (fun j => .int (V k j))) (fun q => by cases q) (by show ¬ (i < 0 ∨ (arrV _ _ _).slots.size ≤ _); rw [arrV_size]; exact hin) rfl rfl hdg fun H1 e z oq => ?_
  refine kk H1 _ ⟨hW.1, hW.2.1.put hs upd2_ne (fun _ _ => rfl) ?_ oq, hW.2.2.1, hW.2.2.2.1.put z oq (hW.2.2.1 k _ hs), hW.2.2.2.2.1, hW.2.2.2.2.2.1, z.trans hW.2.2.2.2.2.2⟩
  show H1[al k]? = some (vp_cell (K t) (n, .inl (upd2 V k i.toNatClampNeg x k)))
  rw [e, upd2_eq, vp_cell_i, vp_cell_i, arrV_store]
  congr 2
  funext q
  by_cases hq : q = i.toNatClampNeg
  · subst hq
    simp [updV, upd]
  · simp [updV, upd, hq]
theorem g_bast {k t n : Nat} {i x : Int32} (S : CallFix p m c cc nL s args lw_all own) (hW : g_W gp nx D cl F K al Sh A s H0 V L H locs) (hs : Sh k = some (.inl (t, n))) (ht : F[t]? = some .byte) (hin : vp_in i n) (eV : V' = upd2 V k i.toNatClampNeg x) (hx8 : vp_nar .byte x = x) (hdg : decode cc pc = .ok (.bastore, 1))
    (kk : ∀ (H1 : Heap) (locs1 : List Loc), g_W gp nx D cl F K al Sh A s H0 V' L H1 locs1 → W p l e R s m args below meth c H1 locs1 cells slots Q (F0 m (pc + 1) ls rest)) : W p l e R s m args below meth c H locs cells slots Q (F0 m pc ls (.int x :: .int i :: .ref (al k) :: rest)) := by
  obtain ⟨hx, hb, -, hown, hts⟩ := S
  subst eV
  have h0 := hW.2.1.1 k _ hs
  refine W.bast hx hb (show H[al k]? = some (vp_cell (K t) (n, .inl (V k))) from h0) ((hW.1.2 t _ (g_T_at ht)).1 n (fun j => .int (V k j))) (fun q => by cases q) (by show ¬ (i < 0 ∨ (arrV _ _ _).slots.size ≤ _); rw [arrV_size]; exact hin) rfl rfl hdg fun H1 e z oq => ?_
  refine kk H1 _ ⟨hW.1, hW.2.1.put hs upd2_ne (fun _ _ => rfl) ?_ oq, hW.2.2.1, hW.2.2.2.1.put z oq (hW.2.2.1 k _ hs), hW.2.2.2.2.1, hW.2.2.2.2.2.1, z.trans hW.2.2.2.2.2.2⟩
  show H1[al k]? = some (vp_cell (K t) (n, .inl (upd2 V k i.toNatClampNeg x k)))
  rw [e, upd2_eq, vp_cell_i, vp_cell_i, arrV_store]
  congr 2
  funext q
  by_cases hq : q = i.toNatClampNeg
  · subst hq
    have h9 : narrow .byte (.int x) = .int (vp_nar .byte x) := rfl
    simp [updV, upd, h9, hx8]
  · simp [updV, upd, hq]
theorem g_zast {k t n : Nat} {i x : Int32} (S : CallFix p m c cc nL s args lw_all own) (hW : g_W gp nx D cl F K al Sh A s H0 V L H locs) (hs : Sh k = some (.inl (t, n))) (ht : F[t]? = some .boolean) (hin : vp_in i n) (eV : V' = upd2 V k i.toNatClampNeg x) (hx8 : vp_nar .boolean x = x) (hdg : decode cc pc = .ok (.bastore, 1))
    (kk : ∀ (H1 : Heap) (locs1 : List Loc), g_W gp nx D cl F K al Sh A s H0 V' L H1 locs1 → W p l e R s m args below meth c H1 locs1 cells slots Q (F0 m (pc + 1) ls rest)) : W p l e R s m args below meth c H locs cells slots Q (F0 m pc ls (.int x :: .int i :: .ref (al k) :: rest)) := by
  obtain ⟨hx, hb, -, hown, hts⟩ := S
  subst eV
  have h0 := hW.2.1.1 k _ hs
  refine W.zast hx hb (show H[al k]? = some (vp_cell (K t) (n, .inl (V k))) from h0) ((hW.1.2 t _ (g_T_at ht)).1 n (fun j => .int (V k j))) (fun q => by cases q) (by show ¬ (i < 0 ∨ (arrV _ _ _).slots.size ≤ _); rw [arrV_size]; exact hin) rfl rfl hdg fun H1 e z oq => ?_
  refine kk H1 _ ⟨hW.1, hW.2.1.put hs upd2_ne (fun _ _ => rfl) ?_ oq, hW.2.2.1, hW.2.2.2.1.put z oq (hW.2.2.1 k _ hs), hW.2.2.2.2.1, hW.2.2.2.2.2.1, z.trans hW.2.2.2.2.2.2⟩
  show H1[al k]? = some (vp_cell (K t) (n, .inl (upd2 V k i.toNatClampNeg x k)))
  rw [e, upd2_eq, vp_cell_i, vp_cell_i, arrV_store]
  congr 2
  funext q
  by_cases hq : q = i.toNatClampNeg
  · subst hq
    have h9 : narrow .boolean (.int x) = .int (vp_nar .boolean x) := rfl
    simp [updV, upd, h9, hx8]
  · simp [updV, upd, hq]
theorem g_last {k t n : Nat} {i : Int32} {x : Int64} (S : CallFix p m c cc nL s args lw_all own) (hW : g_W gp nx D cl F K al Sh A s H0 V L H locs) (hs : Sh k = some (.inr (.inl (t, n)))) (ht : F[t]? = some .long) (hin : vp_in i n) (eL : L' = updL2 L k i.toNatClampNeg x) (hdg : decode cc pc = .ok (.lastore, 1))
    (kk : ∀ (H1 : Heap) (locs1 : List Loc), g_W gp nx D cl F K al Sh A s H0 V L' H1 locs1 → W p l e R s m args below meth c H1 locs1 cells slots Q (F0 m (pc + 1) ls rest)) : W p l e R s m args below meth c H locs cells slots Q (F0 m pc ls (.long x :: .int i :: .ref (al k) :: rest)) := by
  obtain ⟨hx, hb, -, hown, hts⟩ := S
  subst eL
  have h0 := hW.2.1.1 k _ hs
  refine W.last hx hb (show H[al k]? = some (vp_cell (K t) (n, .inr (.inl (L k)))) from h0) ((hW.1.2 t _ (g_T_at ht)).1 n (fun j => .long (L k j))) (fun q => by cases q) (by show ¬ (i < 0 ∨ (arrV _ _ _).slots.size ≤ _); rw [arrV_size]; exact hin) rfl rfl hdg fun H1 e z oq => ?_
  refine kk H1 _ ⟨hW.1, hW.2.1.put hs (fun _ _ => rfl) updL2_ne ?_ oq, hW.2.2.1, hW.2.2.2.1.put z oq (hW.2.2.1 k _ hs), hW.2.2.2.2.1, hW.2.2.2.2.2.1, z.trans hW.2.2.2.2.2.2⟩
  show H1[al k]? = some (vp_cell (K t) (n, .inr (.inl (updL2 L k i.toNatClampNeg x k))))
  rw [e, updL2_eq, vp_cell_l, vp_cell_l, arrV_store]
  congr 2
  funext q
  by_cases hq : q = i.toNatClampNeg
  · subst hq
    simp [updV, vp_updL]
  · simp [updV, vp_updL, hq]
/-- an int-like field is written -/
theorem g_puti {C : String} {T : u_T} {N ci index k : Nat} {rf : Nat → Option (Option Nat)} {ty : FieldType} {x : Int32} (S : CallFix p m c cc nL s args lw_all own) (hW : g_W gp nx D cl F K al Sh A s H0 V L H locs) (hs : Sh k = some (.inr (.inr (.inr (ci, N, rf))))) (hc : cl[ci]? = some (C, T, N)) (hin : ∀ w ∈ u_ws C T N, w ∈ lw_all) (ty0 : Nat → FieldType) (hty : ∀ k, k < N → parseFieldDescriptor (T k).2.2.1 = some (ty0 k)) (hnm : ∀ a, a < N → ∀ b, b < N → a ≠ b → (T a).2.1 ≠ (T b).2.1)
    (i : Nat) (hi : i < N) (hf : (T i).1 = C) (hfin : (T i).2.2.2 = false) (hr : rf i = none) (hd : ty0 i = ty) (hn : narrow ty (.int x) = .int x) (hfit : fits ty (.int x) = true) (hq : Cond.fieldLink own index C (T i).2.1 (T i).2.2.1 ∈ lw_all) (eV : V' = upd2 V k i x) (hdg : decode cc pc = .ok (.putfield index, 3))
    (kk : ∀ (H1 : Heap) (locs1 : List Loc), g_W gp nx D cl F K al Sh A s H0 V' L H1 locs1 → W p l e R s m args below meth c H1 locs1 cells slots Q (F0 m (pc + 3) ls rest)) : W p l e R s m args below meth c H locs cells slots Q (F0 m pc ls (.int x :: .ref (al k) :: rest)) := by
  obtain ⟨hx, hb, -, hown, hts⟩ := S
  subst eV
  have hap := va_apart (own := own) hts hin ty0 hty hnm hW.1 hc
  obtain ⟨r, h1, cell, q1, q2, q3, q4⟩ := hW.2.1.1 k _ hs
  have hre : r = (C, T, N) := Option.some.inj (h1.symm.trans hc)
  subst hre
  obtain ⟨hS, hfc, kC, hkC, hkind⟩ := hW.1.1 ci _ hc
  obtain ⟨cf, kf, fi, f, hff, hsl⟩ := hS i hi
  have hlay := hts _ (hin _ (u_in_lay hi))
  unfold u_lay at hlay
  rw [if_neg (by rw [hfin]; decide)] at hlay
  have hst := (u_facts hfc hkC (u_lays hts hin hi) hff).1
  have h6 := u_store hfc hkC hkind hlay hff (by rw [hty i hi, hd]) hn hfit
  refine W.putK hx hb (f := f) ⟨hown, hts _ hq, ⟨_, _, _, by rw [hf] at hff; exact hff⟩, hst⟩ (by rw [q2]; exact h6) q1 q3 (by rw [hsl]; exact k2_hasslot (q4 i hi)) rfl rfl hdg fun H' e1 e2 e3 => ?_
  rw [hsl] at e1 ⊢
  refine kk H' _ ⟨hW.1, hW.2.1.put hs upd2_ne (fun _ _ => rfl) ⟨_, hc, t_OB.to (V := updV (vp_V ((List.range N).map (g_fv al rf (V k)))) i (.int x)) ⟨_, e1, q2, q3, t_set q4 hap hi _⟩ (fun j hj => ?_)⟩ e3, hW.2.2.1, hW.2.2.2.1.put e2 e3 (hW.2.2.1 k _ hs), hW.2.2.2.2.1, hW.2.2.2.2.2.1, e2.trans hW.2.2.2.2.2.2⟩
  rw [upd2_eq]
  have e9 : ∀ v : Nat → Int32, vp_V ((List.range N).map (g_fv al rf v)) j = g_fv al rf v j := fun v => by
    show ((List.range N).map (g_fv al rf v)).getD j .null = _
    rw [List.getD_eq_getElem?_getD, g_fs hj]; rfl
  show updV _ i (.int x) j = vp_V ((List.range N).map (g_fv al rf (upd (V k) i x))) j
  rw [e9]
  by_cases hji : j = i
  · subst hji
    simp [updV, g_fv, hr, upd]
  · simp only [updV, if_neg hji]
    rw [e9]
    simp [g_fv, upd, hji]
end GR
