/-! THE REFERENCE's WORLD: name 0 the object, name k the array of its field k -/
set_option maxRecDepth 100000
abbrev twCl : List vw_C := [(RX8, TX8, 40)]
abbrev twF : List FieldType := [.int, .byte, .boolean, .long]
/-- which fields are arrays: type's number and length -/
def twArr : Nat → Option (Nat × Nat) := fun i => match i with
  | 1 => some (0, 810)
  | 2 => some (0, 810)
  | 3 => some (0, 2430)
  | 4 => some (2, 3)
  | 5 => some (1, 700)
  | 7 => some (0, 5)
  | 15 => some (0, 810)
  | 16 => some (2, 4)
  | 17 => some (2, 12)
  | 24 => some (0, 144)
  | 25 => some (0, 18)
  | 26 => some (0, 144)
  | 27 => some (2, 144)
  | 28 => some (2, 576)
  | 29 => some (0, 288)
  | 30 => some (0, 288)
  | 32 => some (2, 144)
  | 33 => some (0, 144)
  | 36 => some (0, 4)
  | 37 => some (0, 4)
  | _ => none
def twR : Nat → Option (Option Nat) := fun i => match i with
  | 38 => some (some 38)
  | 39 => some (some 39)
  | k => (twArr k).map (fun _ => some k)
def twSh : g_Sh := fun k => match k with
  | 0 => some (.inr (.inr (.inr (0, 40, twR))))
  | 38 => some (.inr (.inl (3, 240)))
  | 39 => some (.inr (.inl (3, 60)))
  | k => (twArr k).map (fun q => .inl q)
abbrev twW (gp : Nat → Nat) (nx : Nat) (D : va_G) (K : Nat → ClassId) (al : Nat → Nat) (s : State) (V : g_V) (L : g_L) (H : Heap) (locs : List Loc) : Prop := g_W gp nx D twCl twF K al twSh (g_A al twSh) s s.heap V L H locs
abbrev twPc (gp : Nat → Nat) (nx : Nat) (av : List Value) (D : va_G) (K : Nat → ClassId) (al : Nat → Nat) (V : g_V) (L : g_L) : Array Value → State → Prop := g_Pc gp nx av D twCl twF K al twSh V L
abbrev twQi (r : Int32) (nx : Nat) (D : va_G) (K : Nat → ClassId) (al : Nat → Nat) (V : g_V) (L : g_L) : Array Value → State → Outcome → State → Prop := g_Qi r nx D twCl twF K al twSh V L
abbrev twQl (r : Int64) (nx : Nat) (D : va_G) (K : Nat → ClassId) (al : Nat → Nat) (V : g_V) (L : g_L) : Array Value → State → Outcome → State → Prop := g_Ql r nx D twCl twF K al twSh V L
abbrev twQv (nx : Nat) (D : va_G) (K : Nat → ClassId) (al : Nat → Nat) (V : g_V) (L : g_L) : Array Value → State → Outcome → State → Prop := g_Qv nx D twCl twF K al twSh V L
section TWR
variable {p : Program} {l : Launch} {e : Env} {R : Room} {s : State} {m : MethodId} {args : Array Value} {below : List Frame} {meth : Method} {c : Code} {H : Heap} {locs : List Loc} {cells slots : Nat} {Q : State → Prop}
variable {gp : Nat → Nat} {nx : Nat} {cc : ByteArray} {pc nL : Nat} {ls : Array Slot} {rest st0 : List Value} {D : va_G} {K : Nat → ClassId} {al : Nat → Nat} {A : Nat → Prop} {H0 : Heap} {V V' : Nat → Nat → Int32} {L L' : Nat → Nat → Int64}
theorem tw_ref {index : Nat} (S : CallFix p m c cc nL s args lw_all RX8) (hW : g_W gp nx D twCl twF K al twSh A s H0 V L H locs) (i j : Nat) (hi : i < 40) (hv : twR i = some (some j)) (hq : Cond.fieldLink RX8 index RX8 (TX8 i).2.1 (TX8 i).2.2.1 ∈ lw_all) (hf : (TX8 i).1 = RX8) (hdg : decode cc pc = .ok (.getfield index, 3))
    (kk : W p l e R s m args below meth c H locs cells slots Q (F0 m (pc + 3) ls (.ref (al j) :: rest))) : W p l e R s m args below meth c H locs cells slots Q (F0 m pc ls (.ref (al 0) :: rest)) :=
  g_getv S hW (k := 0) rfl rfl in_X8 i hi hf hq (v := .ref (al j)) (by simp [g_fv, hv]) hdg kk
theorem tw_int {index : Nat} (S : CallFix p m c cc nL s args lw_all RX8) (hW : g_W gp nx D twCl twF K al twSh A s H0 V L H locs) (i : Nat) (hi : i < 40) (hv : twR i = none) (hq : Cond.fieldLink RX8 index RX8 (TX8 i).2.1 (TX8 i).2.2.1 ∈ lw_all) (hf : (TX8 i).1 = RX8) (hdg : decode cc pc = .ok (.getfield index, 3))
    (kk : W p l e R s m args below meth c H locs cells slots Q (F0 m (pc + 3) ls (.int (V 0 i) :: rest))) : W p l e R s m args below meth c H locs cells slots Q (F0 m pc ls (.ref (al 0) :: rest)) :=
  g_getv S hW (k := 0) rfl rfl in_X8 i hi hf hq (v := .int (V 0 i)) (by simp [g_fv, hv]) hdg kk
theorem tw_puti {index : Nat} {x : Int32} (S : CallFix p m c cc nL s args lw_all RX8) (hW : g_W gp nx D twCl twF K al twSh A s H0 V L H locs) (i : Nat) (hi : i < 40) (hv : twR i = none) (hf : (TX8 i).1 = RX8) (hfin : (TX8 i).2.2.2 = false) (hn : narrow (tyX8 i) (.int x) = .int x) (hfit : fits (tyX8 i) (.int x) = true) (hq : Cond.fieldLink RX8 index RX8 (TX8 i).2.1 (TX8 i).2.2.1 ∈ lw_all) (eV : V' = upd2 V 0 i x) (hdg : decode cc pc = .ok (.putfield index, 3))
    (kk : ∀ (H1 : Heap) (locs1 : List Loc), g_W gp nx D twCl twF K al twSh A s H0 V' L H1 locs1 → W p l e R s m args below meth c H1 locs1 cells slots Q (F0 m (pc + 3) ls rest)) : W p l e R s m args below meth c H locs cells slots Q (F0 m pc ls (.int x :: .ref (al 0) :: rest)) :=
  g_puti S hW (k := 0) rfl rfl in_X8 tyX8 tyX8_ok nmX8 i hi hf hfin hv rfl hn hfit hq eV hdg kk
end TWR
