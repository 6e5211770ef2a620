/-! slots: what they compute (definitions alone) -/
set_option maxRecDepth 100000
/-- cells that nobody names -/
def zGrow (Z : c_S) (k : Nat) : c_S := ⟨Z.Sh, Z.V, Z.L, Z.n + k⟩
def cm_X7_begins (Z0 : c_S) (a0 : Nat) (a1 a2 : Int32) : Option (Int32 × c_S) :=
  if a2 < 0 then some (0, zGrow Z0 3) else if 60 < a2.toNatClampNeg then none else if a1 = 0 then zNewI Z0 1 a2.toNatClampNeg (fun Z_1 b => zPR Z_1 a0 7 1 0 (some b) fun Z_2 => some (1, Z_2)) else if a1 = 1 then zNewI Z0 3 a2.toNatClampNeg (fun Z_1 b => zPR Z_1 a0 7 1 0 (some b) fun Z_2 => some (1, Z_2)) else if a1 = 2 then zNewI Z0 0 a2.toNatClampNeg (fun Z_1 b => zPR Z_1 a0 7 1 0 (some b) fun Z_2 => some (1, Z_2)) else zNewL Z0 4 a2.toNatClampNeg (fun Z_1 b => zPR Z_1 a0 7 1 0 (some b) fun Z_2 => some (1, Z_2))
/-- what a putting ends with: it returns; or it throws (true: a null; false: an index) the object at an address -/
abbrev c_P := c_S ⊕ (Bool × Nat × c_S)
def cm_X7_putWider (Z0 : c_S) (a0 : Nat) (a1 : Int32) (a2 : Int64) : Option c_P := cR Z0.Sh a0 7 1 0 fun o => match o with
  | none => some (.inr (true, Z0.n, zGrow Z0 1))
  | some b => match Z0.Sh b with
    | some (.inl q) => if 60 < q.2 then none else if q.1 = 0 then (if a1 < 0 ∨ q.2 ≤ a1.toNatClampNeg then some (.inr (false, Z0.n + 2, zGrow Z0 3)) else some (.inl ⟨Z0.Sh, upd2 Z0.V b a1.toNatClampNeg a2.toInt32, Z0.L, Z0.n⟩)) else none
    | some (.inr (.inl q)) => if 60 < q.2 then none else if q.1 = 4 then (if a1 < 0 ∨ q.2 ≤ a1.toNatClampNeg then some (.inr (false, Z0.n + 5, zGrow Z0 6)) else some (.inl ⟨Z0.Sh, Z0.V, updL2 Z0.L b a1.toNatClampNeg a2, Z0.n + 3⟩)) else none
    | _ => none
def cm_X7_put (Z0 : c_S) (a0 : Nat) (a1 : Int32) (a2 : Int64) : Option c_P := cR Z0.Sh a0 7 1 0 fun o => match o with
  | none => cm_X7_putWider Z0 a0 a1 a2
  | some b => match Z0.Sh b with
    | some (.inl q) => if 60 < q.2 then none else if q.1 = 1 then (if a1 < 0 ∨ q.2 ≤ a1.toNatClampNeg then some (.inr (false, Z0.n + 2, zGrow Z0 3)) else some (.inl ⟨Z0.Sh, upd2 Z0.V b a1.toNatClampNeg a2.toInt32.toInt8.toInt32, Z0.L, Z0.n⟩)) else if q.1 = 3 then (if a1 < 0 ∨ q.2 ≤ a1.toNatClampNeg then some (.inr (false, Z0.n + 2, zGrow Z0 3)) else some (.inl ⟨Z0.Sh, upd2 Z0.V b a1.toNatClampNeg a2.toInt32.toInt16.toInt32, Z0.L, Z0.n⟩)) else cm_X7_putWider Z0 a0 a1 a2
    | _ => cm_X7_putWider Z0 a0 a1 a2
def cm_X7_puts (Z0 : c_S) (a0 : Nat) (a1 : Int32) (a2 : Int64) : Option (Int32 × c_S) := bnd (cm_X7_put Z0 a0 a1 a2) fun o => match o with
  | .inl Z => some (0, Z)
  | .inr q => some (if q.1 = true then -6 else -7, q.2.2)
def cm_X0_row (Z0 : c_S) (a0 : Nat) (a1 a2 a3 : Int32) : Option (Int32 × c_S) :=
  bnd (cm_X0_isSlot a1) (fun x_1 => if x_1 = 0 then some (-2, Z0) else (bnd (cm_X0_in a2.toInt64 0 3) (fun x_2 => if x_2 = 0 then some (-2, Z0) else (if a3 ≤ 60 then (cA Z0.Sh a0 0 11 0 fun a_3 => caR Z0.Sh 7 a_3 a1 fun o_4 => nn o_4 fun a_5 => zK Z0 a_5 7 1 <| bnd (cm_X7_begins Z0 a_5 a2 a3) (un2 fun x_6 Z_7 => if x_6 = 0 then some (-3, Z_7) else some (0, Z_7))) else some (-2, Z0)))))
def cm_X0_write (Z0 : c_S) (a0 : Nat) (a1 a2 : Int32) (a3 : Int64) : Option (Int32 × c_S) :=
  bnd (cm_X0_isSlot a1) (fun x_1 => if x_1 = 0 then some (-2, Z0) else (cA Z0.Sh a0 0 11 0 fun a_3 => caR Z0.Sh 7 a_3 a1 fun o_4 => nn o_4 fun a_5 => zK Z0 a_5 7 1 <| bnd (cm_X7_puts Z0 a_5 a2 a3) (un2 fun x_6 Z_7 => some (x_6, Z_7))))
/-- whether numbers of a row fit its width -/
def okC (t : Nat) (x : Int32) : Bool := decide (t = 0 ∨ (t = 1 ∧ x.toInt8.toInt32 = x) ∨ (t = 3 ∧ x.toInt16.toInt32 = x))
/-- whether a stretch lies outside -/
def oobC (sp dp n : Int32) (N0 N1 : Nat) : Bool := decide (sp < 0 ∨ dp < 0 ∨ n < 0 ∨ N0 < sp.toNatClampNeg + n.toNatClampNeg ∨ N1 < dp.toNatClampNeg + n.toNatClampNeg)
def cpyL (f g : Nat → Int64) (sp dp n : Nat) : Nat → Int64 := fun j => if dp ≤ j ∧ j < dp + n then f (sp + (j - dp)) else g j
def cm_X7_copy (Z0 : c_S) (b0 : Nat) (a1 : Int32) (b1 : Nat) (a3 a4 : Int32) : Option (Int32 × c_S) := match Z0.Sh b0, Z0.Sh b1 with
  | some (.inl q0), some (.inl q1) => if q0.1 = q1.1 ∧ (q0.1 = 0 ∨ q0.1 = 1 ∨ q0.1 = 3) ∧ q0.2 ≤ 60 ∧ q1.2 ≤ 60 ∧ (List.range q0.2).all (fun i => okC q0.1 (Z0.V b0 i)) = true then (if oobC a1 a3 a4 q0.2 q1.2 = true then some (-7, zGrow Z0 3) else some (0, ⟨Z0.Sh, rowV Z0.V b1 (va_cpy (Z0.V b0) (Z0.V b1) a1.toNatClampNeg a3.toNatClampNeg a4.toNatClampNeg), Z0.L, Z0.n⟩)) else none
  | some (.inr (.inl q0)), some (.inr (.inl q1)) => if q0.1 = 4 ∧ q1.1 = 4 ∧ q0.2 ≤ 60 ∧ q1.2 ≤ 60 then (if oobC a1 a3 a4 q0.2 q1.2 = true then some (-7, zGrow Z0 3) else some (0, ⟨Z0.Sh, Z0.V, rowL Z0.L b1 (cpyL (Z0.L b0) (Z0.L b1) a1.toNatClampNeg a3.toNatClampNeg a4.toNatClampNeg), Z0.n⟩)) else none
  | _, _ => none
def cm_X7_pastes (Z0 : c_S) (a0 : Nat) (a1 : Int32) (a2 : Nat) (a3 a4 : Int32) : Option (Int32 × c_S) := cR Z0.Sh a0 7 1 0 fun o_1 => zNl o_1 (some (-6, Z0)) (fun b_1 => cR Z0.Sh a2 7 1 0 fun o_2 => zNl o_2 (some (-6, Z0)) (fun b_2 => bnd (cm_X7_width Z0 a0) fun x_3 => bnd (cm_X7_width Z0 a2) fun x_4 => if x_3 = x_4 then cm_X7_copy Z0 b_1 a1 b_2 a3 a4 else some (-8, Z0)))
def cm_X0_paste (Z0 : c_S) (a0 : Nat) (a1 a2 a3 a4 a5 : Int32) : Option (Int32 × c_S) :=
  bnd (cm_X0_isSlot a1) (fun x_1 => if x_1 = 0 then some (-2, Z0) else (bnd (cm_X0_isSlot a3) (fun x_2 => if x_2 = 0 then some (-2, Z0) else (cA Z0.Sh a0 0 11 0 fun a_3 => caR Z0.Sh 7 a_3 a1 fun o_4 => nn o_4 fun a_5 => caR Z0.Sh 7 a_3 a3 fun o_6 => nn o_6 fun a_7 => zK Z0 a_5 7 1 <| zK Z0 a_7 7 1 <| bnd (cm_X7_pastes Z0 a_5 a2 a_7 a4 a5) (un2 fun x_8 Z_9 => some (x_8, Z_9))))))
