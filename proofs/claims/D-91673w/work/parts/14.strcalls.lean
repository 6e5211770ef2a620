/-! String constants in a named world: ldc, length, charAt -/
set_option maxRecDepth 100000
def stL (w : Nat) : Int32 := Int32.ofNat (stLen.getD w 0)
def stC (w j : Nat) : Int32 := ((((stByt.getD w []).getD j 0) &&& 255).toUInt32 % 65536).toInt32
section GST
variable {p : Program} {l : Launch} {e : Env} {R : Room} {s : State} {m : MethodId} {args : Array Value} {below : List Frame} {meth : Method} {c : Code} {H : Heap} {locs : List Loc} {cells slots : Nat} {Q : State → Prop}
variable {gp : Nat → Nat} {nx : Nat} {own : String} {cc : ByteArray} {pc nL : Nat} {ls : Array Slot} {rest st0 : List Value} {D : va_G} {cl : List vw_C} {F : List FieldType} {K : Nat → ClassId} {al : Nat → Nat} {Sh : g_Sh} {A : Nat → Prop} {H0 : Heap} {V : Nat → Nat → Int32} {L : Nat → Nat → Int64}
theorem g_ldcS {index w : Nat} {tx : String} (S : CallFix p m c cc nL s args lw_all own) (hW : g_W gp nx D cl F K al Sh A s H0 V L H locs) (hq : (own, index, tx, w) ∈ stRefs) (hdg : decode cc pc = .ok (.ldc index, 2))
    (k : W p l e R s m args below meth c H locs cells slots Q (F0 m (pc + 2) ls (.ref (gp w) :: rest))) : W p l e R s m args below meth c H locs cells slots Q (F0 m pc ls rest) :=
  va_ldcS S.1 S.2.1 S.2.2.2.1 (hW.2.2.2.2.1.2.1 _ hq) hdg k
theorem g_ldcwS {index w : Nat} {tx : String} (S : CallFix p m c cc nL s args lw_all own) (hW : g_W gp nx D cl F K al Sh A s H0 V L H locs) (hq : (own, index, tx, w) ∈ stRefs) (hdg : decode cc pc = .ok (.ldc_w index, 3))
    (k : W p l e R s m args below meth c H locs cells slots Q (F0 m (pc + 3) ls (.ref (gp w) :: rest))) : W p l e R s m args below meth c H locs cells slots Q (F0 m pc ls rest) :=
  sx_ldcw S.1 S.2.1 S.2.2.2.1 (hW.2.2.2.2.1.2.1 _ hq) hdg k
theorem g_slen {index w : Nat} (S : CallFix p m c cc nL s args lw_all own) (hW : g_W gp nx D cl F K al Sh A s H0 V L H locs) (hi : w < 24) (hq : Cond.methodLink own index yJ8_length ∈ lw_all) (hR : 2 ≤ R.frames ∧ 50 ≤ R.locals) (hsize : ls.size = nL) (hro : (rest.map fun v => v.category).sum ≤ 8) (hf : cells ≤ R.cells ∧ slots ≤ R.slots) (hdg : decode cc pc = .ok (.invokevirtual index, 3))
    (kk : W p l e R s m args below meth c H locs cells slots Q (F0 m (pc + 3) ls (.int (stL w) :: rest))) : W p l e R s m args below meth c H locs cells slots Q (F0 m pc ls (.ref (gp w) :: rest)) := by
  obtain ⟨-, -, -, hS, hX, rfl, -⟩ := hW
  refine vp_callSi (W.runV (As := []) (rest := rest) S (met_length (gp := gp) hi) (cwV 0 S.2.2.2.2 (lw_V hq q886 q887 q123 q888) rfl rfl rfl (by decide +kernel) hR) ⟨sx_blind, sx_recv hi hX hS, fun U hU hw => ⟨rfl, sx_pre hX hS hU hw⟩⟩ rfl rfl hsize rfl (lv_room hro) hdg hf) (fun r hr0 => ?_)
  subst hr0
  exact kk
theorem g_schar {index w : Nat} {k x : Int32} (S : CallFix p m c cc nL s args lw_all own) (hW : g_W gp nx D cl F K al Sh A s H0 V L H locs) (hi : w < 24) (hin : vp_in k (stLen.getD w 0)) (ex : x = stC w k.toNatClampNeg) (hq : Cond.methodLink own index yJ8_charAt ∈ lw_all) (hR : 4 ≤ R.frames ∧ 111 ≤ R.locals) (hsize : ls.size = nL) (hro : (rest.map fun v => v.category).sum ≤ 8) (hf : cells ≤ R.cells ∧ slots ≤ R.slots) (hdg : decode cc pc = .ok (.invokevirtual index, 3))
    (kk : W p l e R s m args below meth c H locs cells slots Q (F0 m (pc + 3) ls (.int x :: rest))) : W p l e R s m args below meth c H locs cells slots Q (F0 m pc ls (.int k :: .ref (gp w) :: rest)) := by
  obtain ⟨-, -, -, hS, hX, rfl, -⟩ := hW
  subst ex
  refine vp_callSi (W.runV (As := [.int k]) (rest := rest) S (met_charAt (gp := gp) hi hin) (cwV 1 S.2.2.2.2 (lw_V hq q896 q897 q123 q898) rfl rfl rfl (by decide +kernel) hR) ⟨sx_blind, sx_recv hi hX hS, fun U hU hw => ⟨rfl, sx_pre hX hS hU hw⟩⟩ rfl rfl hsize rfl (lv_room hro) hdg hf) (fun r hr0 => ?_)
  subst hr0
  exact kk
end GST
