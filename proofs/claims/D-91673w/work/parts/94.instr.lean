/-! instructions that make the machine throw: up to the note -/
set_option maxRecDepth 100000
section ZIN
variable {p : Program} {l : Launch} {e : Env} {R : Room} {s : State} {m : MethodId} {args : Array Value} {below : List Frame} {meth : Method} {c : Code} {H : Heap} {locs : List Loc} {cells slots : Nat} {Q : State → Prop}
variable {gp : Nat → Nat} {own : String} {cc : ByteArray} {pc nL : Nat} {ls : Array Slot} {rest : List Value} {a : Nat}
/-- the note lies over the frame, the operands gone -/
def zNote (p : Program) (l : Launch) (e : Env) (R : Room) (s : State) (m : MethodId) (args : Array Value) (below : List Frame) (meth : Method) (c : Code) (H : Heap) (locs : List Loc) (cells slots : Nat) (Q : State → Prop) (g : JFrame) (cls : String) (msg : Option String) : Prop :=
  ∀ T : State, T.heap = H → Stand p l e R s m args below meth c T locs cells slots → ∃ t, Steps p.tables e below ((T.setTop g).pushFrame (.throwNew cls msg none)) t ∧ Q t
theorem zx_iastN {x i : Int32} (S : CallFix p m c cc nL s args lw_all own) (hdg : decode cc pc = .ok (.iastore, 1)) (k : zNote p l e R s m args below meth c H locs cells slots Q (F0 m pc ls rest) "java/lang/NullPointerException" none) : W p l e R s m args below meth c H locs cells slots Q (F0 m pc ls (.int x :: .int i :: .null :: rest)) := by
  intro T hT X
  obtain ⟨t, h1, h2⟩ := k T hT X
  refine ⟨t, ?_, h2⟩
  obtain ⟨hexec, hb, -⟩ := S
  subst hb
  jvm_step X.here [X.here.top, hexec, hdg, iastore.wp_sem, nullPointer]
  exact ⟨_, _, _, _, ⟨rfl, rfl, rfl, rfl⟩, h1⟩
theorem zx_newaN {n : Int32} {atype : ArrayType} (S : CallFix p m c cc nL s args lw_all own) (hn : n < 0) (hdg : decode cc pc = .ok (.newarray atype, 2)) (k : zNote p l e R s m args below meth c H locs cells slots Q (F0 m pc ls rest) "java/lang/NegativeArraySizeException" (some (toString n))) : W p l e R s m args below meth c H locs cells slots Q (F0 m pc ls (.int n :: rest)) := by
  intro T hT X
  obtain ⟨t, h1, h2⟩ := k T hT X
  refine ⟨t, ?_, h2⟩
  obtain ⟨hexec, hb, -⟩ := S
  subst hb
  jvm_step X.here [X.here.top, hexec, hdg, newarray.sem, hn]
  exact h1
variable {D : va_G} {K : Nat → ClassId} {A : Nat → Prop} {Z : c_S}
def oobT (i : Int32) (n : Nat) : String := "Index " ++ toString i ++ " out of bounds for length " ++ toString n
theorem zx_iastO {x i : Int32} {n : Nat} (S : CallFix p m c cc nL s args lw_all own) (hW : z_W gp D K A s Z H locs) (hs : Z.Sh a = some (d_int 0 n)) (hi : i < 0 ∨ n ≤ i.toNatClampNeg) (hdg : decode cc pc = .ok (.iastore, 1)) (k : zNote p l e R s m args below meth c H locs cells slots Q (F0 m pc ls rest) "java/lang/ArrayIndexOutOfBoundsException" (some (oobT i n))) : W p l e R s m args below meth c H locs cells slots Q (F0 m pc ls (.int x :: .int i :: .ref a :: rest)) := by
  intro T hT X
  obtain ⟨t, h1, h2⟩ := k T hT X
  refine ⟨t, ?_, h2⟩
  obtain ⟨hexec, hb, -⟩ := S
  subst hb
  have h0 : T.heap[a]? = some (vp_cell (K 0) (n, .inl (Z.V a))) := by rw [hT]; exact hW.1.2.1.1 a _ hs
  have hn : (vp_cell (K 0) (n, .inl (Z.V a))).slots.size = n := arrV_size _ _ _
  have hA := (hW.1.1.2 0 _ (g_T_at (F := cmF) rfl)).1 n (fun j => .int (Z.V a j))
  obtain ⟨w1, k0, w2, cm, w3⟩ := hA
  obtain ⟨k1, w4, w5⟩ := X.warmed.alike.2.2 _ _ w2
  jvm_step X.here [X.here.top, hexec, hdg, iastore.wp_sem, outOfBounds]
  refine ⟨_, _, _, _, ⟨rfl, rfl, rfl, rfl⟩, _, h0, ?_, ?_⟩
  · exact State.isArrayOf.isArray (t := .int) ⟨w1, k1, w4, cm, by rw [w5]; exact w3⟩
  · rw [hn]; simp [hi]; exact h1
theorem zx_bastO {x i : Int32} {n : Nat} (S : CallFix p m c cc nL s args lw_all own) (hW : z_W gp D K A s Z H locs) (hs : Z.Sh a = some (d_int 1 n)) (hi : i < 0 ∨ n ≤ i.toNatClampNeg) (hdg : decode cc pc = .ok (.bastore, 1)) (k : zNote p l e R s m args below meth c H locs cells slots Q (F0 m pc ls rest) "java/lang/ArrayIndexOutOfBoundsException" (some (oobT i n))) : W p l e R s m args below meth c H locs cells slots Q (F0 m pc ls (.int x :: .int i :: .ref a :: rest)) := by
  intro T hT X
  obtain ⟨t, h1, h2⟩ := k T hT X
  refine ⟨t, ?_, h2⟩
  obtain ⟨hexec, hb, -⟩ := S
  subst hb
  have h0 : T.heap[a]? = some (vp_cell (K 1) (n, .inl (Z.V a))) := by rw [hT]; exact hW.1.2.1.1 a _ hs
  have hn : (vp_cell (K 1) (n, .inl (Z.V a))).slots.size = n := arrV_size _ _ _
  have hA := (hW.1.1.2 1 _ (g_T_at (F := cmF) rfl)).1 n (fun j => .int (Z.V a j))
  obtain ⟨w1, k0, w2, cm, w3⟩ := hA
  obtain ⟨k1, w4, w5⟩ := X.warmed.alike.2.2 _ _ w2
  jvm_step X.here [X.here.top, hexec, hdg, bastore.wp_sem, outOfBounds]
  refine ⟨_, _, _, _, ⟨rfl, rfl, rfl, rfl⟩, _, h0, ?_, ?_⟩
  · exact State.isArrayOf.isArray (t := .byte) ⟨w1, k1, w4, cm, by rw [w5]; exact w3⟩
  · rw [hn]; simp [hi]; exact h1
theorem zx_sastO {x i : Int32} {n : Nat} (S : CallFix p m c cc nL s args lw_all own) (hW : z_W gp D K A s Z H locs) (hs : Z.Sh a = some (d_int 3 n)) (hi : i < 0 ∨ n ≤ i.toNatClampNeg) (hdg : decode cc pc = .ok (.sastore, 1)) (k : zNote p l e R s m args below meth c H locs cells slots Q (F0 m pc ls rest) "java/lang/ArrayIndexOutOfBoundsException" (some (oobT i n))) : W p l e R s m args below meth c H locs cells slots Q (F0 m pc ls (.int x :: .int i :: .ref a :: rest)) := by
  intro T hT X
  obtain ⟨t, h1, h2⟩ := k T hT X
  refine ⟨t, ?_, h2⟩
  obtain ⟨hexec, hb, -⟩ := S
  subst hb
  have h0 : T.heap[a]? = some (vp_cell (K 3) (n, .inl (Z.V a))) := by rw [hT]; exact hW.1.2.1.1 a _ hs
  have hn : (vp_cell (K 3) (n, .inl (Z.V a))).slots.size = n := arrV_size _ _ _
  have hA := (hW.1.1.2 3 _ (g_T_at (F := cmF) rfl)).1 n (fun j => .int (Z.V a j))
  obtain ⟨w1, k0, w2, cm, w3⟩ := hA
  obtain ⟨k1, w4, w5⟩ := X.warmed.alike.2.2 _ _ w2
  jvm_step X.here [X.here.top, hexec, hdg, sastore.wp_sem, outOfBounds]
  refine ⟨_, _, _, _, ⟨rfl, rfl, rfl, rfl⟩, _, h0, ?_, ?_⟩
  · exact State.isArrayOf.isArray (t := .short) ⟨w1, k1, w4, cm, by rw [w5]; exact w3⟩
  · rw [hn]; simp [hi]; exact h1
theorem zx_lastO {x : Int64} {i : Int32} {n : Nat} (S : CallFix p m c cc nL s args lw_all own) (hW : z_W gp D K A s Z H locs) (hs : Z.Sh a = some (d_lng 4 n)) (hi : i < 0 ∨ n ≤ i.toNatClampNeg) (hdg : decode cc pc = .ok (.lastore, 1)) (k : zNote p l e R s m args below meth c H locs cells slots Q (F0 m pc ls rest) "java/lang/ArrayIndexOutOfBoundsException" (some (oobT i n))) : W p l e R s m args below meth c H locs cells slots Q (F0 m pc ls (.long x :: .int i :: .ref a :: rest)) := by
  intro T hT X
  obtain ⟨t, h1, h2⟩ := k T hT X
  refine ⟨t, ?_, h2⟩
  obtain ⟨hexec, hb, -⟩ := S
  subst hb
  have h0 : T.heap[a]? = some (vp_cell (K 4) (n, .inr (.inl (Z.L a)))) := by rw [hT]; exact hW.1.2.1.1 a _ hs
  have hn : (vp_cell (K 4) (n, .inr (.inl (Z.L a)))).slots.size = n := arrV_size _ _ _
  have hA := (hW.1.1.2 4 _ (g_T_at (F := cmF) rfl)).1 n (fun j => .long (Z.L a j))
  obtain ⟨w1, k0, w2, cm, w3⟩ := hA
  obtain ⟨k1, w4, w5⟩ := X.warmed.alike.2.2 _ _ w2
  jvm_step X.here [X.here.top, hexec, hdg, lastore.wp_sem, outOfBounds]
  refine ⟨_, _, _, _, ⟨rfl, rfl, rfl, rfl⟩, _, h0, ?_, ?_⟩
  · exact State.isArrayOf.isArray (t := .long) ⟨w1, k1, w4, cm, by rw [w5]; exact w3⟩
  · rw [hn]; simp [hi]; exact h1
end ZIN
