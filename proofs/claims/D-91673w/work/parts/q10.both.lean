/-! the law's world: the component's and the reference's, apart from each other -/
set_option maxRecDepth 100000
def b_W (gp : Nat → Nat) (D : va_G) (K : Nat → ClassId) (D2 : va_G) (K2 : Nat → ClassId) (al : Nat → Nat) (s : State) (Z : c_S) (V2 : g_V) (L2 : g_L) (H : Heap) (locs : List Loc) : Prop :=
  z_W gp D K (fun q => s.heap.size ≤ q) s Z H locs ∧ g_W gp Z.n D2 twCl twF K2 al twSh (fun q => s.heap.size ≤ q) s s.heap V2 L2 H locs ∧ ∀ k d, twSh k = some d → Z.Sh (al k) = none
theorem va_at_lt {D : va_G} {cl : List vw_C} {q : Nat × va_E} {H : Heap} (h : va_at D cl q H) : q.1 < H.size := by
  obtain ⟨a, e⟩ := q
  rcases e with e | e
  · have h : H[a]? = some _ := h
    exact (Array.getElem?_eq_some_iff.mp h).1
  · obtain ⟨r, -, cell, h, -⟩ := h
    exact (Array.getElem?_eq_some_iff.mp h).1
section BW
variable {p : Program} {l : Launch} {e : Env} {R : Room} {s : State} {m : MethodId} {args : Array Value} {below : List Frame} {meth : Method} {c : Code} {H H1 : Heap} {locs locs1 : List Loc} {cells slots : Nat} {Q : State → Prop}
variable {gp : Nat → Nat} {own : String} {cc : ByteArray} {pc nL : Nat} {ls : Array Slot} {rest st0 : List Value} {D D2 : va_G} {K K2 : Nat → ClassId} {al : Nat → Nat} {Z Z' : c_S} {V2 V2' : g_V} {L2 L2' : g_L} {a : Nat}
variable {y : MethodName} {bytes : ByteArray} {maxL n index mc ms : Nat} {ret : Option FieldType} {ws : List Cond} {rm : Room} {As : List Value} {rf : Nat → Option (Option Nat)} {r : Int32}
/-- the component's world changed; the reference's is kept -/
theorem b_keep2 (h : b_W gp D K D2 K2 al s Z V2 L2 H locs) (hz : z_W gp D K (fun q => s.heap.size ≤ q) s Z' H1 locs1) (hk : ∀ q, q < H.size → ¬ z_A Z q → H1[q]? = H[q]?) (hdom : ∀ q d, Z'.Sh q = some d → z_A Z q) : b_W gp D K D2 K2 al s Z' V2 L2 H1 locs1 := by
  obtain ⟨h1, h2, h3⟩ := h
  obtain ⟨g1, g2, g3, g4, g5, g6, g7⟩ := h2
  have lt : ∀ k d, twSh k = some d → al k < H.size := fun k d hd => va_at_lt (g2.1 k d hd)
  have no : ∀ k d, twSh k = some d → ¬ z_A Z (al k) := by
    rintro k d hd (⟨d', h⟩ | h)
    · rw [h3 k d hd] at h; cases h
    · have := lt k d hd
      have : Z.n = H.size := g7.symm
      omega
  refine ⟨hz, ⟨g1, ⟨fun k d hd => (g2.1 k d hd).kept (hk _ (lt k d hd) (no k d hd)), g2.2⟩, g3, hz.1.2.2.2.1, g5, g6, hz.1.2.2.2.2.2.2⟩, fun k d hd => ?_⟩
  cases he : Z'.Sh (al k) with
  | none => rfl
  | some d' => exact absurd (hdom _ _ he) (no k d hd)
/-- the reference's world changed; the component's is kept -/
theorem b_keep1 (h : b_W gp D K D2 K2 al s Z V2 L2 H locs) (hg : g_W gp Z.n D2 twCl twF K2 al twSh (fun q => s.heap.size ≤ q) s s.heap V2' L2' H1 locs1) (hk : ∀ q, q < H.size → ¬ g_A al twSh q → H1[q]? = H[q]?) : b_W gp D K D2 K2 al s Z V2' L2' H1 locs1 := by
  obtain ⟨⟨⟨z1, z2, z3, z4, z5, z6, z7⟩, hA⟩, h2, h3⟩ := h
  refine ⟨⟨⟨z1, ⟨fun k d hd => (z2.1 k d hd).kept (hk _ (va_at_lt (z2.1 k d hd)) ?_), z2.2⟩, z3, hg.2.2.2.1, z5, z6, hg.2.2.2.2.2.2⟩, hA⟩, hg, h3⟩
  rintro ⟨j, d', hj, e⟩
  have e : k = al j := e
  rw [e, h3 j d' hj] at hd
  cases hd
theorem b_callC (S : CallFix p m c cc nL s args lw_all own) (hW : b_W gp D K D2 K2 al s Z V2 L2 H locs) (hM : Met l y ws rm (z_Pc gp (.ref a :: As) D K Z) (z_Q (.returned (some (.int r))) D K (z_A Z) Z') mc ms (z_A Z)) (cw : CallW R s args own RX0 index y bytes maxL ret ws rm mc ms n) (hs : Z.Sh a = some (d_obj 0 11 rf))
    (hn : As.length = n) (hsize : ls.size = nL) (hst : st0 = As.reverse ++ .ref a :: rest) (hro : (rest.map fun v => v.category).sum ≤ 8) (hdg : decode cc pc = .ok (.invokevirtual index, 3)) (hf : cells + mc ≤ R.cells ∧ slots + ms ≤ R.slots)
    (kk : ∀ (H1 : Heap) (locs1 : List Loc), b_W gp D K D2 K2 al s Z' V2 L2 H1 locs1 → W p l e R s m args below meth c H1 locs1 (cells + mc) (slots + ms) Q (F0 m (pc + 3) ls (.int r :: rest))) : W p l e R s m args below meth c H locs cells slots Q (F0 m pc ls st0) := by
  subst hst
  intro T hT X
  obtain ⟨v', st₀, t, T', L1, h0, X', hL, e1, e2, hq, st⟩ := va_runV S hM cw ⟨d_blind, d_recv hW.1 hs rfl, fun U hU hw => ⟨rfl, d_pre hW.1 hU hw⟩⟩ rfl hn hsize rfl (lv_room hro) hdg hf T hT X
  obtain ⟨ho, hW1⟩ := d_after hW.1 h0 hL e1 hq
  cases ho
  obtain ⟨t2, a1, b1⟩ := kk _ _ (b_keep2 hW hW1 (fun q h1 h2 => by rw [e1, hq.2.2 q (by rw [h0]; exact h1) h2, h0]) hq.1.2.2) T' rfl X'
  exact ⟨t2, st t2 a1, b1⟩
theorem b_callCT (S : CallFix p m c cc nL s args lw_all own) (hW : b_W gp D K D2 K2 al s Z V2 L2 H locs) (hM : MetT l y ws rm (z_Pc gp (.ref a :: As) D K Z) (z_Q (.returned (some (.int r))) D K (z_A Z) Z') mc ms (z_A Z)) (cw : CallW R s args own RX0 index y bytes maxL ret ws rm mc ms n) (hs : Z.Sh a = some (d_obj 0 11 rf))
    (hn : As.length = n) (hsize : ls.size = nL) (hst : st0 = As.reverse ++ .ref a :: rest) (hro : (rest.map fun v => v.category).sum ≤ 8) (hdg : decode cc pc = .ok (.invokevirtual index, 3)) (hf : cells + mc ≤ R.cells ∧ slots + ms ≤ R.slots)
    (kk : ∀ (H1 : Heap) (locs1 : List Loc), b_W gp D K D2 K2 al s Z' V2 L2 H1 locs1 → W p l e R s m args below meth c H1 locs1 (cells + mc) (slots + ms) Q (F0 m (pc + 3) ls (.int r :: rest))) : W p l e R s m args below meth c H locs cells slots Q (F0 m pc ls st0) := by
  subst hst
  intro T0 hT X
  obtain ⟨o, st, t, B, Lc, h0, X', hL, e1, e2, hq, hgo⟩ := runVT S hM cw ⟨d_blind, d_recv hW.1 hs rfl, fun U hU hw => ⟨rfl, d_pre hW.1 hU hw⟩⟩ hn hsize hro hdg hf hT X
  obtain ⟨rfl, hW1⟩ := d_after hW.1 h0 hL e1 hq
  obtain ⟨t2, a1, b1⟩ := kk _ _ (b_keep2 hW hW1 (fun q h1 h2 => by rw [e1, hq.2.2 q (by rw [h0]; exact h1) h2, h0]) hq.1.2.2) B rfl X'
  exact ⟨t2, hgo t2 a1, b1⟩
theorem b_callCTW {hh : List (Nat × Nat × Nat × Nat)} (S : CallFix p m c cc nL s args lw_all own) (hW : b_W gp D K D2 K2 al s Z V2 L2 H locs) (hM : MetT l y ws rm (z_Pc gp (.ref a :: As) D K Z) (z_Q (.returned (some (.int r))) D K (z_A Z) Z') mc ms (z_A Z)) (cw : zCallW R s args own RX0 index y bytes maxL ret hh ws rm mc ms n) (hs : Z.Sh a = some (d_obj 0 11 rf))
    (hn : As.length = n) (hsize : ls.size = nL) (hst : st0 = As.reverse ++ .ref a :: rest) (hro : (rest.map fun v => v.category).sum ≤ 8) (hdg : decode cc pc = .ok (.invokevirtual index, 3)) (hf : cells + mc ≤ R.cells ∧ slots + ms ≤ R.slots)
    (kk : ∀ (H1 : Heap) (locs1 : List Loc), b_W gp D K D2 K2 al s Z' V2 L2 H1 locs1 → W p l e R s m args below meth c H1 locs1 (cells + mc) (slots + ms) Q (F0 m (pc + 3) ls (.int r :: rest))) : W p l e R s m args below meth c H locs cells slots Q (F0 m pc ls st0) := by
  subst hst
  intro T0 hT X
  obtain ⟨o, st, t, B, Lc, h0, X', hL, e1, e2, hq, hgo⟩ := runVTW S hM cw ⟨d_blind, d_recv hW.1 hs rfl, fun U hU hw => ⟨rfl, d_pre hW.1 hU hw⟩⟩ hn hsize hro hdg hf hT X
  obtain ⟨rfl, hW1⟩ := d_after hW.1 h0 hL e1 hq
  obtain ⟨t2, a1, b1⟩ := kk _ _ (b_keep2 hW hW1 (fun q h1 h2 => by rw [e1, hq.2.2 q (by rw [h0]; exact h1) h2, h0]) hq.1.2.2) B rfl X'
  exact ⟨t2, hgo t2 a1, b1⟩
theorem b_callR (S : CallFix p m c cc nL s args lw_all own) (hW : b_W gp D K D2 K2 al s Z V2 L2 H locs) (hM : Met l y ws rm (twPc gp Z.n (.ref (al 0) :: As) D2 K2 al V2 L2) (twQi r Z.n D2 K2 al V2' L2') 0 0 (g_A al twSh)) (cw : CallW R s args own RX8 index y bytes maxL ret ws rm 0 0 n)
    (hn : As.length = n) (hsize : ls.size = nL) (hst : st0 = As.reverse ++ .ref (al 0) :: rest) (hro : (rest.map fun v => v.category).sum ≤ 8) (hdg : decode cc pc = .ok (.invokevirtual index, 3)) (hf : cells ≤ R.cells ∧ slots ≤ R.slots)
    (kk : ∀ (H1 : Heap) (locs1 : List Loc), b_W gp D K D2 K2 al s Z V2' L2' H1 locs1 → W p l e R s m args below meth c H1 locs1 cells slots Q (F0 m (pc + 3) ls (.int r :: rest))) : W p l e R s m args below meth c H locs cells slots Q (F0 m pc ls st0) := by
  subst hst
  intro T hT X
  obtain ⟨v', st₀, t, T', L1, h0, X', hL, e1, e2, hq, st⟩ := va_runV S hM cw ⟨g_blind, g_recv hW.2.1 (k := 0) rfl rfl, fun U hU hw => ⟨rfl, hW.2.1.B hU hw⟩⟩ rfl hn hsize rfl (lv_room hro) hdg hf T hT X
  obtain ⟨⟨r', u, ho, hp, hB⟩, hz, hk⟩ := hq
  cases ho
  subst hp
  rw [h0] at hz hk
  have hS := hW.2.1.2.2.2.1
  have hsub := g_A_of hW.2.1.2.2.1
  have hS1 : va_S (fun q => s.heap.size ≤ q) s.heap T'.heap (locs ++ L1) := ⟨Nat.le_trans hS.1 (by rw [e1]; exact hz), fun q h1 h2 => by
      rw [e1, hk q (Nat.lt_of_lt_of_le h1 hS.1) (fun z => h2 (hsub q z))]; exact hS.2.1 q h1 h2, fun q hq => by
      rcases List.mem_append.mp hq with h | h
      · exact hS.2.2 q h
      · exact hsub _ (hL q h)⟩
  have hG : g_W gp Z.n D2 twCl twF K2 al twSh (fun q => s.heap.size ≤ q) s s.heap V2' L2' T'.heap (locs ++ L1) := ⟨hW.2.1.1, by rw [e1]; exact hB.2.1, hW.2.1.2.2.1, hS1, hW.2.1.2.2.2.2.1, rfl, by rw [e1]; exact hB.2.2⟩
  obtain ⟨t2, a1, b1⟩ := kk _ _ (b_keep1 hW hG (fun q h1 h2 => by rw [e1, hk q h1 h2])) T' rfl X'
  exact ⟨t2, st t2 a1, b1⟩
end BW
