/-! System.arraycopy in dynamic worlds -/
set_option maxRecDepth 100000
section DCP
variable {p : Program} {l : Launch} {e : Env} {R : Room} {s : State} {m : MethodId} {args : Array Value} {below : List Frame} {meth : Method} {c : Code} {H : Heap} {locs : List Loc} {cells slots : Nat} {Q : State → Prop}
variable {gp : Nat → Nat} {own : String} {cc : ByteArray} {pc nL : Nat} {ls : Array Slot} {rest st0 : List Value} {D : va_G} {cl : List vw_C} {F : List FieldType} {K : Nat → ClassId} {Sh Sh' : g_Sh} {A : Nat → Prop} {V V' : g_V} {L L' : g_L} {nx nx' : Nat} {a a0 : Nat}
/-- one cell of the world is laid anew -/
theorem d_set {cell : Cell} {d d0 : g_D} {Lx : List Loc} (hW : d_W gp D cl F K A s Sh V L nx H locs) (hs : Sh a = some d0) (hV : ∀ j, j ≠ a → V' j = V j) (hL : ∀ j, j ≠ a → L' j = L j) (he : ∀ H1 : Heap, H1[a]? = some cell → va_at D cl (a, g_e K idn (V' a) (L' a) d) H1) (hLx : ∀ q ∈ Lx, q.base = a) : d_W gp D cl F K A s (updS Sh a d) V' L' nx (H.setIfInBounds a cell) (locs ++ Lx) := by
  have hlt : a < H.size := by rw [hW.1.2.2.2.2.2.2]; exact d_lt hW hs
  have oq : ∀ q : Nat, q ≠ a → (H.setIfInBounds a cell)[q]? = H[q]? := fun q hq => by simp [Array.getElem?_setIfInBounds, Ne.symm hq]
  have hz : (H.setIfInBounds a cell).size = H.size := by simp
  have hA : A a := hW.1.2.2.1 a _ hs
  have hS := hW.1.2.2.2.1
  refine ⟨⟨hW.1.1, d_put hW.1.2.1 hV hL (he _ (by simp [Array.getElem?_setIfInBounds, hlt])) (fun j d' hj _ => oq j hj), ?_, ⟨by rw [hz]; exact hS.1, fun q g1 g2 => ?_, fun q hq => ?_⟩, hW.1.2.2.2.2.1, rfl, hz.trans hW.1.2.2.2.2.2.2⟩, hW.2⟩
  · intro k d hk
    by_cases hka : k = a
    · subst hka; exact hA
    · simp [updS, hka] at hk; exact hW.1.2.2.1 k _ hk
  · rw [oq q (fun e => g2 (by rw [e]; exact hA))]
    exact hS.2.1 q g1 g2
  · rcases List.mem_append.mp hq with h | h
    · exact hS.2.2 q h
    · rw [hLx q h]; exact hA
theorem z_nat {z : Int32} (hz : ¬ z < 0) : z.toInt = (z.toNatClampNeg : Int) := by
  have hz0 : (0 : Int) ≤ z.toInt := by
    have := Int32.not_lt.mp hz
    simpa using Int32.le_iff_toInt_le.mp this
  show z.toInt = ((z.toInt.toNat : Nat) : Int)
  omega
theorem d_copyi {t n0 n1 index : Nat} {ty : FieldType} {sp dp n : Int32} (S : CallFix p m c cc nL s args lw_all own) (hW : d_W gp D cl F K A s Sh V L nx H locs) (hs0 : Sh a0 = some (d_int t n0)) (hs1 : Sh a = some (d_int t n1)) (ht : F[t]? = some ty) (hprim : refKind ty = false) (hlink : Cond.methodLink own index arraycopyName ∈ lw_all)
    (h1 : ¬ sp < 0) (h2 : ¬ dp < 0) (h3 : ¬ n < 0) (h4 : sp.toNatClampNeg + n.toNatClampNeg ≤ n0) (h5 : dp.toNatClampNeg + n.toNatClampNeg ≤ n1) (hfit : ∀ i, i < n.toNatClampNeg → fits ty (.int (V a0 (sp.toNatClampNeg + i))) = true)
    (hsize : ls.size = nL) (hframes : 1 ≤ R.frames) (hlocals : (rest.map fun v => v.category).sum + (nativeFrameWords "java/lang/System" "arraycopy" 5 + 11) ≤ R.locals) (hdg : decode cc pc = .ok (.invokestatic index, 3))
    (eV : V' = rowV V a (va_cpy (V a0) (V a) sp.toNatClampNeg dp.toNatClampNeg n.toNatClampNeg))
    (kk : ∀ (H1 : Heap) (locs1 : List Loc), d_W gp D cl F K A s Sh V' L nx H1 locs1 → W p l e R s m args below meth c H1 locs1 cells slots Q (F0 m (pc + 3) ls rest)) : W p l e R s m args below meth c H locs cells slots Q (F0 m pc ls (.int n :: .int dp :: .ref a :: .int sp :: .ref a0 :: rest)) := by
  obtain ⟨hexec, hb, hml, hown, hts⟩ := S
  subst eV
  intro T hT X
  have hc0 : H[a0]? = some (vp_cell (K t) (n0, .inl (V a0))) := hW.1.2.1.1 a0 _ hs0
  have hc1 : H[a]? = some (vp_cell (K t) (n1, .inl (V a))) := hW.1.2.1.1 a _ hs1
  obtain ⟨-, k0, hk0, cm0, hkk0⟩ := (hW.1.1.2 t _ (g_T_at ht)).1 n0 (fun j => .int (V a0 j))
  obtain ⟨-, k1, hk1, cm1, hkk1⟩ := (hW.1.1.2 t _ (g_T_at ht)).1 n1 (fun j => .int (V a j))
  obtain ⟨vm', X', step⟩ := X.arraycopy hexec hown (hts _ hlink) (hts _ q341) (hts _ q340) (hts _ q119) (src := a0) (dst := a) (cs := vp_cell (K t) (n0, .inl (V a0))) (cd := vp_cell (K t) (n1, .inl (V a))) (srcPos := sp) (destPos := dp) (n := n) (by rw [hT]; exact hc0) (by rw [hT]; exact hc1)
    (fun _ h => by cases h) (fun _ h => by cases h) (fun h => by cases h) (fun h => by cases h) hk0 hk1 hkk0 hkk1 (by simp [hprim]) h1 h2 h3
    (by rw [z_nat h1, z_nat h3]; show ¬ _ > ((arrV (K t) n0 (fun j => .int (V a0 j))).slots.size : Int); rw [arrV_size]; omega)
    (by rw [z_nat h2, z_nat h3]; show ¬ _ > ((arrV (K t) n1 (fun j => .int (V a j))).slots.size : Int); rw [arrV_size]; omega)
    (fun vm₁ _ i hi => by
      have e : (vp_cell (K t) (n0, .inl (V a0))).slots.getD (sp.toNatClampNeg + i) .null = .int (V a0 (sp.toNatClampNeg + i)) := by
        show (arrV (K t) n0 (fun j => .int (V a0 j))).slots.getD _ _ = _
        rw [Array.getD_eq_getD_getElem?, arrV_read _ _ (by omega)]
        rfl
      rw [e]
      exact ⟨hfit i hi, trivial⟩)
    (g := F0 m pc ls (.int n :: .int dp :: .ref a :: .int sp :: .ref a0 :: rest)) rfl (by rw [hml, ← hsize]) (rest := rest) rfl (by rw [hb]; exact hdg) hframes (by show 2 * 0 + _ + _ ≤ _; omega)
  have e1 : copied (vp_cell (K t) (n0, .inl (V a0))) (vp_cell (K t) (n1, .inl (V a))) sp dp n = vp_cell (K t) (n1, .inl (va_cpy (V a0) (V a) sp.toNatClampNeg dp.toNatClampNeg n.toNatClampNeg)) := va_copied (fun z => .int z) (K t) (K t) (V a0) (V a) h4
  rw [e1] at X' step
  have hheap : ((T.setVm vm').setCell a (vp_cell (K t) (n1, .inl (va_cpy (V a0) (V a) sp.toNatClampNeg dp.toNatClampNeg n.toNatClampNeg)))).heap = H.setIfInBounds a (vp_cell (K t) (n1, .inl (va_cpy (V a0) (V a) sp.toNatClampNeg dp.toNatClampNeg n.toNatClampNeg))) := by rw [← hT]; rfl
  have hW1 : ∀ Lx : List Loc, (∀ q ∈ Lx, q.base = a) → d_W gp D cl F K A s Sh (rowV V a (va_cpy (V a0) (V a) sp.toNatClampNeg dp.toNatClampNeg n.toNatClampNeg)) L nx (H.setIfInBounds a (vp_cell (K t) (n1, .inl (va_cpy (V a0) (V a) sp.toNatClampNeg dp.toNatClampNeg n.toNatClampNeg)))) (locs ++ Lx) := by
    intro Lx hLx
    have h9 := d_set (cell := vp_cell (K t) (n1, .inl (va_cpy (V a0) (V a) sp.toNatClampNeg dp.toNatClampNeg n.toNatClampNeg))) (d := d_int t n1) (V' := rowV V a (va_cpy (V a0) (V a) sp.toNatClampNeg dp.toNatClampNeg n.toNatClampNeg)) (L' := L) hW hs1 (fun j hj => by simp [rowV, hj]) (fun _ _ => rfl) (fun H1 h => by
      show H1[a]? = some (vp_cell (K t) (n1, .inl (rowV V a (va_cpy (V a0) (V a) sp.toNatClampNeg dp.toNatClampNeg n.toNatClampNeg) a)))
      rw [h]; simp [rowV]) hLx
    rw [← updS_self hs1] at h9
    exact h9
  obtain ⟨t, a1, b1⟩ := kk _ _ (hW1 _ (fun q hq => by
    obtain ⟨z, -, hz⟩ := List.mem_map.mp hq
    rw [← hz])) _ hheap X'
  exact ⟨t, step t a1, b1⟩
end DCP
