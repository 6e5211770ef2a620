/-! slots: begins -/
set_option maxRecDepth 100000
section ZCE
variable {p : Program} {l : Launch} {e : Env} {R : Room} {s : State} {m : MethodId} {args : Array Value} {below : List Frame} {meth : Method} {c : Code} {H : Heap} {locs : List Loc} {cells slots : Nat} {Q : State → Prop}
variable {gp : Nat → Nat} {own : String} {cc : ByteArray} {pc nL : Nat} {ls : Array Slot} {st0 : List Value} {D : va_G} {K : Nat → ClassId} {A : Nat → Prop} {Z : c_S} {x : Nat}
/-- an object of a class that the machine made -/
def zCe (s : State) (H : Heap) (x : Nat) (C : String) : Prop := ∃ ce : Cell, H[x]? = some ce ∧ ce.vm = .none ∧ s.vm.findClass C = some ce.cls
/-- the table's first row catches it -/
theorem zcatchE {C E : String} {a b hp ct : Nat} {z : ExceptionTableEntry} {zr : List ExceptionTableEntry} (hsplit : c.exceptionTable.toList = z :: zr) (hf : (z.startPc, z.endPc, z.handlerPc, z.catchType) = (a, b, hp, ct)) (hcov : a ≤ pc ∧ pc < b) (hct : ct ≠ 0)
    (S : CallFix p m c cc nL s args lw_all own) (hlink : Cond.classLink own ct E ∈ lw_all) (hce : zCe s H x C) (hfit : ∀ c0 c1, s.vm.findClass C = some c0 → s.vm.findClass E = some c1 → s.vm.assignable c0 c1 = true)
    (k : W p l e R s m args below meth c H locs cells slots Q (F0 m hp ls [.ref x])) : WT p l e R s m args below meth c H locs cells slots Q (F0 m pc ls st0) x := by
  injection hf with f1 hf
  injection hf with f2 hf
  injection hf with f3 f4
  subst f1; subst f2; subst f3; subst f4
  obtain ⟨cell, g1, g2, g3⟩ := hce
  exact WT.catch (C := C) (E := E) S.2.2.2.1 [] z zr hsplit (fun y hy => absurd hy List.not_mem_nil) (by simp [covers, hcov.1, hcov.2]) hct (S.2.2.2.2 _ hlink) g1 (fun q h => by rw [h] at g2; cases g2) g3 (fun c1 h1 => hfit _ _ g3 h1) k
/-- the first row does not, the second one does -/
theorem zcatchE2 {C E0 E : String} {a0 b0 hp0 ct0 a b hp ct : Nat} {z0 z : ExceptionTableEntry} {zr : List ExceptionTableEntry} (hsplit : c.exceptionTable.toList = z0 :: z :: zr) (hf0 : (z0.startPc, z0.endPc, z0.handlerPc, z0.catchType) = (a0, b0, hp0, ct0)) (hf : (z.startPc, z.endPc, z.handlerPc, z.catchType) = (a, b, hp, ct)) (hcov0 : a0 ≤ pc ∧ pc < b0) (hct0 : ct0 ≠ 0) (hcov : a ≤ pc ∧ pc < b) (hct : ct ≠ 0)
    (S : CallFix p m c cc nL s args lw_all own) (hlink0 : Cond.classLink own ct0 E0 ∈ lw_all) (hlink : Cond.classLink own ct E ∈ lw_all) (hnc : va_Nc C E0 s) (hce : zCe s H x C) (hfit : ∀ c0 c1, s.vm.findClass C = some c0 → s.vm.findClass E = some c1 → s.vm.assignable c0 c1 = true)
    (k : W p l e R s m args below meth c H locs cells slots Q (F0 m hp ls [.ref x])) : WT p l e R s m args below meth c H locs cells slots Q (F0 m pc ls st0) x := by
  injection hf with f1 hf
  injection hf with f2 hf
  injection hf with f3 f4
  subst f1; subst f2; subst f3; subst f4
  injection hf0 with f1 hf0
  injection hf0 with f2 hf0
  injection hf0 with f3 f4
  subst f1; subst f2; subst f3; subst f4
  obtain ⟨cell, g1, g2, g3⟩ := hce
  exact WT.catch2 (C := C) (E0 := E0) (E := E) S.2.2.2.1 hsplit (by simp [covers, hcov0.1, hcov0.2]) hct0 (by simp [covers, hcov.1, hcov.2]) hct (S.2.2.2.2 _ hlink0) (S.2.2.2.2 _ hlink) g1 (fun q h => by rw [h] at g2; cases g2) g3 hnc (fun c1 h1 => hfit _ _ g3 h1) k
theorem z_fits {C : String} {c0 c1 : ClassId} (h0 : s.vm.findClass C = some c0) (h1 : s.vm.findClass C = some c1) : s.vm.assignable c0 c1 = true := by
  cases h0.symm.trans h1
  exact vz_refl _ _
theorem fitN : Bundle.fit negN = true ∧ (∀ n ∈ negUp, Bundle.fit n = true) ∧ (negN == "java/lang/StackOverflowError") = false ∧ (negN == "java/lang/OutOfMemoryError") = false := by decide +kernel
theorem fitX : Bundle.fit idxN2 = true ∧ (∀ n ∈ idxUp2, Bundle.fit n = true) ∧ (idxN2 == "java/lang/StackOverflowError") = false ∧ (idxN2 == "java/lang/OutOfMemoryError") = false := by decide +kernel
theorem fitC : Bundle.fit cceN = true ∧ (∀ n ∈ negUp, Bundle.fit n = true) ∧ (cceN == "java/lang/StackOverflowError") = false ∧ (cceN == "java/lang/OutOfMemoryError") = false := by decide +kernel
theorem neg_text (n : Int32) : ((toString n) == notModelled) = false ∧ (stringBytes (stringToUtf16 (toString n))).size ≤ 44 := by
  have b3 := int32_print n
  refine ⟨?_, ?_⟩
  · rw [beq_eq_false_iff_ne]
    intro h
    rw [h] at b3
    revert b3
    decide +kernel
  · have b1 := stringBytes_size_le (stringToUtf16 (toString n))
    have b2 := utf16_size_le (toString n)
    omega
/-- newarray of less than nothing -/
theorem zx_neg {n : Int32} {atype : ArrayType} (S : CallFix p m c cc nL s args lw_all own) (hW : z_W gp D K A s Z H locs) (hpl : zPl A s) (hlt : l.stackTraces = false) (hn : n < 0) (hdg : decode cc pc = .ok (.newarray atype, 2)) (hsize : ls.size = nL) (hro : (st0.map fun v => v.category).sum ≤ 8) (hfr : 6 < R.frames) (hlo : 10248 ≤ R.locals) (hcells : cells + 3 ≤ R.cells) (hslots : slots + 54 ≤ R.slots)
    (k : ∀ (H1 : Heap) (locs1 : List Loc), z_W gp D K A s (zGrow Z 3) H1 locs1 → zCe s H1 (Z.n + 2) negN → WT p l e R s m args below meth c H1 locs1 (cells + 3) (slots + 54) Q (F0 m pc ls st0) (Z.n + 2)) : W p l e R s m args below meth c H locs cells slots Q (F0 m pc ls (.int n :: st0)) :=
  zx_newaN S hn hdg (fun T hT X => zthrowM (cls := negN) (text := toString n) (names := negUp) (B := 44) S hW hpl hlt fitN.1 fitN.2.1 fitN.2.2.1 fitN.2.2.2 zat_neg (neg_text n).1 (neg_text n).2 (by omega) hsize hro hfr hlo (by decide) hcells hslots k hT X)
theorem idx_text (i : Int32) {n : Nat} (h : n < 2 ^ 31) : ((oobT i n) == notModelled) = false ∧ (stringBytes (stringToUtf16 (oobT i n))).size ≤ 212 := ⟨index_text_modelled i n, index_text_bytes i h⟩
/-- the note of an index, up to the throw -/
theorem zx_idx {i : Int32} {n : Nat} (S : CallFix p m c cc nL s args lw_all own) (hW : z_W gp D K A s Z H locs) (hpl : zPl A s) (hlt : l.stackTraces = false) (hn : n < 2 ^ 31) (hsize : ls.size = nL) (hro : (st0.map fun v => v.category).sum ≤ 8) (hfr : 7 < R.frames) (hlo : 10248 ≤ R.locals) (hcells : cells + 3 ≤ R.cells) (hslots : slots + 222 ≤ R.slots)
    (k : ∀ (H1 : Heap) (locs1 : List Loc), z_W gp D K A s (zGrow Z 3) H1 locs1 → zCe s H1 (Z.n + 2) idxN2 → WT p l e R s m args below meth c H1 locs1 (cells + 3) (slots + 222) Q (F0 m pc ls st0) (Z.n + 2)) : zNote p l e R s m args below meth c H locs cells slots Q (F0 m pc ls st0) "java/lang/ArrayIndexOutOfBoundsException" (some (oobT i n)) :=
  fun T hT X => zthrowM (cls := idxN2) (text := oobT i n) (names := idxUp2) (B := 212) S hW hpl hlt fitX.1 fitX.2.1 fitX.2.2.1 fitX.2.2.2 zat_idx (idx_text i hn).1 (idx_text i hn).2 (by omega) hsize hro hfr hlo (by decide) hcells hslots k hT X
/-- the note of a cast -/
theorem zx_cce {text : String} (ht : text = cceA ∨ text = cceB) (S : CallFix p m c cc nL s args lw_all own) (hW : z_W gp D K A s Z H locs) (hpl : zPl A s) (hlt : l.stackTraces = false) (hsize : ls.size = nL) (hro : (st0.map fun v => v.category).sum ≤ 8) (hfr : 6 < R.frames) (hlo : 10248 ≤ R.locals) (hcells : cells + 3 ≤ R.cells) (hslots : slots + 210 ≤ R.slots)
    (k : ∀ (H1 : Heap) (locs1 : List Loc), z_W gp D K A s (zGrow Z 3) H1 locs1 → zCe s H1 (Z.n + 2) cceN → WT p l e R s m args below meth c H1 locs1 (cells + 3) (slots + 210) Q (F0 m pc ls st0) (Z.n + 2)) : zNote p l e R s m args below meth c H locs cells slots Q (F0 m pc ls st0) "java/lang/ClassCastException" (some text) := by
  have hT : (text == notModelled) = false ∧ (stringBytes (stringToUtf16 text)).size ≤ 200 := by
    rcases ht with rfl | rfl
    · exact cceA_ok
    · exact cceB_ok
  exact fun T hT' X => zthrowM (cls := cceN) (text := text) (names := negUp) (B := 200) S hW hpl hlt fitC.1 fitC.2.1 fitC.2.2.1 fitC.2.2.2 zat_cce hT.1 hT.2 (by omega) hsize hro hfr hlo (by decide) hcells hslots k hT' X
/-- the note of a null -/
theorem zx_nul (S : CallFix p m c cc nL s args lw_all own) (hW : z_W gp D K A s Z H locs) (hpl : zPl A s) (hlt : l.stackTraces = false) (hsize : ls.size = nL) (hro : (st0.map fun v => v.category).sum ≤ 8) (hfr : 7 < R.frames) (hlo : 10248 ≤ R.locals) (hcells : cells + 1 ≤ R.cells) (hslots : slots + 8 ≤ R.slots)
    (k : ∀ (H1 : Heap) (locs1 : List Loc), z_W gp D K A s (zGrow Z 1) H1 locs1 → zCe s H1 Z.n "java/lang/NullPointerException" → WT p l e R s m args below meth c H1 locs1 (cells + 1) (slots + 8) Q (F0 m pc ls st0) Z.n) : zNote p l e R s m args below meth c H locs cells slots Q (F0 m pc ls st0) "java/lang/NullPointerException" none :=
  fun T hT X => zthrowN S hW hpl hlt hsize hro hfr hlo hcells hslots k hT X
end ZCE
theorem zw_newl {p : Program} {l : Launch} {e : Env} {R : Room} {s : State} {m : MethodId} {args : Array Value} {below : List Frame} {meth : Method} {c : Code} {H : Heap} {locs : List Loc} {cells slots : Nat} {Q : State → Prop} {gp : Nat → Nat} {own : String} {cc : ByteArray} {pc nL : Nat} {ls : Array Slot} {rest : List Value} {D : va_G} {K : Nat → ClassId} {A : Nat → Prop} {Z : c_S} {ρ : Type} {r : ρ} {n : Int32} {N : Nat} {k : c_S → Nat → Option ρ} (S : CallFix p m c cc nL s args lw_all own) (hW : z_W gp D K A s Z H locs) (hn : ¬ n < 0) (hN : n.toNatClampNeg = N) (hbytes : N * componentBytes .long ≤ 536870912)
    (hcells : cells + 1 ≤ R.cells) (hslots : slots + N ≤ R.slots) (hdg : decode cc pc = .ok (.newarray .long, 2)) (h : zNewL Z 4 N k = some r)
    (kk : ∀ Z' b, k Z' b = some r → ∀ H1 : Heap, z_W gp D K A s Z' H1 locs → W p l e R s m args below meth c H1 locs (cells + 1) (slots + N) Q (F0 m (pc + 2) ls (.ref b :: rest))) : W p l e R s m args below meth c H locs cells slots Q (F0 m pc ls (.int n :: rest)) :=
  d_newl S hW q246 rfl hn hN hbytes rfl rfl rfl hcells hslots hdg (fun H1 h1 => kk _ _ h H1 h1)
abbrev rmX7_begins : Room := rmD 8 10256 3 60
set_option maxHeartbeats 4000000 in
theorem metX7_begins {l : Launch} (hlt : l.stackTraces = false) {gp : Nat → Nat} {D : va_G} {K : Nat → ClassId} {Z0 : c_S} {a0 : Nat} {a1 a2 r : Int32} {Z' : c_S} (h : cm_X7_begins Z0 a0 a1 a2 = some (r, Z')) : MetT l yX7_begins (wsW_ yX7_begins cX7_begins 4 (some .boolean) [(0, 65, 68, 15)]) rmX7_begins (z_Pc gp [.ref a0, .int a1, .int a2] D K Z0) (z_Q (.returned (some (.int r))) D K (z_A Z0) Z') 3 60 (z_A Z0) := by
  refine d_metH rfl (Nat.le_of_ble_eq_true rfl) ?_
  intro p e s m below meth c ls S hr hlk ht_ hl hW hsz
  obtain ⟨z0, zr, htab, hf0⟩ := ztab ht_
  have S : CallFix p m c cX7_begins 4 s ([.ref a0, .int a1, .int a2] : List Value).toArray lw_all RX7 := S
  have hx := S.1
  have hb := S.2.1
  have hl : lv_has ls 4 [(0, .ref a0), (1, .int a1), (2, .int a2)] := hl
  have hpl := zPl_of hW hsz
  -- it caught
  have caught : ∀ (pc : Nat) (H1 : Heap) (locs1 : List Loc), 0 ≤ pc ∧ pc < 65 → a2 < 0 → z_W gp D K (z_A Z0) s (zGrow Z0 3) H1 locs1 → zCe s H1 (Z0.n + 2) negN → WT p l e rmX7_begins s m ([.ref a0, .int a1, .int a2] : List Value).toArray below meth c H1 locs1 (0 + 3) (0 + 54) (MQT below (z_Q (.returned (some (.int r))) D K (z_A Z0) Z') ([.ref a0, .int a1, .int a2] : List Value).toArray s 3 60 (z_A Z0)) (F0 m pc ls [.ref a0]) (Z0.n + 2) := by
    intro pc H1 locs1 hpc hn hW1 hce
    unfold cm_X7_begins at h
    rw [if_pos hn] at h
    refine zcatchE htab hf0 hpc (by decide) S q156 hce (fun c0 c1 h0 h1 => z_fits h0 h1) ?_
    refine lv_astore_n (lv' := [(3, .ref (Z0.n + 2)), (0, .ref a0), (1, .int a1), (2, .int a2)]) hx hb dX7_begins_68 rfl hl (by decide) rfl (fun ls hl => ?_)
    refine lv_iconst (v := 0) hx hb dX7_begins_69 (by decide) ?_
    cases h
    exact W.toT (d_zret S hr hlk rfl hW1 (Nat.le_of_ble_eq_true rfl) (Nat.le_of_ble_eq_true rfl) dX7_begins_70)
  refine lv_iload_n hx hb dX7_begins_0 rfl (lv_at hl 1 rfl) ?_
  by_cases c_1 : a1 = 0
  · refine lv_tableIn (off := 27) (tgt := 28) hx hb dX7_begins_1 (by rw [c_1]; decide) (by rw [c_1]; decide) (by rw [c_1]; decide) (by decide) ?_
    refine lv_aload_n hx hb dX7_begins_28 rfl (lv_at hl 0 rfl) ?_
    refine lv_iload_n hx hb dX7_begins_29 rfl (lv_at hl 2 rfl) ?_
    by_cases hn : a2 < 0
    · exact zx_neg S hW hpl hlt hn dX7_begins_30 hl.1 (Nat.le_of_ble_eq_true rfl) (Nat.le_of_ble_eq_true rfl) (Nat.le_of_ble_eq_true rfl) (Nat.le_of_ble_eq_true rfl) (Nat.le_of_ble_eq_true rfl) (fun H1 locs1 hW1 hce => caught 30 H1 locs1 (by decide) hn hW1 hce)
    unfold cm_X7_begins at h
    rw [if_neg hn] at h
    by_cases h60 : 60 < a2.toNatClampNeg
    · rw [if_pos h60] at h; cases h
    rw [if_neg h60, if_pos c_1] at h
    refine zw_newi (atype := .byte) (t := 1) (N := a2.toNatClampNeg) S hW q239 rfl rfl (fun h => h) hn rfl (by show _ * 1 ≤ _; omega) (Nat.le_of_ble_eq_true rfl) (by show 0 + _ ≤ 60; omega) dX7_begins_30 h (fun Z_4 a_5 h H hW => ?_)
    refine zw_putR (o := some a_5) S hW zC_X7 (i := 0) (by decide) (Or.inl rfl) rfl (Or.inl q749) (fun _ h => h) dX7_begins_32 h (fun Z_6 h H locs hW => ?_)
    refine lv_goto (tgt := 65) hx hb dX7_begins_35 (by decide) ?_
    refine lv_goto (tgt := 71) hx hb dX7_begins_65 (by decide) ?_
    refine lv_iconst (v := 1) hx hb dX7_begins_71 (by decide) ?_
    cases h
    exact W.toT (d_zret S hr hlk rfl hW (Nat.le_of_ble_eq_true rfl) (by omega) dX7_begins_72)
  by_cases c_3 : a1 = 1
  · refine lv_tableIn (off := 37) (tgt := 38) hx hb dX7_begins_1 (by rw [c_3]; decide) (by rw [c_3]; decide) (by rw [c_3]; decide) (by decide) ?_
    refine lv_aload_n hx hb dX7_begins_38 rfl (lv_at hl 0 rfl) ?_
    refine lv_iload_n hx hb dX7_begins_39 rfl (lv_at hl 2 rfl) ?_
    by_cases hn : a2 < 0
    · exact zx_neg S hW hpl hlt hn dX7_begins_40 hl.1 (Nat.le_of_ble_eq_true rfl) (Nat.le_of_ble_eq_true rfl) (Nat.le_of_ble_eq_true rfl) (Nat.le_of_ble_eq_true rfl) (Nat.le_of_ble_eq_true rfl) (fun H1 locs1 hW1 hce => caught 40 H1 locs1 (by decide) hn hW1 hce)
    unfold cm_X7_begins at h
    rw [if_neg hn] at h
    by_cases h60 : 60 < a2.toNatClampNeg
    · rw [if_pos h60] at h; cases h
    rw [if_neg h60, if_neg c_1, if_pos c_3] at h
    refine zw_newi (atype := .short) (t := 3) (N := a2.toNatClampNeg) S hW q244 rfl rfl (fun h => h) hn rfl (by show _ * 2 ≤ _; omega) (Nat.le_of_ble_eq_true rfl) (by show 0 + _ ≤ 60; omega) dX7_begins_40 h (fun Z_4 a_5 h H hW => ?_)
    refine zw_putR (o := some a_5) S hW zC_X7 (i := 0) (by decide) (Or.inl rfl) rfl (Or.inl q749) (fun _ h => h) dX7_begins_42 h (fun Z_6 h H locs hW => ?_)
    refine lv_goto (tgt := 65) hx hb dX7_begins_45 (by decide) ?_
    refine lv_goto (tgt := 71) hx hb dX7_begins_65 (by decide) ?_
    refine lv_iconst (v := 1) hx hb dX7_begins_71 (by decide) ?_
    cases h
    exact W.toT (d_zret S hr hlk rfl hW (Nat.le_of_ble_eq_true rfl) (by omega) dX7_begins_72)
  by_cases c_5 : a1 = 2
  · refine lv_tableIn (off := 47) (tgt := 48) hx hb dX7_begins_1 (by rw [c_5]; decide) (by rw [c_5]; decide) (by rw [c_5]; decide) (by decide) ?_
    refine lv_aload_n hx hb dX7_begins_48 rfl (lv_at hl 0 rfl) ?_
    refine lv_iload_n hx hb dX7_begins_49 rfl (lv_at hl 2 rfl) ?_
    by_cases hn : a2 < 0
    · exact zx_neg S hW hpl hlt hn dX7_begins_50 hl.1 (Nat.le_of_ble_eq_true rfl) (Nat.le_of_ble_eq_true rfl) (Nat.le_of_ble_eq_true rfl) (Nat.le_of_ble_eq_true rfl) (Nat.le_of_ble_eq_true rfl) (fun H1 locs1 hW1 hce => caught 50 H1 locs1 (by decide) hn hW1 hce)
    unfold cm_X7_begins at h
    rw [if_neg hn] at h
    by_cases h60 : 60 < a2.toNatClampNeg
    · rw [if_pos h60] at h; cases h
    rw [if_neg h60, if_neg c_1, if_neg c_3, if_pos c_5] at h
    refine zw_newi (atype := .int) (t := 0) (N := a2.toNatClampNeg) S hW q245 rfl rfl (fun h => h) hn rfl (by show _ * 4 ≤ _; omega) (Nat.le_of_ble_eq_true rfl) (by show 0 + _ ≤ 60; omega) dX7_begins_50 h (fun Z_4 a_5 h H hW => ?_)
    refine zw_putR (o := some a_5) S hW zC_X7 (i := 0) (by decide) (Or.inl rfl) rfl (Or.inl q749) (fun _ h => h) dX7_begins_52 h (fun Z_6 h H locs hW => ?_)
    refine lv_goto (tgt := 65) hx hb dX7_begins_55 (by decide) ?_
    refine lv_goto (tgt := 71) hx hb dX7_begins_65 (by decide) ?_
    refine lv_iconst (v := 1) hx hb dX7_begins_71 (by decide) ?_
    cases h
    exact W.toT (d_zret S hr hlk rfl hW (Nat.le_of_ble_eq_true rfl) (by omega) dX7_begins_72)
  have c_1' := lv_neT (a := 0) c_1 (by decide)
  have c_3' := lv_neT (a := 1) c_3 (by decide)
  have c_5' := lv_neT (a := 2) c_5 (by decide)
  refine lv_tableOut (tgt := 58) hx hb dX7_begins_1 (by omega) (by decide) ?_
  refine lv_aload_n hx hb dX7_begins_58 rfl (lv_at hl 0 rfl) ?_
  refine lv_iload_n hx hb dX7_begins_59 rfl (lv_at hl 2 rfl) ?_
  by_cases hn : a2 < 0
  · exact zx_neg S hW hpl hlt hn dX7_begins_60 hl.1 (Nat.le_of_ble_eq_true rfl) (Nat.le_of_ble_eq_true rfl) (Nat.le_of_ble_eq_true rfl) (Nat.le_of_ble_eq_true rfl) (Nat.le_of_ble_eq_true rfl) (fun H1 locs1 hW1 hce => caught 60 H1 locs1 (by decide) hn hW1 hce)
  unfold cm_X7_begins at h
  rw [if_neg hn] at h
  by_cases h60 : 60 < a2.toNatClampNeg
  · rw [if_pos h60] at h; cases h
  rw [if_neg h60, if_neg c_1, if_neg c_3, if_neg c_5] at h
  refine zw_newl (N := a2.toNatClampNeg) S hW hn rfl (by show _ * 8 ≤ _; omega) (Nat.le_of_ble_eq_true rfl) (by show 0 + _ ≤ 60; omega) dX7_begins_60 h (fun Z_4 a_5 h H hW => ?_)
  refine zw_putR (o := some a_5) S hW zC_X7 (i := 0) (by decide) (Or.inl rfl) rfl (Or.inl q749) (fun _ h => h) dX7_begins_62 h (fun Z_6 h H locs hW => ?_)
  refine lv_goto (tgt := 71) hx hb dX7_begins_65 (by decide) ?_
  refine lv_iconst (v := 1) hx hb dX7_begins_71 (by decide) ?_
  cases h
  exact W.toT (d_zret S hr hlk rfl hW (Nat.le_of_ble_eq_true rfl) (by omega) dX7_begins_72)
