/-! System.arraycopy outside of a row, in the component's worlds -/
set_option maxRecDepth 100000
theorem int_print {i : Int} (h1 : i < 10 ^ 10) (h2 : -(10 : Int) ^ 10 < i) : (toString i).toList.length ≤ 11 := by
  show (Int.repr i).toList.length ≤ 11
  cases i with
  | ofNat m =>
    have h1' : (m : Int) < 10 ^ 10 := h1
    have := nat_print (n := m) (by omega)
    show (toString m).toList.length ≤ 11
    omega
  | negSucc m =>
    have h2' : -(10 : Int) ^ 10 < -((m : Int) + 1) := by simpa [Int.negSucc_eq] using h2
    have := nat_print (n := m.succ) (by omega)
    show ("-" ++ toString m.succ).toList.length ≤ 11
    rw [String.toList_append, List.length_append]
    have h0 : "-".toList.length = 1 := by decide
    omega
theorem acW_len {sp dp n : Int32} {sN dN : String} {N0 N1 : Nat} {what : String} (h : acW sp dp n sN dN N0 N1 = some what) (hs : sN.toList.length ≤ 12) (hd : dN.toList.length ≤ 12) (h0 : N0 ≤ 60) (h1 : N1 ≤ 60) : what.toList.length ≤ 90 := by
  have p0 := nat_print (n := N0) (by omega)
  have p1 := nat_print (n := N1) (by omega)
  have a0 := int32_print sp
  have a1 := int32_print dp
  have a2 := int32_print n
  have b1 := Int32.toInt_lt sp
  have b2 := Int32.le_toInt sp
  have b3 := Int32.toInt_lt dp
  have b4 := Int32.le_toInt dp
  have b5 := Int32.toInt_lt n
  have b6 := Int32.le_toInt n
  have c0 := int_print (i := sp.toInt + n.toInt) (by omega) (by omega)
  have c1 := int_print (i := dp.toInt + n.toInt) (by omega) (by omega)
  have br : ∀ (a : String) (k : Nat), (toString (toString a ++ toString "[" ++ toString k ++ toString "]")).toList.length = a.toList.length + (toString k).toList.length + 2 := fun a k => by
    show (a ++ "[" ++ toString k ++ "]").toList.length = _
    simp only [String.toList_append, List.length_append]
    have h2 : "[".toList.length = 1 := by decide
    have h3 : "]".toList.length = 1 := by decide
    omega
  unfold acW at h
  split at h
  · cases h
    show (toString "source index " ++ toString sp ++ toString " out of bounds for " ++ toString (toString sN ++ toString "[" ++ toString N0 ++ toString "]")).toList.length ≤ 90
    have e1 : (toString "source index ").toList.length = 13 := by decide
    have e2 : (toString " out of bounds for ").toList.length = 19 := by decide
    have := br sN N0
    rw [String.toList_append, String.toList_append, String.toList_append, List.length_append, List.length_append, List.length_append, this]
    omega
  · split at h
    · cases h
      show (toString "destination index " ++ toString dp ++ toString " out of bounds for " ++ toString (toString dN ++ toString "[" ++ toString N1 ++ toString "]")).toList.length ≤ 90
      have e1 : (toString "destination index ").toList.length = 18 := by decide
      have e2 : (toString " out of bounds for ").toList.length = 19 := by decide
      have := br dN N1
      rw [String.toList_append, String.toList_append, String.toList_append, List.length_append, List.length_append, List.length_append, this]
      omega
    · split at h
      · cases h
        show (toString "length " ++ toString n ++ toString " is negative").toList.length ≤ 90
        have e1 : (toString "length ").toList.length = 7 := by decide
        have e2 : (toString " is negative").toList.length = 12 := by decide
        rw [String.toList_append, String.toList_append, List.length_append, List.length_append]
        omega
      · split at h
        · cases h
          show (toString "last source index " ++ toString (sp.toInt + n.toInt) ++ toString " out of bounds for " ++ toString (toString sN ++ toString "[" ++ toString N0 ++ toString "]")).toList.length ≤ 90
          have e1 : (toString "last source index ").toList.length = 18 := by decide
          have e2 : (toString " out of bounds for ").toList.length = 19 := by decide
          have := br sN N0
          rw [String.toList_append, String.toList_append, String.toList_append, List.length_append, List.length_append, List.length_append, this]
          omega
        · split at h
          · cases h
            show (toString "last destination index " ++ toString (dp.toInt + n.toInt) ++ toString " out of bounds for " ++ toString (toString dN ++ toString "[" ++ toString N1 ++ toString "]")).toList.length ≤ 90
            have e1 : (toString "last destination index ").toList.length = 23 := by decide
            have e2 : (toString " out of bounds for ").toList.length = 19 := by decide
            have := br dN N1
            rw [String.toList_append, String.toList_append, String.toList_append, List.length_append, List.length_append, List.length_append, this]
            omega
          · cases h
theorem ac_text {what : String} (h : what.toList.length ≤ 90) : (("arraycopy: " ++ what) == notModelled) = false ∧ (stringBytes (stringToUtf16 ("arraycopy: " ++ what))).size ≤ 404 := by
  refine ⟨?_, ?_⟩
  · rw [beq_eq_false_iff_ne]
    intro h2
    have h3 := congrArg String.toList h2
    rw [String.toList_append] at h3
    have h4 : "arraycopy: ".toList = 'a' :: "rraycopy: ".toList := by decide
    have h5 : notModelled.toList = '\u0000' :: " a message that is not modelled".toList := by decide
    rw [h4, h5] at h3
    simp at h3
  · have b1 := stringBytes_size_le (stringToUtf16 ("arraycopy: " ++ what))
    have b2 := utf16_size_le ("arraycopy: " ++ what)
    rw [String.toList_append, List.length_append] at b2
    have h4 : "arraycopy: ".toList.length = 11 := by decide
    omega
theorem acW_some {sp dp n : Int32} {sN dN : String} {N0 N1 : Nat} (h : oobC sp dp n N0 N1 = true) : ∃ what, acW sp dp n sN dN N0 N1 = some what := by
  have h := of_decide_eq_true h
  unfold acW
  by_cases c1 : sp < 0
  · rw [if_pos c1]; exact ⟨_, rfl⟩
  rw [if_neg c1]
  by_cases c2 : dp < 0
  · rw [if_pos c2]; exact ⟨_, rfl⟩
  rw [if_neg c2]
  by_cases c3 : n < 0
  · rw [if_pos c3]; exact ⟨_, rfl⟩
  rw [if_neg c3]
  by_cases c4 : sp.toInt + n.toInt > N0
  · rw [if_pos c4]; exact ⟨_, rfl⟩
  rw [if_neg c4]
  by_cases c5 : dp.toInt + n.toInt > N1
  · rw [if_pos c5]; exact ⟨_, rfl⟩
  exfalso
  have e1 := z_nat c1
  have e2 := z_nat c2
  have e3 := z_nat c3
  rcases h with h | h | h | h | h
  · exact c1 h
  · exact c2 h
  · exact c3 h
  · omega
  · omega
section ZCO
variable {p : Program} {l : Launch} {e : Env} {R : Room} {s : State} {m : MethodId} {args : Array Value} {below : List Frame} {meth : Method} {c : Code} {H : Heap} {locs : List Loc} {cells slots : Nat} {Q : State → Prop}
variable {gp : Nat → Nat} {own : String} {cc : ByteArray} {pc nL : Nat} {ls : Array Slot} {rest : List Value} {a a0 : Nat} {D : va_G} {K : Nat → ClassId} {A : Nat → Prop} {Z : c_S}
theorem zx_copyO {t N0 N1 index : Nat} {ty : FieldType} {sp dp n : Int32} {cs cd : Cell} {ks kd : Class} {cm0 cm1 : ClassId} (S : CallFix p m c cc nL s args lw_all own) (hW : z_W gp D K A s Z H locs) (hpl : zPl A s) (hlt : l.stackTraces = false) (hs0 : H[a0]? = some cs) (hs1 : H[a]? = some cd) (hv0 : cs.vm = .none) (hv1 : cd.vm = .none) (hz0 : cs.slots.size = N0) (hz1 : cd.slots.size = N1) (hk0 : s.vm.classes[cs.cls]? = some ks) (hk1 : s.vm.classes[cd.cls]? = some kd) (hkk0 : ks.kind = .array cm0 ty) (hkk1 : kd.kind = .array cm1 ty) (hprim : refKind ty = false) (hN0 : N0 ≤ 60) (hN1 : N1 ≤ 60) (hkn : (Native.java_lang_System.arraycopy.kindName ty).toList.length ≤ 12) (hoob : oobC sp dp n N0 N1 = true) (hlink : Cond.methodLink own index arraycopyName ∈ lw_all)
    (hsize : ls.size = nL) (hro : (rest.map fun v => v.category).sum ≤ 8) (hfr : 8 < R.frames) (hlo : 10300 ≤ R.locals) (hcells : cells + 3 ≤ R.cells) (hslots : slots + 414 ≤ R.slots) (hdg : decode cc pc = .ok (.invokestatic index, 3))
    (k : ∀ (H1 : Heap) (locs1 : List Loc), z_W gp D K A s (zGrow Z 3) H1 locs1 → zCe s H1 (Z.n + 2) idxN2 → WT p l e R s m args below meth c H1 locs1 (cells + 3) (slots + 414) Q (F0 m pc ls rest) (Z.n + 2)) : W p l e R s m args below meth c H locs cells slots Q (F0 m pc ls (.int n :: .int dp :: .ref a :: .int sp :: .ref a0 :: rest)) := by
  intro T hT X
  have hTz : T.heap.size = Z.n := by rw [hT]; exact hW.1.2.2.2.2.2.2
  have hat := zatoms zat_idx S hW
  obtain ⟨hexec, hb, hml, hown, hts⟩ := S
  obtain ⟨what, hwh⟩ := acW_some (sN := Native.java_lang_System.arraycopy.kindName ty) (dN := Native.java_lang_System.arraycopy.kindName ty) hoob
  obtain ⟨tx1, tx2⟩ := ac_text (acW_len hwh hkn hkn hN0 hN1)
  obtain ⟨r, kS, methS, hnS, hmS, hkS, N⟩ := NativeOf.of_static (hts _ q341) (hts _ q340) (ps := [.object "java/lang/Object", .int, .object "java/lang/Object", .int, .int]) (ret := none) (by decide +kernel)
  have hinitS : kS.init = .initialized := Cond.initialized_spec (findClass_of_methodNamed hnS) hkS (hts _ q119)
  obtain ⟨vm', X', step⟩ := X.invokestatic hexec hown (hts _ hlink) hnS hmS N.static hkS hinitS (by decide) (g := F0 m pc ls (.int n :: .int dp :: .ref a :: .int sp :: .ref a0 :: rest)) rfl (argsL := [.ref a0, .int sp, .ref a, .int dp, .int n]) (rest := rest) (by rw [N.sig]; rfl) rfl (by rw [hb]; exact hdg)
  have hA' : s.vm.Alike vm' := X'.warmed.alike
  obtain ⟨kS', N'⟩ := N.alike hA'
  obtain ⟨ks', hks', hes⟩ := hA'.2.2 _ _ hk0
  obtain ⟨kd', hkd', hed⟩ := hA'.2.2 _ _ hk1
  have hl1 : ¬ (stringBytes (stringToUtf16 ("arraycopy: " ++ what))).size > e.platform.arrayLengthLimit := by rw [Launch.admits_arrayLengthLimit X.admits]; omega
  have hl2 : ¬ (stringBytes (stringToUtf16 ("arraycopy: " ++ what))).size * componentBytes .byte > e.platform.maxHeapBytes := by
    rw [Launch.admits_maxHeapBytes X.admits]; show ¬ (stringBytes (stringToUtf16 ("arraycopy: " ++ what))).size * 1 > _; omega
  obtain ⟨U, Lx, XU, hLx, stU, hz, ho, ce, c1, c2, c3⟩ := zmsgN (cls := idxN2) (names := idxUp2) (text := "arraycopy: " ++ what) X' hexec (by rw [X.admits.platform]; exact hlt) fitX.1 fitX.2.1 fitX.2.2.1 fitX.2.2.2 hat (fun x hx cell hc => hpl _ (hW.1.2.2.2.1.2.2 x hx) cell hc) tx1 hl1 hl2 (g := F0 m pc ls rest) rfl (hsize.trans hml.symm) (nf := { method := r, args := seenByNative methS #[.ref a0, .int sp, .ref a, .int dp, .int n], locked := none }) rfl rfl rfl hfr (by show 2 * 0 + (rest.map fun v => v.category).sum + _ ≤ _; omega) (by decide) hcells (by omega)
  have hTz' : (T.setVm vm').heap.size = Z.n := hTz
  rw [hTz'] at hLx hz ho c1 stU
  obtain ⟨t, a1, b1⟩ := k U.heap _ (z_grow (x := 2) hW hz (fun q hq => (ho q hq).trans (by show T.heap[q]? = _; rw [hT])) hLx) ⟨ce, c1, c2, c3⟩ U rfl (stand_widen XU (Nat.le_refl _) (by omega))
  refine ⟨t, step t (fun acts => ?_), b1⟩
  have hseen : seenByNative methS #[.ref a0, .int sp, .ref a, .int dp, .int n] = #[.ref a0, .int sp, .ref a, .int dp, .int n] := by
    simp [seenByNative, N.static, N.sig, narrow]
  refine native_throws (g := F0 m pc ls rest) (row := arraycopyRow) (cls := idxN2) (msg := some ("arraycopy: " ++ what)) X'.here acts N'.cls N'.meth N'.boot N'.native N'.noCode N'.noLock (by rw [N'.className, N'.name, N'.desc]; exact arraycopy_row p)
    (by rw [N'.className, N'.name]; exact X'.notFull (g := F0 m pc ls rest) (hsize.trans hml.symm) (vars := nativeFrameWords "java/lang/System" "arraycopy" 5) (by omega) (by
      show 2 * 0 + (rest.map fun v => v.category).sum + _ ≤ _
      have : nativeFrameWords "java/lang/System" "arraycopy" 5 + 11 ≤ 30 := by decide +kernel
      omega)) (fun E hE => ?_) (stU t a1)
  rw [hseen] at hE ⊢
  rw [arraycopyRow_sem]
  exact ac_throw (cs := cs) (cd := cd) (ks := ks') (kd := kd') (sComp := cm0) (dComp := cm1) (sType := ty) (dType := ty) (what := what) (by show T.heap[a0]? = _; rw [hT]; exact hs0) (by show T.heap[a]? = _; rw [hT]; exact hs1) (fun q hq => by rw [hv0] at hq; cases hq) (fun q hq => by rw [hv1] at hq; cases hq) hks' hkd' (by rw [hes]; exact hkk0) (by rw [hed]; exact hkk1) (by simp [hprim]) (by rw [hz0, hz1]; exact hwh) hE
end ZCO
