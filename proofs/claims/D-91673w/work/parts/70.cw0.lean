/-! walks of the component: J0_init J1_init J11_init_3 J12_init_3 J13_bitCount J2_init J2_clear J2_size J2_elementData J2_isEmpty J4_checkIndex J5_newLength J7_copyOf_2 X0_in X0_puts X0_end X0_fault X0_beside X0_isRim X0_isCell -/
set_option maxRecDepth 100000
def cm_J0_init (a0 : Nat) : Option (Unit) :=
  some ()
abbrev rmJ0_init : Room := rmD 1 20 0 0
set_option maxHeartbeats 4000000 in
theorem metJ0_init {l : Launch} {gp : Nat → Nat} {D : va_G} {K : Nat → ClassId} {Z0 : c_S} {a0 : Nat} (h : cm_J0_init a0 = some ()) : Met l yJ0_init (ws_ yJ0_init cJ0_init 1 (none)) rmJ0_init (z_Pc gp [.ref a0] D K Z0) (z_Q (.returned (none)) D K (z_A Z0) Z0) 0 0 (z_A Z0) := by
  refine d_met rfl (Nat.le_of_ble_eq_true rfl) ?_
  intro p e s m below meth c ls S hr hlk hnm hl hW hsz
  have S : CallFix p m c cJ0_init 1 s ([.ref a0] : List Value).toArray lw_all RJ0 := S
  have hx := S.1
  have hb := S.2.1
  have hl : lv_has ls 1 [(0, .ref a0)] := hl
  have hnm : meth.name = "<init>" := hnm
  unfold cm_J0_init at h
  refine lv_aload_n hx hb dJ0_init_0 rfl (lv_at hl 0 rfl) ?_
  refine zw_oinit S q371 hl.1 (Nat.le_of_ble_eq_true rfl) (z_ro (Nat.le_of_ble_eq_true rfl)) (Nat.le_of_ble_eq_true rfl) dJ0_init_1 ?_
  exact d_vret S hr hlk hW (Nat.le_of_ble_eq_true rfl) (Nat.le_of_ble_eq_true rfl) dJ0_init_4
def cm_J1_init (Z0 : c_S) (a0 : Nat) : Option (c_S) :=
  bnd (cm_J0_init a0) (fun _ => zPI Z0 a0 14 3 0 0 fun Z_3 => some Z_3)
abbrev rmJ1_init : Room := rmD 2 40 0 0
theorem cwJ0_init_I {own : String} {R : Room} {s : State} {args : Array Value} {index : Nat} (hts : ∀ w ∈ lw_all, w.before args s = true) (hl : Cond.methodLink own index yJ0_init ∈ lw_all) (hR : rmJ0_init.frames + 1 ≤ R.frames ∧ 8 + (1 + 11) + rmJ0_init.locals ≤ R.locals) : CallB R s args own index yJ0_init cJ0_init 1 (none) (ws_ yJ0_init cJ0_init 1 (none)) rmJ0_init 0 0 0 ∧ yJ0_init.name = "<init>" ∧ (Cond.instanceMethod yJ0_init).before args s = true := cwI 0 hts (lw_meth q370) rfl rfl rfl (hts _ q108) (hts _ hl) (hts _ q369) rfl ⟨by decide, by decide, by decide +kernel⟩ hR
set_option maxHeartbeats 4000000 in
theorem metJ1_init {l : Launch} {gp : Nat → Nat} {D : va_G} {K : Nat → ClassId} {Z0 : c_S} {a0 : Nat} {Z' : c_S} (h : cm_J1_init Z0 a0 = some Z') : Met l yJ1_init (ws_ yJ1_init cJ1_init 1 (none)) rmJ1_init (z_Pc gp [.ref a0] D K Z0) (z_Q (.returned (none)) D K (z_A Z0) Z') 0 0 (z_A Z0) := by
  refine d_met rfl (Nat.le_of_ble_eq_true rfl) ?_
  intro p e s m below meth c ls S hr hlk hnm hl hW hsz
  have S : CallFix p m c cJ1_init 1 s ([.ref a0] : List Value).toArray lw_all RJ1 := S
  have hx := S.1
  have hb := S.2.1
  have hl : lv_has ls 1 [(0, .ref a0)] := hl
  have hnm : meth.name = "<init>" := hnm
  unfold cm_J1_init at h
  refine lv_aload_n hx hb dJ1_init_0 rfl (lv_at hl 0 rfl) ?_
  obtain ⟨o_2, h_1, h⟩ := bnd_some h
  refine d_callI (As := []) (rest := []) S hW (metJ0_init h_1) (cwJ0_init_I S.2.2.2.2 q368 ⟨Nat.le_of_ble_eq_true rfl, Nat.le_of_ble_eq_true rfl⟩) rfl hl.1 rfl (Nat.le_of_ble_eq_true rfl) dJ1_init_1 ⟨(Nat.le_of_ble_eq_true rfl), (Nat.le_of_ble_eq_true rfl)⟩ rfl (fun H locs hW => ?_)
  refine lv_aload_n hx hb dJ1_init_4 rfl (lv_at hl 0 rfl) ?_
  refine lv_iconst (v := 0) hx hb dJ1_init_5 (by decide) ?_
  refine zw_putI S hW zC_J2 (i := 0) (by decide) (Or.inl rfl) rfl rfl rfl (Or.inl q378) (fun _ h => h) dJ1_init_6 h (fun Z_3 h H locs hW => ?_)
  cases h
  exact d_vret S hr hlk hW (Nat.le_of_ble_eq_true rfl) (Nat.le_of_ble_eq_true rfl) dJ1_init_9
def cm_J11_init_3 (gp : Nat → Nat) (Z0 : c_S) (a0 : Nat) (a1 : Option Nat) (a2 : Option Nat) (a3 : Int32) (a4 : Int32) : Option (c_S) :=
  zPR Z0 a0 9 8 0 (some a0) fun Z_1 => zPR Z_1 a0 9 8 1 (gq gp 201) fun Z_2 => zPR Z_2 a0 9 8 2 (gq gp 202) fun Z_3 => if a4 = 0 then (zPR Z_3 a0 9 8 1 none fun Z_5 => zPR Z_5 a0 9 8 3 a1 fun Z_6 => zPR Z_6 a0 9 8 0 a2 fun Z_7 => if a3 = 0 then (zPR Z_7 a0 9 8 2 none fun Z_9 => some Z_9) else (some Z_7)) else (none)
abbrev rmJ11_init_3 : Room := rmD 1 20 0 0
set_option maxHeartbeats 4000000 in
theorem metJ11_init_3 {l : Launch} {gp : Nat → Nat} {D : va_G} {K : Nat → ClassId} {Z0 : c_S} {a0 : Nat} {a1 : Option Nat} {a2 : Option Nat} {a3 : Int32} {a4 : Int32} {Z' : c_S} (h : cm_J11_init_3 gp Z0 a0 a1 a2 a3 a4 = some Z') : Met l yJ11_init_3 (ws_ yJ11_init_3 cJ11_init_3 5 (none)) rmJ11_init_3 (z_Pc gp [.ref a0, va_rf a1, va_rf a2, .int a3, .int a4] D K Z0) (z_Q (.returned (none)) D K (z_A Z0) Z') 0 0 (z_A Z0) := by
  refine d_met rfl (by cases a1 <;> cases a2 <;> exact Nat.le_of_ble_eq_true rfl) ?_
  intro p e s m below meth c ls S hr hlk hnm hl hW hsz
  have S : CallFix p m c cJ11_init_3 5 s ([.ref a0, va_rf a1, va_rf a2, .int a3, .int a4] : List Value).toArray lw_all RJ11 := S
  have hx := S.1
  have hb := S.2.1
  have hl : lv_has ls 5 [(0, .ref a0), (1, va_rf a1), (2, va_rf a2), (3, .int a3), (4, .int a4)] := by cases a1 <;> cases a2 <;> exact hl
  have hnm : meth.name = "<init>" := hnm
  unfold cm_J11_init_3 at h
  refine lv_aload_n hx hb dJ11_init_3_0 rfl (lv_at hl 0 rfl) ?_
  refine zw_oinit S q169 hl.1 (Nat.le_of_ble_eq_true rfl) (z_ro (Nat.le_of_ble_eq_true rfl)) (Nat.le_of_ble_eq_true rfl) dJ11_init_3_1 ?_
  refine lv_aload_n hx hb dJ11_init_3_4 rfl (lv_at hl 0 rfl) ?_
  refine lv_aload_n hx hb dJ11_init_3_5 rfl (lv_at hl 0 rfl) ?_
  refine zw_putR (o := some a0) S hW zC_X9 (i := 0) (by decide) (Or.inl rfl) rfl (Or.inl q205) (fun _ h => h) dJ11_init_3_6 h (fun Z_1 h H locs hW => ?_)
  refine lv_aload_n hx hb dJ11_init_3_9 rfl (lv_at hl 0 rfl) ?_
  refine zw_gets1 S hW q172 dJ11_init_3_10 ?_
  refine zw_putR (o := (gq gp 201)) S hW zC_X9 (i := 1) (by decide) (Or.inl rfl) rfl (Or.inl q206) (fun _ h => h) dJ11_init_3_13 h (fun Z_2 h H locs hW => ?_)
  refine lv_aload_n hx hb dJ11_init_3_16 rfl (lv_at hl 0 rfl) ?_
  refine zw_gets2 S hW q174 dJ11_init_3_17 ?_
  refine zw_putR (o := (gq gp 202)) S hW zC_X9 (i := 2) (by decide) (Or.inl rfl) rfl (Or.inl q207) (fun _ h => h) dJ11_init_3_20 h (fun Z_3 h H locs hW => ?_)
  refine lv_iload hx hb dJ11_init_3_23 (lv_at hl 4 rfl) ?_
  refine lv_if_eq (tgt := 36) hx hb dJ11_init_3_25 (by decide) (fun c_4 => ?_) (fun c_4 => ?_)
  · have h := if_t h c_4
    refine lv_aload_n hx hb dJ11_init_3_36 rfl (lv_at hl 0 rfl) ?_
    refine z_null rfl hx hb dJ11_init_3_37 ?_
    refine zw_putR (o := none) S hW zC_X9 (i := 1) (by decide) (Or.inl rfl) rfl (Or.inl q206) (fun _ h => h) dJ11_init_3_38 h (fun Z_5 h H locs hW => ?_)
    refine lv_aload_n hx hb dJ11_init_3_41 rfl (lv_at hl 0 rfl) ?_
    refine z_aload_n hx hb dJ11_init_3_42 rfl (lv_at hl 1 rfl) ?_
    refine zw_putR (o := a1) S hW zC_X9 (i := 3) (by decide) (Or.inl rfl) rfl (Or.inl q204) (fun _ h => h) dJ11_init_3_43 h (fun Z_6 h H locs hW => ?_)
    refine lv_aload_n hx hb dJ11_init_3_46 rfl (lv_at hl 0 rfl) ?_
    refine z_aload_n hx hb dJ11_init_3_47 rfl (lv_at hl 2 rfl) ?_
    refine zw_putR (o := a2) S hW zC_X9 (i := 0) (by decide) (Or.inl rfl) rfl (Or.inl q205) (fun _ h => h) dJ11_init_3_48 h (fun Z_7 h H locs hW => ?_)
    refine lv_iload_n hx hb dJ11_init_3_51 rfl (lv_at hl 3 rfl) ?_
    refine lv_if_ne (tgt := 60) hx hb dJ11_init_3_52 (by decide) (fun c_8 => ?_) (fun c_8 => ?_)
    · have h := if_f h c_8
      cases h
      exact d_vret S hr hlk hW (Nat.le_of_ble_eq_true rfl) (Nat.le_of_ble_eq_true rfl) dJ11_init_3_60
    · have h := if_t h c_8
      refine lv_aload_n hx hb dJ11_init_3_55 rfl (lv_at hl 0 rfl) ?_
      refine z_null rfl hx hb dJ11_init_3_56 ?_
      refine zw_putR (o := none) S hW zC_X9 (i := 2) (by decide) (Or.inl rfl) rfl (Or.inl q207) (fun _ h => h) dJ11_init_3_57 h (fun Z_9 h H locs hW => ?_)
      cases h
      exact d_vret S hr hlk hW (Nat.le_of_ble_eq_true rfl) (Nat.le_of_ble_eq_true rfl) dJ11_init_3_60
  · have h := if_f h c_4
    cases h
def cm_J12_init_3 (gp : Nat → Nat) (Z0 : c_S) (a0 : Nat) (a1 : Option Nat) (a2 : Option Nat) (a3 : Int32) (a4 : Int32) : Option (c_S) :=
  bnd (cm_J11_init_3 gp Z0 a0 a1 a2 a3 a4) (fun Z_3 => some Z_3)
abbrev rmJ12_init_3 : Room := rmD 2 44 0 0
theorem cwJ11_init_3_I {own : String} {R : Room} {s : State} {args : Array Value} {index : Nat} (hts : ∀ w ∈ lw_all, w.before args s = true) (hl : Cond.methodLink own index yJ11_init_3 ∈ lw_all) (hR : rmJ11_init_3.frames + 1 ≤ R.frames ∧ 8 + (5 + 11) + rmJ11_init_3.locals ≤ R.locals) : CallB R s args own index yJ11_init_3 cJ11_init_3 5 (none) (ws_ yJ11_init_3 cJ11_init_3 5 (none)) rmJ11_init_3 0 0 4 ∧ yJ11_init_3.name = "<init>" ∧ (Cond.instanceMethod yJ11_init_3).before args s = true := cwI 4 hts (lw_meth q952) rfl rfl rfl (hts _ q126) (hts _ hl) (hts _ q951) rfl ⟨by decide, by decide, by decide +kernel⟩ hR
set_option maxHeartbeats 4000000 in
theorem metJ12_init_3 {l : Launch} {gp : Nat → Nat} {D : va_G} {K : Nat → ClassId} {Z0 : c_S} {a0 : Nat} {a1 : Option Nat} {a2 : Option Nat} {a3 : Int32} {a4 : Int32} {Z' : c_S} (h : cm_J12_init_3 gp Z0 a0 a1 a2 a3 a4 = some Z') : Met l yJ12_init_3 (ws_ yJ12_init_3 cJ12_init_3 5 (none)) rmJ12_init_3 (z_Pc gp [.ref a0, va_rf a1, va_rf a2, .int a3, .int a4] D K Z0) (z_Q (.returned (none)) D K (z_A Z0) Z') 0 0 (z_A Z0) := by
  refine d_met rfl (by cases a1 <;> cases a2 <;> exact Nat.le_of_ble_eq_true rfl) ?_
  intro p e s m below meth c ls S hr hlk hnm hl hW hsz
  have S : CallFix p m c cJ12_init_3 5 s ([.ref a0, va_rf a1, va_rf a2, .int a3, .int a4] : List Value).toArray lw_all RJ12 := S
  have hx := S.1
  have hb := S.2.1
  have hl : lv_has ls 5 [(0, .ref a0), (1, va_rf a1), (2, va_rf a2), (3, .int a3), (4, .int a4)] := by cases a1 <;> cases a2 <;> exact hl
  have hnm : meth.name = "<init>" := hnm
  unfold cm_J12_init_3 at h
  refine lv_aload_n hx hb dJ12_init_3_0 rfl (lv_at hl 0 rfl) ?_
  refine z_aload_n hx hb dJ12_init_3_1 rfl (lv_at hl 1 rfl) ?_
  refine z_aload_n hx hb dJ12_init_3_2 rfl (lv_at hl 2 rfl) ?_
  refine lv_iload_n hx hb dJ12_init_3_3 rfl (lv_at hl 3 rfl) ?_
  refine lv_iload hx hb dJ12_init_3_4 (lv_at hl 4 rfl) ?_
  obtain ⟨Z_3, h_1, h⟩ := bnd_some h
  refine d_callI (As := [va_rf a1, va_rf a2, .int a3, .int a4]) (rest := []) S hW (metJ11_init_3 h_1) (cwJ11_init_3_I S.2.2.2.2 q950 ⟨Nat.le_of_ble_eq_true rfl, Nat.le_of_ble_eq_true rfl⟩) rfl hl.1 rfl (Nat.le_of_ble_eq_true rfl) dJ12_init_3_6 ⟨(Nat.le_of_ble_eq_true rfl), (Nat.le_of_ble_eq_true rfl)⟩ rfl (fun H locs hW => ?_)
  cases h
  exact d_vret S hr hlk hW (Nat.le_of_ble_eq_true rfl) (Nat.le_of_ble_eq_true rfl) dJ12_init_3_9
def cm_J13_bitCount (a0 : Int32) : Option (Int32) :=
  nmI (a0 - (((a0.toUInt32 >>> ((1 : Int32).toUInt32 &&& Int32.toUInt32 31)).toInt32) &&& 1431655765)) fun x_1 => nmI ((x_1 &&& 858993459) + (((x_1.toUInt32 >>> ((2 : Int32).toUInt32 &&& Int32.toUInt32 31)).toInt32) &&& 858993459)) fun x_3 => nmI ((x_3 + ((x_3.toUInt32 >>> ((4 : Int32).toUInt32 &&& Int32.toUInt32 31)).toInt32)) &&& 252645135) fun x_5 => nmI (x_5 + ((x_5.toUInt32 >>> ((8 : Int32).toUInt32 &&& Int32.toUInt32 31)).toInt32)) fun x_7 => nmI (x_7 + ((x_7.toUInt32 >>> ((16 : Int32).toUInt32 &&& Int32.toUInt32 31)).toInt32)) fun x_9 => some (x_9 &&& 63)
abbrev rmJ13_bitCount : Room := rmD 0 0 0 0
set_option maxHeartbeats 4000000 in
theorem metJ13_bitCount {l : Launch} {gp : Nat → Nat} {D : va_G} {K : Nat → ClassId} {Z0 : c_S} {a0 : Int32} {r : Int32} (h : cm_J13_bitCount a0 = some r) : Met l yJ13_bitCount (ws_ yJ13_bitCount cJ13_bitCount 1 (some .int)) rmJ13_bitCount (z_Pc gp [.int a0] D K Z0) (z_Q (.returned (some (.int r))) D K (z_A Z0) Z0) 0 0 (z_A Z0) := by
  refine d_met rfl (Nat.le_of_ble_eq_true rfl) ?_
  intro p e s m below meth c ls S hr hlk hnm hl hW hsz
  have S : CallFix p m c cJ13_bitCount 1 s ([.int a0] : List Value).toArray lw_all RJ13 := S
  have hx := S.1
  have hb := S.2.1
  have hl : lv_has ls 1 [(0, .int a0)] := hl
  have hnm : meth.name = "bitCount" := hnm
  unfold cm_J13_bitCount at h
  refine lv_iload_n hx hb dJ13_bitCount_0 rfl (lv_at hl 0 rfl) ?_
  refine lv_iload_n hx hb dJ13_bitCount_1 rfl (lv_at hl 0 rfl) ?_
  refine lv_iconst (v := 1) hx hb dJ13_bitCount_2 (by decide) ?_
  refine lv_iushr (v := (a0.toUInt32 >>> ((1 : Int32).toUInt32 &&& Int32.toUInt32 31)).toInt32) hx hb dJ13_bitCount_3 rfl ?_
  refine lv_ldcw (v := 1431655765) hx hb S.2.2.2.1 (S.2.2.2.2 _ q1428) dJ13_bitCount_4 ?_
  refine lv_iand hx hb dJ13_bitCount_7 ?_
  refine lv_isub hx hb dJ13_bitCount_8 ?_
  obtain ⟨x_1, e_2, h⟩ := nmI_some h
  refine g_nmi e_2 ?_
  refine lv_istore_n (lv' := [(0, .int x_1)]) hx hb dJ13_bitCount_9 rfl hl (by decide) rfl (fun ls hl => ?_)
  refine lv_iload_n hx hb dJ13_bitCount_10 rfl (lv_at hl 0 rfl) ?_
  refine lv_ldcw (v := 858993459) hx hb S.2.2.2.1 (S.2.2.2.2 _ q1429) dJ13_bitCount_11 ?_
  refine lv_iand hx hb dJ13_bitCount_14 ?_
  refine lv_iload_n hx hb dJ13_bitCount_15 rfl (lv_at hl 0 rfl) ?_
  refine lv_iconst (v := 2) hx hb dJ13_bitCount_16 (by decide) ?_
  refine lv_iushr (v := (x_1.toUInt32 >>> ((2 : Int32).toUInt32 &&& Int32.toUInt32 31)).toInt32) hx hb dJ13_bitCount_17 rfl ?_
  refine lv_ldcw (v := 858993459) hx hb S.2.2.2.1 (S.2.2.2.2 _ q1429) dJ13_bitCount_18 ?_
  refine lv_iand hx hb dJ13_bitCount_21 ?_
  refine lv_iadd hx hb dJ13_bitCount_22 ?_
  obtain ⟨x_3, e_4, h⟩ := nmI_some h
  refine g_nmi e_4 ?_
  refine lv_istore_n (lv' := [(0, .int x_3)]) hx hb dJ13_bitCount_23 rfl hl (by decide) rfl (fun ls hl => ?_)
  refine lv_iload_n hx hb dJ13_bitCount_24 rfl (lv_at hl 0 rfl) ?_
  refine lv_iload_n hx hb dJ13_bitCount_25 rfl (lv_at hl 0 rfl) ?_
  refine lv_iconst (v := 4) hx hb dJ13_bitCount_26 (by decide) ?_
  refine lv_iushr (v := (x_3.toUInt32 >>> ((4 : Int32).toUInt32 &&& Int32.toUInt32 31)).toInt32) hx hb dJ13_bitCount_27 rfl ?_
  refine lv_iadd hx hb dJ13_bitCount_28 ?_
  refine lv_ldcw (v := 252645135) hx hb S.2.2.2.1 (S.2.2.2.2 _ q1430) dJ13_bitCount_29 ?_
  refine lv_iand hx hb dJ13_bitCount_32 ?_
  obtain ⟨x_5, e_6, h⟩ := nmI_some h
  refine g_nmi e_6 ?_
  refine lv_istore_n (lv' := [(0, .int x_5)]) hx hb dJ13_bitCount_33 rfl hl (by decide) rfl (fun ls hl => ?_)
  refine lv_iload_n hx hb dJ13_bitCount_34 rfl (lv_at hl 0 rfl) ?_
  refine lv_iload_n hx hb dJ13_bitCount_35 rfl (lv_at hl 0 rfl) ?_
  refine lv_bipush (v := 8) hx hb dJ13_bitCount_36 (by decide) ?_
  refine lv_iushr (v := (x_5.toUInt32 >>> ((8 : Int32).toUInt32 &&& Int32.toUInt32 31)).toInt32) hx hb dJ13_bitCount_38 rfl ?_
  refine lv_iadd hx hb dJ13_bitCount_39 ?_
  obtain ⟨x_7, e_8, h⟩ := nmI_some h
  refine g_nmi e_8 ?_
  refine lv_istore_n (lv' := [(0, .int x_7)]) hx hb dJ13_bitCount_40 rfl hl (by decide) rfl (fun ls hl => ?_)
  refine lv_iload_n hx hb dJ13_bitCount_41 rfl (lv_at hl 0 rfl) ?_
  refine lv_iload_n hx hb dJ13_bitCount_42 rfl (lv_at hl 0 rfl) ?_
  refine lv_bipush (v := 16) hx hb dJ13_bitCount_43 (by decide) ?_
  refine lv_iushr (v := (x_7.toUInt32 >>> ((16 : Int32).toUInt32 &&& Int32.toUInt32 31)).toInt32) hx hb dJ13_bitCount_45 rfl ?_
  refine lv_iadd hx hb dJ13_bitCount_46 ?_
  obtain ⟨x_9, e_10, h⟩ := nmI_some h
  refine g_nmi e_10 ?_
  refine lv_istore_n (lv' := [(0, .int x_9)]) hx hb dJ13_bitCount_47 rfl hl (by decide) rfl (fun ls hl => ?_)
  refine lv_iload_n hx hb dJ13_bitCount_48 rfl (lv_at hl 0 rfl) ?_
  refine lv_bipush (v := 63) hx hb dJ13_bitCount_49 (by decide) ?_
  refine lv_iand hx hb dJ13_bitCount_51 ?_
  cases h
  exact d_iret S hr hlk hW (Nat.le_of_ble_eq_true rfl) (Nat.le_of_ble_eq_true rfl) dJ13_bitCount_52
def cm_J2_init (Z0 : c_S) (a0 : Nat) (a1 : Int32) : Option (c_S) :=
  bnd (cm_J1_init Z0 a0) (fun Z_3 => if a1 ≤ 0 then (none) else (zNewR Z_3 5 4 a1 fun Z_5 a_6 => zPR Z_5 a0 14 3 1 (some a_6) fun Z_7 => some Z_7))
abbrev rmJ2_init : Room := rmD 3 60 1 4
theorem cwJ1_init_I {own : String} {R : Room} {s : State} {args : Array Value} {index : Nat} (hts : ∀ w ∈ lw_all, w.before args s = true) (hl : Cond.methodLink own index yJ1_init ∈ lw_all) (hR : rmJ1_init.frames + 1 ≤ R.frames ∧ 8 + (1 + 11) + rmJ1_init.locals ≤ R.locals) : CallB R s args own index yJ1_init cJ1_init 1 (none) (ws_ yJ1_init cJ1_init 1 (none)) rmJ1_init 0 0 0 ∧ yJ1_init.name = "<init>" ∧ (Cond.instanceMethod yJ1_init).before args s = true := cwI 0 hts (lw_meth q367) rfl rfl rfl (hts _ q109) (hts _ hl) (hts _ q366) rfl ⟨by decide, by decide, by decide +kernel⟩ hR
set_option maxHeartbeats 4000000 in
theorem metJ2_init {l : Launch} {gp : Nat → Nat} {D : va_G} {K : Nat → ClassId} {Z0 : c_S} {a0 : Nat} {a1 : Int32} {Z' : c_S} (h : cm_J2_init Z0 a0 a1 = some Z') : Met l yJ2_init (ws_ yJ2_init cJ2_init 2 (none)) rmJ2_init (z_Pc gp [.ref a0, .int a1] D K Z0) (z_Q (.returned (none)) D K (z_A Z0) Z') 1 4 (z_A Z0) := by
  refine d_met rfl (Nat.le_of_ble_eq_true rfl) ?_
  intro p e s m below meth c ls S hr hlk hnm hl hW hsz
  have S : CallFix p m c cJ2_init 2 s ([.ref a0, .int a1] : List Value).toArray lw_all RJ2 := S
  have hx := S.1
  have hb := S.2.1
  have hl : lv_has ls 2 [(0, .ref a0), (1, .int a1)] := hl
  have hnm : meth.name = "<init>" := hnm
  unfold cm_J2_init at h
  refine lv_aload_n hx hb dJ2_init_0 rfl (lv_at hl 0 rfl) ?_
  obtain ⟨Z_3, h_1, h⟩ := bnd_some h
  refine d_callI (As := []) (rest := []) S hW (metJ1_init h_1) (cwJ1_init_I S.2.2.2.2 q365 ⟨Nat.le_of_ble_eq_true rfl, Nat.le_of_ble_eq_true rfl⟩) rfl hl.1 rfl (Nat.le_of_ble_eq_true rfl) dJ2_init_1 ⟨(Nat.le_of_ble_eq_true rfl), (Nat.le_of_ble_eq_true rfl)⟩ rfl (fun H locs hW => ?_)
  refine lv_iload_n hx hb dJ2_init_4 rfl (lv_at hl 1 rfl) ?_
  refine lv_if_le (tgt := 19) hx hb dJ2_init_5 (by decide) (fun c_4 => ?_) (fun c_4 => ?_)
  · have h := if_t h c_4
    cases h
  · have h := if_f h c_4
    refine lv_aload_n hx hb dJ2_init_8 rfl (lv_at hl 0 rfl) ?_
    refine lv_iload_n hx hb dJ2_init_9 rfl (lv_at hl 1 rfl) ?_
    refine zw_newr (t := 5) (B := 4) S hW q372 (by decide) rfl (by decide) (Nat.le_of_ble_eq_true rfl) (Nat.le_of_ble_eq_true rfl) dJ2_init_10 h (fun Z_5 a_6 h H hW => ?_)
    refine zw_putR (o := some a_6) S hW zC_J2 (i := 1) (by decide) (Or.inl rfl) rfl (Or.inl q376) (fun _ h => h) dJ2_init_13 h (fun Z_7 h H locs hW => ?_)
    refine lv_goto (tgt := 60) hx hb dJ2_init_16 (by decide) ?_
    cases h
    exact d_vret S hr hlk hW (Nat.le_of_ble_eq_true rfl) (Nat.le_of_ble_eq_true rfl) dJ2_init_60
def cm_J2_clear_B27 (x1 : Nat) (x2 : Int32) (rec : Int32 → c_S → Option (c_S)) (x3 : Int32) (Z : c_S) : Option (c_S) :=
  if x2 ≤ x3 then (some Z) else (zsR [4, 5, 6, 10] Z 5 x1 x3 none fun Z_7 => nmI (x3 + 1) fun x_8 => rec x_8 Z_7)
abbrev cm_J2_clear_F27 (x1 : Nat) (x2 : Int32) : (((Int32) × (c_S)) → Option (c_S)) → ((Int32) × (c_S)) → Option (c_S) := fun rec s => cm_J2_clear_B27 x1 x2 (fun x3 Z => rec (x3, Z)) s.1 s.2
def cm_J2_clear_L27 (x1 : Nat) (x2 : Int32) (n : Nat) (x3 : Int32) (Z : c_S) : Option (c_S) := lp (cm_J2_clear_F27 x1 x2) n (x3, Z)
theorem cm_J2_clear_L27_s (x1 : Nat) (x2 : Int32) (n : Nat) (x3 : Int32) (Z : c_S) : cm_J2_clear_L27 x1 x2 (n + 1) x3 Z = cm_J2_clear_B27 x1 x2 (fun x3 Z => cm_J2_clear_L27 x1 x2 n x3 Z) x3 Z := lp_s (cm_J2_clear_F27 x1 x2) n (x3, Z)
def cm_J2_clear (Z0 : c_S) (a0 : Nat) : Option (c_S) :=
  cI Z0.Sh Z0.V a0 14 3 0 fun x_1 => zPI Z0 a0 14 3 0 (x_1 + 1) fun Z_2 => cA Z_2.Sh a0 14 3 1 fun a_3 => cI Z_2.Sh Z_2.V a0 14 3 2 fun x_4 => zPI Z_2 a0 14 3 2 0 fun Z_5 => bnd (cm_J2_clear_L27 a_3 x_4 1000 0 Z_5) (fun Z_12 => some Z_12)
abbrev rmJ2_clear : Room := rmD 0 0 0 0
set_option maxHeartbeats 4000000 in
theorem metJ2_clear {l : Launch} {gp : Nat → Nat} {D : va_G} {K : Nat → ClassId} {Z0 : c_S} {a0 : Nat} {Z' : c_S} (h : cm_J2_clear Z0 a0 = some Z') : Met l yJ2_clear (ws_ yJ2_clear cJ2_clear 4 (none)) rmJ2_clear (z_Pc gp [.ref a0] D K Z0) (z_Q (.returned (none)) D K (z_A Z0) Z') 0 0 (z_A Z0) := by
  refine d_met rfl (Nat.le_of_ble_eq_true rfl) ?_
  intro p e s m below meth c ls S hr hlk hnm hl hW hsz
  have S : CallFix p m c cJ2_clear 4 s ([.ref a0] : List Value).toArray lw_all RJ2 := S
  have hx := S.1
  have hb := S.2.1
  have hl : lv_has ls 4 [(0, .ref a0)] := hl
  have hnm : meth.name = "clear" := hnm
  have Lp27 : ∀ (x1 : Nat) (x2 : Int32) (n : Nat) (x3 : Int32) (Z : c_S) (out : (c_S)) (H : Heap) (locs : List Loc) (ls : Array Slot), cm_J2_clear_L27 x1 x2 n x3 Z = some out → z_W gp D K (z_A Z0) s Z H locs → lv_has ls 4 [(1, .ref x1), (2, .int x2), (3, .int x3)] → (∀ (oZ : c_S), out = oZ → ∀ (H : Heap) (locs : List Loc) (ls : Array Slot), z_W gp D K (z_A Z0) s oZ H locs → lv_has ls 4 [] → W p l e rmJ2_clear s m ([.ref a0] : List Value).toArray below meth c H locs 0 0 (MQ below (z_Q (.returned (none)) D K (z_A Z0) Z') ([.ref a0] : List Value).toArray s 0 0 (z_A Z0)) (F0 m 42 ls [])) → W p l e rmJ2_clear s m ([.ref a0] : List Value).toArray below meth c H locs 0 0 (MQ below (z_Q (.returned (none)) D K (z_A Z0) Z') ([.ref a0] : List Value).toArray s 0 0 (z_A Z0)) (F0 m 27 ls []) := by
    intro x1 x2 n
    induction n with
    | zero =>
      intro x3 Z out H locs ls h
      exact (lp_0 h).elim
    | succ n ih =>
      intro x3 Z out H locs ls h hW hl k1
      rw [cm_J2_clear_L27_s] at h
      unfold cm_J2_clear_B27 at h
      refine lv_iload_n hx hb dJ2_clear_27 rfl (lv_at hl 2 rfl) ?_
      refine lv_iload_n hx hb dJ2_clear_28 rfl (lv_at hl 1 rfl) ?_
      refine lv_icmp_ge (tgt := 42) hx hb dJ2_clear_29 (by decide) (fun c_6 => ?_) (fun c_6 => ?_)
      · have h := if_t h c_6
        exact k1 _ (Option.some.inj h).symm _ _ _ hW (lv_sub hl [] rfl)
      · have h := if_f h c_6
        refine lv_aload_n hx hb dJ2_clear_32 rfl (lv_at hl 0 rfl) ?_
        refine lv_iload_n hx hb dJ2_clear_33 rfl (lv_at hl 2 rfl) ?_
        refine z_null rfl hx hb dJ2_clear_34 ?_
        refine zw_aast (o := none) S hW (t := 5) rfl zal_5 dJ2_clear_35 h (fun Z_7 h H locs hW => ?_)
        obtain ⟨x_8, e_9, h⟩ := nmI_some h
        refine lv_iinc (v := x_8) (lv' := [(3, .int x_8), (1, .ref x1), (2, .int x2)]) hx hb dJ2_clear_36 hl (k := 2) rfl (by rw [e_9]; rfl) (by decide) rfl (fun ls hl => ?_)
        refine lv_goto (tgt := 27) hx hb dJ2_clear_39 (by decide) ?_
        exact ih x_8 Z_7 out _ _ _ h hW (lv_sub hl [1, 2, 0] rfl) k1
  unfold cm_J2_clear at h
  refine lv_aload_n hx hb dJ2_clear_0 rfl (lv_at hl 0 rfl) ?_
  refine lv_dup hx hb dJ2_clear_1 rfl ?_
  refine zw_getI S hW zC_J2 (i := 0) (by decide) (Or.inl q379) (zsame_mod S) dJ2_clear_2 h (fun x_1 h => ?_)
  refine lv_iconst (v := 1) hx hb dJ2_clear_5 (by decide) ?_
  refine lv_iadd hx hb dJ2_clear_6 ?_
  refine zw_putI S hW zC_J2 (i := 0) (by decide) (Or.inl rfl) rfl rfl rfl (Or.inl q379) (zsame_mod S) dJ2_clear_7 h (fun Z_2 h H locs hW => ?_)
  refine lv_aload_n hx hb dJ2_clear_10 rfl (lv_at hl 0 rfl) ?_
  refine zw_getA S hW zC_J2 (i := 1) (by decide) (Or.inl q376) (fun _ h => h) dJ2_clear_11 h (fun a_3 h => ?_)
  refine lv_astore_n (lv' := [(1, .ref a_3), (0, .ref a0)]) hx hb dJ2_clear_14 rfl hl (by decide) rfl (fun ls hl => ?_)
  refine lv_aload_n hx hb dJ2_clear_15 rfl (lv_at hl 1 rfl) ?_
  refine zw_getI S hW zC_J2 (i := 2) (by decide) (Or.inl q377) (fun _ h => h) dJ2_clear_16 h (fun x_4 h => ?_)
  refine lv_istore_n (lv' := [(2, .int x_4), (1, .ref a_3), (0, .ref a0)]) hx hb dJ2_clear_19 rfl hl (by decide) rfl (fun ls hl => ?_)
  refine lv_aload_n hx hb dJ2_clear_20 rfl (lv_at hl 2 rfl) ?_
  refine lv_iconst (v := 0) hx hb dJ2_clear_21 (by decide) ?_
  refine lv_dup_x1 hx hb dJ2_clear_22 rfl rfl ?_
  refine zw_putI S hW zC_J2 (i := 2) (by decide) (Or.inl rfl) rfl rfl rfl (Or.inl q377) (fun _ h => h) dJ2_clear_23 h (fun Z_5 h H locs hW => ?_)
  refine lv_istore_n (lv' := [(3, .int 0), (2, .int x_4), (1, .ref a_3), (0, .ref a0)]) hx hb dJ2_clear_26 rfl hl (by decide) rfl (fun ls hl => ?_)
  obtain ⟨Z_12, h_11, h⟩ := bnd_some h
  refine Lp27 a_3 x_4 1000 0 Z_5  _ _ _ _ h_11 hW (lv_sub hl [2, 1, 0] rfl) ?_
  intro w0 eo H locs ls hW hl
  subst eo
  cases h
  exact d_vret S hr hlk hW (Nat.le_of_ble_eq_true rfl) (Nat.le_of_ble_eq_true rfl) dJ2_clear_42
def cm_J2_size (Z0 : c_S) (a0 : Nat) : Option (Int32) :=
  cI Z0.Sh Z0.V a0 14 3 2 fun x_1 => some x_1
abbrev rmJ2_size : Room := rmD 0 0 0 0
set_option maxHeartbeats 4000000 in
theorem metJ2_size {l : Launch} {gp : Nat → Nat} {D : va_G} {K : Nat → ClassId} {Z0 : c_S} {a0 : Nat} {r : Int32} (h : cm_J2_size Z0 a0 = some r) : Met l yJ2_size (ws_ yJ2_size cJ2_size 1 (some .int)) rmJ2_size (z_Pc gp [.ref a0] D K Z0) (z_Q (.returned (some (.int r))) D K (z_A Z0) Z0) 0 0 (z_A Z0) := by
  refine d_met rfl (Nat.le_of_ble_eq_true rfl) ?_
  intro p e s m below meth c ls S hr hlk hnm hl hW hsz
  have S : CallFix p m c cJ2_size 1 s ([.ref a0] : List Value).toArray lw_all RJ2 := S
  have hx := S.1
  have hb := S.2.1
  have hl : lv_has ls 1 [(0, .ref a0)] := hl
  have hnm : meth.name = "size" := hnm
  unfold cm_J2_size at h
  refine lv_aload_n hx hb dJ2_size_0 rfl (lv_at hl 0 rfl) ?_
  refine zw_getI S hW zC_J2 (i := 2) (by decide) (Or.inl q377) (fun _ h => h) dJ2_size_1 h (fun x_1 h => ?_)
  cases h
  exact d_iret S hr hlk hW (Nat.le_of_ble_eq_true rfl) (Nat.le_of_ble_eq_true rfl) dJ2_size_4
def cm_J2_elementData (Z0 : c_S) (a0 : Nat) (a1 : Int32) : Option (Option Nat) :=
  cA Z0.Sh a0 14 3 1 fun a_1 => caR Z0.Sh 5 a_1 a1 fun o_2 => some o_2
abbrev rmJ2_elementData : Room := rmD 0 0 0 0
set_option maxHeartbeats 4000000 in
theorem metJ2_elementData {l : Launch} {gp : Nat → Nat} {D : va_G} {K : Nat → ClassId} {Z0 : c_S} {a0 : Nat} {a1 : Int32} {r : Option Nat} (h : cm_J2_elementData Z0 a0 a1 = some r) : Met l yJ2_elementData (ws_ yJ2_elementData cJ2_elementData 2 (some (.object "java/lang/Object"))) rmJ2_elementData (z_Pc gp [.ref a0, .int a1] D K Z0) (z_Q (.returned (some (va_rf r))) D K (z_A Z0) Z0) 0 0 (z_A Z0) := by
  refine d_met rfl (Nat.le_of_ble_eq_true rfl) ?_
  intro p e s m below meth c ls S hr hlk hnm hl hW hsz
  have S : CallFix p m c cJ2_elementData 2 s ([.ref a0, .int a1] : List Value).toArray lw_all RJ2 := S
  have hx := S.1
  have hb := S.2.1
  have hl : lv_has ls 2 [(0, .ref a0), (1, .int a1)] := hl
  have hnm : meth.name = "elementData" := hnm
  unfold cm_J2_elementData at h
  refine lv_aload_n hx hb dJ2_elementData_0 rfl (lv_at hl 0 rfl) ?_
  refine zw_getA S hW zC_J2 (i := 1) (by decide) (Or.inl q376) (fun _ h => h) dJ2_elementData_1 h (fun a_1 h => ?_)
  refine lv_iload_n hx hb dJ2_elementData_4 rfl (lv_at hl 1 rfl) ?_
  refine zw_aald (t := 5) S hW rfl dJ2_elementData_5 h (fun o_2 h => ?_)
  cases h
  exact d_aret S hr (Or.inl ⟨_, rfl⟩) hlk hW (Nat.le_of_ble_eq_true rfl) (Nat.le_of_ble_eq_true rfl) dJ2_elementData_6
def cm_J2_isEmpty (Z0 : c_S) (a0 : Nat) : Option (Int32) :=
  cI Z0.Sh Z0.V a0 14 3 2 fun x_1 => if x_1 = 0 then (some 1) else (some 0)
abbrev rmJ2_isEmpty : Room := rmD 0 0 0 0
set_option maxHeartbeats 4000000 in
theorem metJ2_isEmpty {l : Launch} {gp : Nat → Nat} {D : va_G} {K : Nat → ClassId} {Z0 : c_S} {a0 : Nat} {r : Int32} (h : cm_J2_isEmpty Z0 a0 = some r) : Met l yJ2_isEmpty (ws_ yJ2_isEmpty cJ2_isEmpty 1 (some .boolean)) rmJ2_isEmpty (z_Pc gp [.ref a0] D K Z0) (z_Q (.returned (some (.int r))) D K (z_A Z0) Z0) 0 0 (z_A Z0) := by
  refine d_met rfl (Nat.le_of_ble_eq_true rfl) ?_
  intro p e s m below meth c ls S hr hlk hnm hl hW hsz
  have S : CallFix p m c cJ2_isEmpty 1 s ([.ref a0] : List Value).toArray lw_all RJ2 := S
  have hx := S.1
  have hb := S.2.1
  have hl : lv_has ls 1 [(0, .ref a0)] := hl
  have hnm : meth.name = "isEmpty" := hnm
  unfold cm_J2_isEmpty at h
  refine lv_aload_n hx hb dJ2_isEmpty_0 rfl (lv_at hl 0 rfl) ?_
  refine zw_getI S hW zC_J2 (i := 2) (by decide) (Or.inl q377) (fun _ h => h) dJ2_isEmpty_1 h (fun x_1 h => ?_)
  refine lv_if_ne (tgt := 11) hx hb dJ2_isEmpty_4 (by decide) (fun c_2 => ?_) (fun c_2 => ?_)
  · have h := if_f h c_2
    refine lv_iconst (v := 0) hx hb dJ2_isEmpty_11 (by decide) ?_
    cases h
    exact d_zret S hr hlk rfl hW (Nat.le_of_ble_eq_true rfl) (Nat.le_of_ble_eq_true rfl) dJ2_isEmpty_12
  · have h := if_t h c_2
    refine lv_iconst (v := 1) hx hb dJ2_isEmpty_7 (by decide) ?_
    refine lv_goto (tgt := 12) hx hb dJ2_isEmpty_8 (by decide) ?_
    cases h
    exact d_zret S hr hlk rfl hW (Nat.le_of_ble_eq_true rfl) (Nat.le_of_ble_eq_true rfl) dJ2_isEmpty_12
def cm_J4_checkIndex (a0 : Int32) (a1 : Int32) (a2 : Option Nat) : Option (Int32) :=
  if a0 < 0 then (none) else (if a0 < a1 then (some a0) else (none))
abbrev rmJ4_checkIndex : Room := rmD 0 0 0 0
set_option maxHeartbeats 4000000 in
theorem metJ4_checkIndex {l : Launch} {gp : Nat → Nat} {D : va_G} {K : Nat → ClassId} {Z0 : c_S} {a0 : Int32} {a1 : Int32} {a2 : Option Nat} {r : Int32} (h : cm_J4_checkIndex a0 a1 a2 = some r) : Met l yJ4_checkIndex (ws_ yJ4_checkIndex cJ4_checkIndex 3 (some .int)) rmJ4_checkIndex (z_Pc gp [.int a0, .int a1, va_rf a2] D K Z0) (z_Q (.returned (some (.int r))) D K (z_A Z0) Z0) 0 0 (z_A Z0) := by
  refine d_met rfl (by cases a2 <;> exact Nat.le_of_ble_eq_true rfl) ?_
  intro p e s m below meth c ls S hr hlk hnm hl hW hsz
  have S : CallFix p m c cJ4_checkIndex 3 s ([.int a0, .int a1, va_rf a2] : List Value).toArray lw_all RJ4 := S
  have hx := S.1
  have hb := S.2.1
  have hl : lv_has ls 3 [(0, .int a0), (1, .int a1), (2, va_rf a2)] := by cases a2 <;> exact hl
  have hnm : meth.name = "checkIndex" := hnm
  unfold cm_J4_checkIndex at h
  refine lv_iload_n hx hb dJ4_checkIndex_0 rfl (lv_at hl 0 rfl) ?_
  refine lv_if_lt (tgt := 9) hx hb dJ4_checkIndex_1 (by decide) (fun c_1 => ?_) (fun c_1 => ?_)
  · have h := if_t h c_1
    cases h
  · have h := if_f h c_1
    refine lv_iload_n hx hb dJ4_checkIndex_4 rfl (lv_at hl 0 rfl) ?_
    refine lv_iload_n hx hb dJ4_checkIndex_5 rfl (lv_at hl 1 rfl) ?_
    refine lv_icmp_lt (tgt := 16) hx hb dJ4_checkIndex_6 (by decide) (fun c_2 => ?_) (fun c_2 => ?_)
    · have h := if_t h c_2
      refine lv_iload_n hx hb dJ4_checkIndex_16 rfl (lv_at hl 0 rfl) ?_
      cases h
      exact d_iret S hr hlk hW (Nat.le_of_ble_eq_true rfl) (Nat.le_of_ble_eq_true rfl) dJ4_checkIndex_17
    · have h := if_f h c_2
      cases h
def cm_J5_newLength (a0 : Int32) (a1 : Int32) (a2 : Int32) : Option (Int32) :=
  nmI (if a1 < a2 then a2 else a1) fun x_1 => nmI (a0 + x_1) fun x_3 => if x_3 ≤ 0 then (none) else (if 2147483639 < x_3 then (none) else (some x_3))
abbrev rmJ5_newLength : Room := rmD 1 21 0 0
set_option maxHeartbeats 4000000 in
theorem metJ5_newLength {l : Launch} {gp : Nat → Nat} {D : va_G} {K : Nat → ClassId} {Z0 : c_S} {a0 : Int32} {a1 : Int32} {a2 : Int32} {r : Int32} (h : cm_J5_newLength a0 a1 a2 = some r) : Met l yJ5_newLength (ws_ yJ5_newLength cJ5_newLength 4 (some .int)) rmJ5_newLength (z_Pc gp [.int a0, .int a1, .int a2] D K Z0) (z_Q (.returned (some (.int r))) D K (z_A Z0) Z0) 0 0 (z_A Z0) := by
  refine d_met rfl (Nat.le_of_ble_eq_true rfl) ?_
  intro p e s m below meth c ls S hr hlk hnm hl hW hsz
  have S : CallFix p m c cJ5_newLength 4 s ([.int a0, .int a1, .int a2] : List Value).toArray lw_all RJ5 := S
  have hx := S.1
  have hb := S.2.1
  have hl : lv_has ls 4 [(0, .int a0), (1, .int a1), (2, .int a2)] := hl
  have hnm : meth.name = "newLength" := hnm
  unfold cm_J5_newLength at h
  refine lv_iload_n hx hb dJ5_newLength_0 rfl (lv_at hl 0 rfl) ?_
  refine lv_iload_n hx hb dJ5_newLength_1 rfl (lv_at hl 1 rfl) ?_
  refine lv_iload_n hx hb dJ5_newLength_2 rfl (lv_at hl 2 rfl) ?_
  refine va_mmax hx hb (S.2.2.1.trans hl.1.symm) S.2.2.2.1 (S.2.2.2.2 _ q594) (S.2.2.2.2 _ q595) (S.2.2.2.2 _ q117) (S.2.2.2.2 _ mc_max) (Nat.le_of_ble_eq_true rfl) (zm_lo (z_ro (Nat.le_of_ble_eq_true rfl)) (Nat.le_of_ble_eq_true rfl)) (Nat.le_of_ble_eq_true rfl) (Nat.le_of_ble_eq_true rfl) dJ5_newLength_3 ?_
  obtain ⟨x_1, e_2, h⟩ := nmI_some h
  refine g_nmi e_2 ?_
  refine lv_iadd hx hb dJ5_newLength_6 ?_
  obtain ⟨x_3, e_4, h⟩ := nmI_some h
  refine g_nmi e_4 ?_
  refine lv_istore_n (lv' := [(3, .int x_3), (0, .int a0), (1, .int a1), (2, .int a2)]) hx hb dJ5_newLength_7 rfl hl (by decide) rfl (fun ls hl => ?_)
  refine lv_iconst (v := 0) hx hb dJ5_newLength_8 (by decide) ?_
  refine lv_iload_n hx hb dJ5_newLength_9 rfl (lv_at hl 0 rfl) ?_
  refine lv_icmp_ge (tgt := 21) hx hb dJ5_newLength_10 (by decide) (fun c_5 => ?_) (fun c_5 => ?_)
  · have h := if_t h c_5
    cases h
  · have h := if_f h c_5
    refine lv_iload_n hx hb dJ5_newLength_13 rfl (lv_at hl 0 rfl) ?_
    refine lv_ldc (v := 2147483639) hx hb S.2.2.2.1 (S.2.2.2.2 _ q597) dJ5_newLength_14 ?_
    refine lv_icmp_gt (tgt := 21) hx hb dJ5_newLength_16 (by decide) (fun c_6 => ?_) (fun c_6 => ?_)
    · have h := if_t h c_6
      cases h
    · have h := if_f h c_6
      refine lv_iload_n hx hb dJ5_newLength_19 rfl (lv_at hl 0 rfl) ?_
      cases h
      exact d_iret S hr hlk hW (Nat.le_of_ble_eq_true rfl) (Nat.le_of_ble_eq_true rfl) dJ5_newLength_20
def cm_J7_copyOf_2 (gp : Nat → Nat) (Z0 : c_S) (a0 : Nat) (a1 : Int32) (a2 : Nat) : Option ((Option Nat) × c_S) :=
  if (some a2) = (some (gp 200)) then (zNewR Z0 5 19 a1 fun Z_2 a_3 => zLen Z_2 a0 fun x_4 => nmI (if a1 < x_4 then a1 else x_4) fun x_5 => zCpR Z_2 a0 0 a_3 0 x_5 fun Z_7 => some (some a_3, Z_7)) else (none)
abbrev rmJ7_copyOf_2 : Room := rmD 1 60 1 19
set_option maxHeartbeats 4000000 in
theorem metJ7_copyOf_2 {l : Launch} {gp : Nat → Nat} {D : va_G} {K : Nat → ClassId} {Z0 : c_S} {a0 : Nat} {a1 : Int32} {a2 : Nat} {r : Option Nat} {Z' : c_S} (h : cm_J7_copyOf_2 gp Z0 a0 a1 a2 = some (r, Z')) : Met l yJ7_copyOf_2 (ws_ yJ7_copyOf_2 cJ7_copyOf_2 4 (some (.array (.object "java/lang/Object")))) rmJ7_copyOf_2 (z_Pc gp [.ref a0, .int a1, .ref a2] D K Z0) (z_Q (.returned (some (va_rf r))) D K (z_A Z0) Z') 1 19 (z_A Z0) := by
  refine d_met rfl (Nat.le_of_ble_eq_true rfl) ?_
  intro p e s m below meth c ls S hr hlk hnm hl hW hsz
  have S : CallFix p m c cJ7_copyOf_2 4 s ([.ref a0, .int a1, .ref a2] : List Value).toArray lw_all RJ7 := S
  have hx := S.1
  have hb := S.2.1
  have hl : lv_has ls 4 [(0, .ref a0), (1, .int a1), (2, .ref a2)] := hl
  have hnm : meth.name = "copyOf" := hnm
  unfold cm_J7_copyOf_2 at h
  refine lv_aload_n hx hb dJ7_copyOf_2_0 rfl (lv_at hl 2 rfl) ?_
  refine zw_ldcM S hW q630 dJ7_copyOf_2_1 ?_
  refine lv_acmp_ne (rx := some a2) (ry := some (gp 200)) (tgt := 13) hx hb dJ7_copyOf_2_3 (by decide) (fun c_1 => ?_) (fun c_1 => ?_)
  · have h := if_f h c_1
    cases h
  · have h := if_t h c_1
    refine lv_iload_n hx hb dJ7_copyOf_2_6 rfl (lv_at hl 1 rfl) ?_
    refine zw_newr (t := 5) (B := 19) S hW q631 (by decide) rfl (by decide) (Nat.le_of_ble_eq_true rfl) (Nat.le_of_ble_eq_true rfl) dJ7_copyOf_2_7 h (fun Z_2 a_3 h H hW => ?_)
    refine lv_goto (tgt := 24) hx hb dJ7_copyOf_2_10 (by decide) ?_
    refine lv_astore_n (lv' := [(3, .ref a_3), (0, .ref a0), (1, .int a1), (2, .ref a2)]) hx hb dJ7_copyOf_2_24 rfl hl (by decide) rfl (fun ls hl => ?_)
    refine lv_aload_n hx hb dJ7_copyOf_2_25 rfl (lv_at hl 1 rfl) ?_
    refine lv_iconst (v := 0) hx hb dJ7_copyOf_2_26 (by decide) ?_
    refine lv_aload_n hx hb dJ7_copyOf_2_27 rfl (lv_at hl 0 rfl) ?_
    refine lv_iconst (v := 0) hx hb dJ7_copyOf_2_28 (by decide) ?_
    refine lv_aload_n hx hb dJ7_copyOf_2_29 rfl (lv_at hl 1 rfl) ?_
    refine zw_len S hW dJ7_copyOf_2_30 h (fun x_4 h => ?_)
    refine lv_iload_n hx hb dJ7_copyOf_2_31 rfl (lv_at hl 2 rfl) ?_
    refine va_mmin hx hb (S.2.2.1.trans hl.1.symm) S.2.2.2.1 (S.2.2.2.2 _ q632) (S.2.2.2.2 _ q633) (S.2.2.2.2 _ q117) (S.2.2.2.2 _ mc_min) (Nat.le_of_ble_eq_true rfl) (zm_lo (z_ro (Nat.le_of_ble_eq_true rfl)) (Nat.le_of_ble_eq_true rfl)) (Nat.le_of_ble_eq_true rfl) (Nat.le_of_ble_eq_true rfl) dJ7_copyOf_2_32 ?_
    obtain ⟨x_5, e_6, h⟩ := nmI_some h
    refine g_nmi e_6 ?_
    refine zw_copyR S hW hl.1 q635 (Nat.le_of_ble_eq_true rfl) (zm_lo2 (z_ro (Nat.le_of_ble_eq_true rfl)) (Nat.le_of_ble_eq_true rfl)) dJ7_copyOf_2_35 h (fun Z_7 h H locs hW => ?_)
    refine lv_aload_n hx hb dJ7_copyOf_2_38 rfl (lv_at hl 0 rfl) ?_
    cases h
    exact d_aret (o := some a_3) S hr (Or.inr ⟨_, rfl⟩) hlk hW (Nat.le_of_ble_eq_true rfl) (Nat.le_of_ble_eq_true rfl) dJ7_copyOf_2_39
def cm_X0_in (a0 : Int64) (a2 : Int64) (a4 : Int64) : Option (Int32) :=
  if (lg_cmp a0 a2) < 0 then (some 0) else (if 0 < (lg_cmp a0 a4) then (some 0) else (some 1))
abbrev rmX0_in : Room := rmD 0 0 0 0
set_option maxHeartbeats 4000000 in
theorem metX0_in {l : Launch} {gp : Nat → Nat} {D : va_G} {K : Nat → ClassId} {Z0 : c_S} {a0 : Int64} {a2 : Int64} {a4 : Int64} {r : Int32} (h : cm_X0_in a0 a2 a4 = some r) : Met l yX0_in (ws_ yX0_in cX0_in 6 (some .boolean)) rmX0_in (z_Pc gp [.long a0, .long a2, .long a4] D K Z0) (z_Q (.returned (some (.int r))) D K (z_A Z0) Z0) 0 0 (z_A Z0) := by
  refine d_met rfl (Nat.le_of_ble_eq_true rfl) ?_
  intro p e s m below meth c ls S hr hlk hnm hl hW hsz
  have S : CallFix p m c cX0_in 6 s ([.long a0, .long a2, .long a4] : List Value).toArray lw_all RX0 := S
  have hx := S.1
  have hb := S.2.1
  have hl : lv_has ls 6 [(0, .long a0), (2, .long a2), (4, .long a4)] := hl
  have hnm : meth.name = "in" := hnm
  unfold cm_X0_in at h
  refine lv_lload_n hx hb dX0_in_0 rfl (lv_at hl 0 rfl) ?_
  refine lv_lload_n hx hb dX0_in_1 rfl (lv_at hl 1 rfl) ?_
  refine W.lcmp hx hb dX0_in_2 ?_
  refine lv_if_lt (tgt := 17) hx hb dX0_in_3 (by decide) (fun c_1 => ?_) (fun c_1 => ?_)
  · have h := if_t h c_1
    refine lv_iconst (v := 0) hx hb dX0_in_17 (by decide) ?_
    cases h
    exact d_zret S hr hlk rfl hW (Nat.le_of_ble_eq_true rfl) (Nat.le_of_ble_eq_true rfl) dX0_in_18
  · have h := if_f h c_1
    refine lv_lload_n hx hb dX0_in_6 rfl (lv_at hl 0 rfl) ?_
    refine lv_lload hx hb dX0_in_7 (lv_at hl 2 rfl) ?_
    refine W.lcmp hx hb dX0_in_9 ?_
    refine lv_if_gt (tgt := 17) hx hb dX0_in_10 (by decide) (fun c_2 => ?_) (fun c_2 => ?_)
    · have h := if_t h c_2
      refine lv_iconst (v := 0) hx hb dX0_in_17 (by decide) ?_
      cases h
      exact d_zret S hr hlk rfl hW (Nat.le_of_ble_eq_true rfl) (Nat.le_of_ble_eq_true rfl) dX0_in_18
    · have h := if_f h c_2
      refine lv_iconst (v := 1) hx hb dX0_in_13 (by decide) ?_
      refine lv_goto (tgt := 18) hx hb dX0_in_14 (by decide) ?_
      cases h
      exact d_zret S hr hlk rfl hW (Nat.le_of_ble_eq_true rfl) (Nat.le_of_ble_eq_true rfl) dX0_in_18
def cm_X0_puts_B3 (x0 : Nat) (x1 : Int32) (rec : Int32 → c_S → Option (c_S)) (x2 : Int32) (Z : c_S) : Option (c_S) :=
  if x2 < 0 then (some Z) else (cA Z.Sh x0 0 11 4 fun a_2 => cI Z.Sh Z.V x0 0 11 5 fun x_3 => zsI Z 1 a_2 x_3 ((x1 >>> (x2 &&& 31)).toInt8.toInt32) fun Z_4 => cI Z_4.Sh Z_4.V x0 0 11 5 fun x_5 => zPI Z_4 x0 0 11 5 (x_5 + 1) fun Z_6 => nmI (x2 + (-8)) fun x_7 => rec x_7 Z_6)
abbrev cm_X0_puts_F3 (x0 : Nat) (x1 : Int32) : (((Int32) × (c_S)) → Option (c_S)) → ((Int32) × (c_S)) → Option (c_S) := fun rec s => cm_X0_puts_B3 x0 x1 (fun x2 Z => rec (x2, Z)) s.1 s.2
def cm_X0_puts_L3 (x0 : Nat) (x1 : Int32) (n : Nat) (x2 : Int32) (Z : c_S) : Option (c_S) := lp (cm_X0_puts_F3 x0 x1) n (x2, Z)
theorem cm_X0_puts_L3_s (x0 : Nat) (x1 : Int32) (n : Nat) (x2 : Int32) (Z : c_S) : cm_X0_puts_L3 x0 x1 (n + 1) x2 Z = cm_X0_puts_B3 x0 x1 (fun x2 Z => cm_X0_puts_L3 x0 x1 n x2 Z) x2 Z := lp_s (cm_X0_puts_F3 x0 x1) n (x2, Z)
def cm_X0_puts (Z0 : c_S) (a0 : Nat) (a1 : Int32) : Option (c_S) :=
  bnd (cm_X0_puts_L3 a0 a1 1000 24 Z0) (fun Z_11 => some Z_11)
abbrev rmX0_puts : Room := rmD 0 0 0 0
set_option maxHeartbeats 4000000 in
theorem metX0_puts {l : Launch} {gp : Nat → Nat} {D : va_G} {K : Nat → ClassId} {Z0 : c_S} {a0 : Nat} {a1 : Int32} {Z' : c_S} (h : cm_X0_puts Z0 a0 a1 = some Z') : Met l yX0_puts (ws_ yX0_puts cX0_puts 3 (none)) rmX0_puts (z_Pc gp [.ref a0, .int a1] D K Z0) (z_Q (.returned (none)) D K (z_A Z0) Z') 0 0 (z_A Z0) := by
  refine d_met rfl (Nat.le_of_ble_eq_true rfl) ?_
  intro p e s m below meth c ls S hr hlk hnm hl hW hsz
  have S : CallFix p m c cX0_puts 3 s ([.ref a0, .int a1] : List Value).toArray lw_all RX0 := S
  have hx := S.1
  have hb := S.2.1
  have hl : lv_has ls 3 [(0, .ref a0), (1, .int a1)] := hl
  have hnm : meth.name = "puts" := hnm
  have Lp3 : ∀ (x0 : Nat) (x1 : Int32) (n : Nat) (x2 : Int32) (Z : c_S) (out : (c_S)) (H : Heap) (locs : List Loc) (ls : Array Slot), cm_X0_puts_L3 x0 x1 n x2 Z = some out → z_W gp D K (z_A Z0) s Z H locs → lv_has ls 3 [(0, .ref x0), (1, .int x1), (2, .int x2)] → (∀ (oZ : c_S), out = oZ → ∀ (H : Heap) (locs : List Loc) (ls : Array Slot), z_W gp D K (z_A Z0) s oZ H locs → lv_has ls 3 [] → W p l e rmX0_puts s m ([.ref a0, .int a1] : List Value).toArray below meth c H locs 0 0 (MQ below (z_Q (.returned (none)) D K (z_A Z0) Z') ([.ref a0, .int a1] : List Value).toArray s 0 0 (z_A Z0)) (F0 m 36 ls [])) → W p l e rmX0_puts s m ([.ref a0, .int a1] : List Value).toArray below meth c H locs 0 0 (MQ below (z_Q (.returned (none)) D K (z_A Z0) Z') ([.ref a0, .int a1] : List Value).toArray s 0 0 (z_A Z0)) (F0 m 3 ls []) := by
    intro x0 x1 n
    induction n with
    | zero =>
      intro x2 Z out H locs ls h
      exact (lp_0 h).elim
    | succ n ih =>
      intro x2 Z out H locs ls h hW hl k1
      rw [cm_X0_puts_L3_s] at h
      unfold cm_X0_puts_B3 at h
      refine lv_iload_n hx hb dX0_puts_3 rfl (lv_at hl 2 rfl) ?_
      refine lv_if_lt (tgt := 36) hx hb dX0_puts_4 (by decide) (fun c_1 => ?_) (fun c_1 => ?_)
      · have h := if_t h c_1
        exact k1 _ (Option.some.inj h).symm _ _ _ hW (lv_sub hl [] rfl)
      · have h := if_f h c_1
        refine lv_aload_n hx hb dX0_puts_7 rfl (lv_at hl 0 rfl) ?_
        refine zw_getA S hW zC_X0 (i := 4) (by decide) (Or.inl q759) (fun _ h => h) dX0_puts_8 h (fun a_2 h => ?_)
        refine lv_aload_n hx hb dX0_puts_11 rfl (lv_at hl 0 rfl) ?_
        refine zw_getI S hW zC_X0 (i := 5) (by decide) (Or.inl q760) (fun _ h => h) dX0_puts_12 h (fun x_3 h => ?_)
        refine lv_iload_n hx hb dX0_puts_15 rfl (lv_at hl 1 rfl) ?_
        refine lv_iload_n hx hb dX0_puts_16 rfl (lv_at hl 2 rfl) ?_
        refine lv_ishr hx hb dX0_puts_17 ?_
        refine lv_i2b (v := (x1 >>> (x2 &&& 31)).toInt8.toInt32) hx hb dX0_puts_18 rfl ?_
        refine zw_bast S hW (pk_vb _) dX0_puts_19 h (fun Z_4 h H locs hW => ?_)
        refine lv_aload_n hx hb dX0_puts_20 rfl (lv_at hl 0 rfl) ?_
        refine lv_dup hx hb dX0_puts_21 rfl ?_
        refine zw_getI S hW zC_X0 (i := 5) (by decide) (Or.inl q760) (fun _ h => h) dX0_puts_22 h (fun x_5 h => ?_)
        refine lv_iconst (v := 1) hx hb dX0_puts_25 (by decide) ?_
        refine lv_iadd hx hb dX0_puts_26 ?_
        refine zw_putI S hW zC_X0 (i := 5) (by decide) (Or.inl rfl) rfl rfl rfl (Or.inl q760) (fun _ h => h) dX0_puts_27 h (fun Z_6 h H locs hW => ?_)
        obtain ⟨x_7, e_8, h⟩ := nmI_some h
        refine lv_iinc (v := x_7) (lv' := [(2, .int x_7), (0, .ref x0), (1, .int x1)]) hx hb dX0_puts_30 hl (k := 2) rfl (by rw [e_8]; rfl) (by decide) rfl (fun ls hl => ?_)
        refine lv_goto (tgt := 3) hx hb dX0_puts_33 (by decide) ?_
        exact ih x_7 Z_6 out _ _ _ h hW (lv_sub hl [1, 2, 0] rfl) k1
  unfold cm_X0_puts at h
  refine lv_bipush (v := 24) hx hb dX0_puts_0 (by decide) ?_
  refine lv_istore_n (lv' := [(2, .int 24), (0, .ref a0), (1, .int a1)]) hx hb dX0_puts_2 rfl hl (by decide) rfl (fun ls hl => ?_)
  obtain ⟨Z_11, h_10, h⟩ := bnd_some h
  refine Lp3 a0 a1 1000 24 Z0  _ _ _ _ h_10 hW (lv_sub hl [1, 2, 0] rfl) ?_
  intro w0 eo H locs ls hW hl
  subst eo
  cases h
  exact d_vret S hr hlk hW (Nat.le_of_ble_eq_true rfl) (Nat.le_of_ble_eq_true rfl) dX0_puts_36
def cm_X0_end (Z0 : c_S) (a0 : Nat) (a1 : Int32) : Option (Int32 × c_S) :=
  cI Z0.Sh Z0.V a0 0 11 5 fun x_1 => bnd (cm_X0_in a1.toInt64 0 x_1.toInt64) (fun x_4 => if x_4 = 0 then (some ((-1), Z0)) else (zPI Z0 a0 0 11 5 a1 fun Z_6 => some (a1, Z_6)))
abbrev rmX0_end : Room := rmD 1 25 0 0
theorem cwX0_in_S {own : String} {R : Room} {s : State} {args : Array Value} {index : Nat} (hts : ∀ w ∈ lw_all, w.before args s = true) (hl : Cond.methodLink own index yX0_in ∈ lw_all) (hR : rmX0_in.frames + 1 ≤ R.frames ∧ 8 + (6 + 11) + rmX0_in.locals ≤ R.locals) : CallB R s args own index yX0_in cX0_in 6 (some .boolean) (ws_ yX0_in cX0_in 6 (some .boolean)) rmX0_in 0 0 3 ∧ (Cond.static yX0_in).before args s = true := va_cwS 3 hts (lw_S hl q150 q105 q151) rfl rfl rfl (by decide +kernel) hR
set_option maxHeartbeats 4000000 in
theorem metX0_end {l : Launch} {gp : Nat → Nat} {D : va_G} {K : Nat → ClassId} {Z0 : c_S} {a0 : Nat} {a1 : Int32} {r : Int32} {Z' : c_S} (h : cm_X0_end Z0 a0 a1 = some (r, Z')) : Met l yX0_end (ws_ yX0_end cX0_end 2 (some .int)) rmX0_end (z_Pc gp [.ref a0, .int a1] D K Z0) (z_Q (.returned (some (.int r))) D K (z_A Z0) Z') 0 0 (z_A Z0) := by
  refine d_met rfl (Nat.le_of_ble_eq_true rfl) ?_
  intro p e s m below meth c ls S hr hlk hnm hl hW hsz
  have S : CallFix p m c cX0_end 2 s ([.ref a0, .int a1] : List Value).toArray lw_all RX0 := S
  have hx := S.1
  have hb := S.2.1
  have hl : lv_has ls 2 [(0, .ref a0), (1, .int a1)] := hl
  have hnm : meth.name = "end" := hnm
  unfold cm_X0_end at h
  refine lv_iload_n hx hb dX0_end_0 rfl (lv_at hl 1 rfl) ?_
  refine lv_i2l (v := a1.toInt64) hx hb dX0_end_1 rfl ?_
  refine lv_lconst (v := 0) hx hb dX0_end_2 (by decide) ?_
  refine lv_aload_n hx hb dX0_end_3 rfl (lv_at hl 0 rfl) ?_
  refine zw_getI S hW zC_X0 (i := 5) (by decide) (Or.inl q760) (fun _ h => h) dX0_end_4 h (fun x_1 h => ?_)
  refine lv_i2l (v := x_1.toInt64) hx hb dX0_end_7 rfl ?_
  obtain ⟨x_4, h_2, h⟩ := bnd_some h
  refine d_callS (As := [.long a1.toInt64, .long 0, .long x_1.toInt64]) (rest := []) S hW (metX0_in h_2) (cwX0_in_S S.2.2.2.2 q149 ⟨Nat.le_of_ble_eq_true rfl, Nat.le_of_ble_eq_true rfl⟩) rfl hl.1 rfl (Nat.le_of_ble_eq_true rfl) dX0_end_8 ⟨(Nat.le_of_ble_eq_true rfl), (Nat.le_of_ble_eq_true rfl)⟩ rfl (fun H locs hW => ?_)
  refine lv_if_ne (tgt := 16) hx hb dX0_end_11 (by decide) (fun c_5 => ?_) (fun c_5 => ?_)
  · have h := if_f h c_5
    refine lv_aload_n hx hb dX0_end_16 rfl (lv_at hl 0 rfl) ?_
    refine lv_iload_n hx hb dX0_end_17 rfl (lv_at hl 1 rfl) ?_
    refine zw_putI S hW zC_X0 (i := 5) (by decide) (Or.inl rfl) rfl rfl rfl (Or.inl q760) (fun _ h => h) dX0_end_18 h (fun Z_6 h H locs hW => ?_)
    refine lv_iload_n hx hb dX0_end_21 rfl (lv_at hl 1 rfl) ?_
    cases h
    exact d_iret S hr hlk hW (Nat.le_of_ble_eq_true rfl) (Nat.le_of_ble_eq_true rfl) dX0_end_22
  · have h := if_t h c_5
    refine lv_iconst (v := (-1)) hx hb dX0_end_14 (by decide) ?_
    cases h
    exact d_iret S hr hlk hW (Nat.le_of_ble_eq_true rfl) (Nat.le_of_ble_eq_true rfl) dX0_end_15
def cm_X0_fault (Z0 : c_S) (a0 : Nat) (a1 : Int32) : Option (Int32) :=
  if a1 = 0 then (cI Z0.Sh Z0.V a0 0 11 6 fun x_4 => some x_4) else (if a1 = 1 then (cI Z0.Sh Z0.V a0 0 11 7 fun x_3 => some x_3) else (some (-1)))
abbrev rmX0_fault : Room := rmD 0 0 0 0
set_option maxHeartbeats 4000000 in
theorem metX0_fault {l : Launch} {gp : Nat → Nat} {D : va_G} {K : Nat → ClassId} {Z0 : c_S} {a0 : Nat} {a1 : Int32} {r : Int32} (h : cm_X0_fault Z0 a0 a1 = some r) : Met l yX0_fault (ws_ yX0_fault cX0_fault 2 (some .int)) rmX0_fault (z_Pc gp [.ref a0, .int a1] D K Z0) (z_Q (.returned (some (.int r))) D K (z_A Z0) Z0) 0 0 (z_A Z0) := by
  refine d_met rfl (Nat.le_of_ble_eq_true rfl) ?_
  intro p e s m below meth c ls S hr hlk hnm hl hW hsz
  have S : CallFix p m c cX0_fault 2 s ([.ref a0, .int a1] : List Value).toArray lw_all RX0 := S
  have hx := S.1
  have hb := S.2.1
  have hl : lv_has ls 2 [(0, .ref a0), (1, .int a1)] := hl
  have hnm : meth.name = "fault" := hnm
  unfold cm_X0_fault at h
  refine lv_iload_n hx hb dX0_fault_0 rfl (lv_at hl 1 rfl) ?_
  refine lv_if_ne (tgt := 11) hx hb dX0_fault_1 (by decide) (fun c_1 => ?_) (fun c_1 => ?_)
  · have h := if_f h c_1
    refine lv_iload_n hx hb dX0_fault_11 rfl (lv_at hl 1 rfl) ?_
    refine lv_iconst (v := 1) hx hb dX0_fault_12 (by decide) ?_
    refine lv_icmp_ne (tgt := 23) hx hb dX0_fault_13 (by decide) (fun c_2 => ?_) (fun c_2 => ?_)
    · have h := if_f h c_2
      refine lv_iconst (v := (-1)) hx hb dX0_fault_23 (by decide) ?_
      cases h
      exact d_iret S hr hlk hW (Nat.le_of_ble_eq_true rfl) (Nat.le_of_ble_eq_true rfl) dX0_fault_24
    · have h := if_t h c_2
      refine lv_aload_n hx hb dX0_fault_16 rfl (lv_at hl 0 rfl) ?_
      refine zw_getI S hW zC_X0 (i := 7) (by decide) (Or.inl q762) (fun _ h => h) dX0_fault_17 h (fun x_3 h => ?_)
      refine lv_goto (tgt := 24) hx hb dX0_fault_20 (by decide) ?_
      cases h
      exact d_iret S hr hlk hW (Nat.le_of_ble_eq_true rfl) (Nat.le_of_ble_eq_true rfl) dX0_fault_24
  · have h := if_t h c_1
    refine lv_aload_n hx hb dX0_fault_4 rfl (lv_at hl 0 rfl) ?_
    refine zw_getI S hW zC_X0 (i := 6) (by decide) (Or.inl q761) (fun _ h => h) dX0_fault_5 h (fun x_4 h => ?_)
    refine lv_goto (tgt := 24) hx hb dX0_fault_8 (by decide) ?_
    cases h
    exact d_iret S hr hlk hW (Nat.le_of_ble_eq_true rfl) (Nat.le_of_ble_eq_true rfl) dX0_fault_24
def cm_X0_beside (a0 : Int32) (a1 : Int32) : Option (Int32) :=
  if a1 = 0 then (if (a0 - a0 / 12 * 12) = 11 then (some (-1)) else (some (a0 + 1))) else (if a1 = 1 then (if (a0 - a0 / 12 * 12) = 0 then (some (-1)) else (some (a0 - 1))) else (if a1 = 2 then (if 12 ≤ a0 then (some (a0 - 12)) else (some (-1))) else (if a0 < 132 then (some (a0 + 12)) else (some (-1)))))
abbrev rmX0_beside : Room := rmD 0 0 0 0
set_option maxHeartbeats 4000000 in
theorem metX0_beside {l : Launch} {gp : Nat → Nat} {D : va_G} {K : Nat → ClassId} {Z0 : c_S} {a0 : Int32} {a1 : Int32} {r : Int32} (h : cm_X0_beside a0 a1 = some r) : Met l yX0_beside (ws_ yX0_beside cX0_beside 2 (some .int)) rmX0_beside (z_Pc gp [.int a0, .int a1] D K Z0) (z_Q (.returned (some (.int r))) D K (z_A Z0) Z0) 0 0 (z_A Z0) := by
  refine d_met rfl (Nat.le_of_ble_eq_true rfl) ?_
  intro p e s m below meth c ls S hr hlk hnm hl hW hsz
  have S : CallFix p m c cX0_beside 2 s ([.int a0, .int a1] : List Value).toArray lw_all RX0 := S
  have hx := S.1
  have hb := S.2.1
  have hl : lv_has ls 2 [(0, .int a0), (1, .int a1)] := hl
  have hnm : meth.name = "beside" := hnm
  unfold cm_X0_beside at h
  refine lv_iload_n hx hb dX0_beside_0 rfl (lv_at hl 1 rfl) ?_
  by_cases c_1 : a1 = 0
  · have h := if_t h c_1
    refine lv_tableIn (off := 27) (tgt := 28) hx hb dX0_beside_1 (by rw [c_1]; decide) (by rw [c_1]; decide) (by rw [c_1]; decide) (by decide) ?_
    refine lv_iload_n hx hb dX0_beside_28 rfl (lv_at hl 0 rfl) ?_
    refine lv_bipush (v := 12) hx hb dX0_beside_29 (by decide) ?_
    refine lv_irem hx hb dX0_beside_31 (by decide) ?_
    refine lv_bipush (v := 11) hx hb dX0_beside_32 (by decide) ?_
    refine lv_icmp_ne (tgt := 41) hx hb dX0_beside_34 (by decide) (fun c_2 => ?_) (fun c_2 => ?_)
    · have h := if_f h c_2
      refine lv_iload_n hx hb dX0_beside_41 rfl (lv_at hl 0 rfl) ?_
      refine lv_iconst (v := 1) hx hb dX0_beside_42 (by decide) ?_
      refine lv_iadd hx hb dX0_beside_43 ?_
      cases h
      exact d_iret S hr hlk hW (Nat.le_of_ble_eq_true rfl) (Nat.le_of_ble_eq_true rfl) dX0_beside_44
    · have h := if_t h c_2
      refine lv_iconst (v := (-1)) hx hb dX0_beside_37 (by decide) ?_
      refine lv_goto (tgt := 44) hx hb dX0_beside_38 (by decide) ?_
      cases h
      exact d_iret S hr hlk hW (Nat.le_of_ble_eq_true rfl) (Nat.le_of_ble_eq_true rfl) dX0_beside_44
  have h := if_f h c_1
  by_cases c_3 : a1 = 1
  · have h := if_t h c_3
    refine lv_tableIn (off := 44) (tgt := 45) hx hb dX0_beside_1 (by rw [c_3]; decide) (by rw [c_3]; decide) (by rw [c_3]; decide) (by decide) ?_
    refine lv_iload_n hx hb dX0_beside_45 rfl (lv_at hl 0 rfl) ?_
    refine lv_bipush (v := 12) hx hb dX0_beside_46 (by decide) ?_
    refine lv_irem hx hb dX0_beside_48 (by decide) ?_
    refine lv_if_ne (tgt := 56) hx hb dX0_beside_49 (by decide) (fun c_4 => ?_) (fun c_4 => ?_)
    · have h := if_f h c_4
      refine lv_iload_n hx hb dX0_beside_56 rfl (lv_at hl 0 rfl) ?_
      refine lv_iconst (v := 1) hx hb dX0_beside_57 (by decide) ?_
      refine lv_isub hx hb dX0_beside_58 ?_
      cases h
      exact d_iret S hr hlk hW (Nat.le_of_ble_eq_true rfl) (Nat.le_of_ble_eq_true rfl) dX0_beside_59
    · have h := if_t h c_4
      refine lv_iconst (v := (-1)) hx hb dX0_beside_52 (by decide) ?_
      refine lv_goto (tgt := 59) hx hb dX0_beside_53 (by decide) ?_
      cases h
      exact d_iret S hr hlk hW (Nat.le_of_ble_eq_true rfl) (Nat.le_of_ble_eq_true rfl) dX0_beside_59
  have h := if_f h c_3
  by_cases c_5 : a1 = 2
  · have h := if_t h c_5
    refine lv_tableIn (off := 59) (tgt := 60) hx hb dX0_beside_1 (by rw [c_5]; decide) (by rw [c_5]; decide) (by rw [c_5]; decide) (by decide) ?_
    refine lv_iload_n hx hb dX0_beside_60 rfl (lv_at hl 0 rfl) ?_
    refine lv_bipush (v := 12) hx hb dX0_beside_61 (by decide) ?_
    refine lv_icmp_ge (tgt := 70) hx hb dX0_beside_63 (by decide) (fun c_6 => ?_) (fun c_6 => ?_)
    · have h := if_t h c_6
      refine lv_iload_n hx hb dX0_beside_70 rfl (lv_at hl 0 rfl) ?_
      refine lv_bipush (v := 12) hx hb dX0_beside_71 (by decide) ?_
      refine lv_isub hx hb dX0_beside_73 ?_
      cases h
      exact d_iret S hr hlk hW (Nat.le_of_ble_eq_true rfl) (Nat.le_of_ble_eq_true rfl) dX0_beside_74
    · have h := if_f h c_6
      refine lv_iconst (v := (-1)) hx hb dX0_beside_66 (by decide) ?_
      refine lv_goto (tgt := 74) hx hb dX0_beside_67 (by decide) ?_
      cases h
      exact d_iret S hr hlk hW (Nat.le_of_ble_eq_true rfl) (Nat.le_of_ble_eq_true rfl) dX0_beside_74
  have h := if_f h c_5
  have c_1 := lv_neT (a := 0) c_1 (by decide)
  have c_3 := lv_neT (a := 1) c_3 (by decide)
  have c_5 := lv_neT (a := 2) c_5 (by decide)
  refine lv_tableOut (tgt := 75) hx hb dX0_beside_1 (by omega) (by decide) ?_
  refine lv_iload_n hx hb dX0_beside_75 rfl (lv_at hl 0 rfl) ?_
  refine lv_sipush (v := 132) hx hb dX0_beside_76 (by decide) ?_
  refine lv_icmp_lt (tgt := 86) hx hb dX0_beside_79 (by decide) (fun c_7 => ?_) (fun c_7 => ?_)
  · have h := if_t h c_7
    refine lv_iload_n hx hb dX0_beside_86 rfl (lv_at hl 0 rfl) ?_
    refine lv_bipush (v := 12) hx hb dX0_beside_87 (by decide) ?_
    refine lv_iadd hx hb dX0_beside_89 ?_
    cases h
    exact d_iret S hr hlk hW (Nat.le_of_ble_eq_true rfl) (Nat.le_of_ble_eq_true rfl) dX0_beside_90
  · have h := if_f h c_7
    refine lv_iconst (v := (-1)) hx hb dX0_beside_82 (by decide) ?_
    refine lv_goto (tgt := 90) hx hb dX0_beside_83 (by decide) ?_
    cases h
    exact d_iret S hr hlk hW (Nat.le_of_ble_eq_true rfl) (Nat.le_of_ble_eq_true rfl) dX0_beside_90
def cm_X0_isRim (a0 : Int32) : Option (Int32) :=
  if (a0 - a0 / 12 * 12) = 0 then (some 1) else (if (a0 - a0 / 12 * 12) = 11 then (some 1) else (if a0 < 12 then (some 1) else (if a0 < 132 then (some 0) else (some 1))))
abbrev rmX0_isRim : Room := rmD 0 0 0 0
set_option maxHeartbeats 4000000 in
theorem metX0_isRim {l : Launch} {gp : Nat → Nat} {D : va_G} {K : Nat → ClassId} {Z0 : c_S} {a0 : Int32} {r : Int32} (h : cm_X0_isRim a0 = some r) : Met l yX0_isRim (ws_ yX0_isRim cX0_isRim 1 (some .boolean)) rmX0_isRim (z_Pc gp [.int a0] D K Z0) (z_Q (.returned (some (.int r))) D K (z_A Z0) Z0) 0 0 (z_A Z0) := by
  refine d_met rfl (Nat.le_of_ble_eq_true rfl) ?_
  intro p e s m below meth c ls S hr hlk hnm hl hW hsz
  have S : CallFix p m c cX0_isRim 1 s ([.int a0] : List Value).toArray lw_all RX0 := S
  have hx := S.1
  have hb := S.2.1
  have hl : lv_has ls 1 [(0, .int a0)] := hl
  have hnm : meth.name = "isRim" := hnm
  unfold cm_X0_isRim at h
  refine lv_iload_n hx hb dX0_isRim_0 rfl (lv_at hl 0 rfl) ?_
  refine lv_bipush (v := 12) hx hb dX0_isRim_1 (by decide) ?_
  refine lv_irem hx hb dX0_isRim_3 (by decide) ?_
  refine lv_if_eq (tgt := 29) hx hb dX0_isRim_4 (by decide) (fun c_1 => ?_) (fun c_1 => ?_)
  · have h := if_t h c_1
    refine lv_iconst (v := 1) hx hb dX0_isRim_29 (by decide) ?_
    refine lv_goto (tgt := 34) hx hb dX0_isRim_30 (by decide) ?_
    cases h
    exact d_zret S hr hlk rfl hW (Nat.le_of_ble_eq_true rfl) (Nat.le_of_ble_eq_true rfl) dX0_isRim_34
  · have h := if_f h c_1
    refine lv_iload_n hx hb dX0_isRim_7 rfl (lv_at hl 0 rfl) ?_
    refine lv_bipush (v := 12) hx hb dX0_isRim_8 (by decide) ?_
    refine lv_irem hx hb dX0_isRim_10 (by decide) ?_
    refine lv_bipush (v := 11) hx hb dX0_isRim_11 (by decide) ?_
    refine lv_icmp_eq (tgt := 29) hx hb dX0_isRim_13 (by decide) (fun c_2 => ?_) (fun c_2 => ?_)
    · have h := if_t h c_2
      refine lv_iconst (v := 1) hx hb dX0_isRim_29 (by decide) ?_
      refine lv_goto (tgt := 34) hx hb dX0_isRim_30 (by decide) ?_
      cases h
      exact d_zret S hr hlk rfl hW (Nat.le_of_ble_eq_true rfl) (Nat.le_of_ble_eq_true rfl) dX0_isRim_34
    · have h := if_f h c_2
      refine lv_iload_n hx hb dX0_isRim_16 rfl (lv_at hl 0 rfl) ?_
      refine lv_bipush (v := 12) hx hb dX0_isRim_17 (by decide) ?_
      refine lv_icmp_lt (tgt := 29) hx hb dX0_isRim_19 (by decide) (fun c_3 => ?_) (fun c_3 => ?_)
      · have h := if_t h c_3
        refine lv_iconst (v := 1) hx hb dX0_isRim_29 (by decide) ?_
        refine lv_goto (tgt := 34) hx hb dX0_isRim_30 (by decide) ?_
        cases h
        exact d_zret S hr hlk rfl hW (Nat.le_of_ble_eq_true rfl) (Nat.le_of_ble_eq_true rfl) dX0_isRim_34
      · have h := if_f h c_3
        refine lv_iload_n hx hb dX0_isRim_22 rfl (lv_at hl 0 rfl) ?_
        refine lv_sipush (v := 132) hx hb dX0_isRim_23 (by decide) ?_
        refine lv_icmp_lt (tgt := 33) hx hb dX0_isRim_26 (by decide) (fun c_4 => ?_) (fun c_4 => ?_)
        · have h := if_t h c_4
          refine lv_iconst (v := 0) hx hb dX0_isRim_33 (by decide) ?_
          cases h
          exact d_zret S hr hlk rfl hW (Nat.le_of_ble_eq_true rfl) (Nat.le_of_ble_eq_true rfl) dX0_isRim_34
        · have h := if_f h c_4
          refine lv_iconst (v := 1) hx hb dX0_isRim_29 (by decide) ?_
          refine lv_goto (tgt := 34) hx hb dX0_isRim_30 (by decide) ?_
          cases h
          exact d_zret S hr hlk rfl hW (Nat.le_of_ble_eq_true rfl) (Nat.le_of_ble_eq_true rfl) dX0_isRim_34
def cm_X0_isCell (a0 : Int32) (a1 : Int32) : Option (Int32) :=
  bnd (cm_X0_in a0.toInt64 0 11) (fun x_3 => if x_3 = 0 then (some 0) else (bnd (cm_X0_in a1.toInt64 0 11) (fun x_7 => if x_7 = 0 then (some 0) else (some 1))))
abbrev rmX0_isCell : Room := rmD 1 25 0 0
set_option maxHeartbeats 4000000 in
theorem metX0_isCell {l : Launch} {gp : Nat → Nat} {D : va_G} {K : Nat → ClassId} {Z0 : c_S} {a0 : Int32} {a1 : Int32} {r : Int32} (h : cm_X0_isCell a0 a1 = some r) : Met l yX0_isCell (ws_ yX0_isCell cX0_isCell 2 (some .boolean)) rmX0_isCell (z_Pc gp [.int a0, .int a1] D K Z0) (z_Q (.returned (some (.int r))) D K (z_A Z0) Z0) 0 0 (z_A Z0) := by
  refine d_met rfl (Nat.le_of_ble_eq_true rfl) ?_
  intro p e s m below meth c ls S hr hlk hnm hl hW hsz
  have S : CallFix p m c cX0_isCell 2 s ([.int a0, .int a1] : List Value).toArray lw_all RX0 := S
  have hx := S.1
  have hb := S.2.1
  have hl : lv_has ls 2 [(0, .int a0), (1, .int a1)] := hl
  have hnm : meth.name = "isCell" := hnm
  unfold cm_X0_isCell at h
  refine lv_iload_n hx hb dX0_isCell_0 rfl (lv_at hl 0 rfl) ?_
  refine lv_i2l (v := a0.toInt64) hx hb dX0_isCell_1 rfl ?_
  refine lv_lconst (v := 0) hx hb dX0_isCell_2 (by decide) ?_
  refine lv_ldc2 (v := 11) hx hb S.2.2.2.1 (S.2.2.2.2 _ q1184) dX0_isCell_3 ?_
  obtain ⟨x_3, h_1, h⟩ := bnd_some h
  refine d_callS (As := [.long a0.toInt64, .long 0, .long 11]) (rest := []) S hW (metX0_in h_1) (cwX0_in_S S.2.2.2.2 q149 ⟨Nat.le_of_ble_eq_true rfl, Nat.le_of_ble_eq_true rfl⟩) rfl hl.1 rfl (Nat.le_of_ble_eq_true rfl) dX0_isCell_6 ⟨(Nat.le_of_ble_eq_true rfl), (Nat.le_of_ble_eq_true rfl)⟩ rfl (fun H locs hW => ?_)
  refine lv_if_eq (tgt := 28) hx hb dX0_isCell_9 (by decide) (fun c_4 => ?_) (fun c_4 => ?_)
  · have h := if_t h c_4
    refine lv_iconst (v := 0) hx hb dX0_isCell_28 (by decide) ?_
    cases h
    exact d_zret S hr hlk rfl hW (Nat.le_of_ble_eq_true rfl) (Nat.le_of_ble_eq_true rfl) dX0_isCell_29
  · have h := if_f h c_4
    refine lv_iload_n hx hb dX0_isCell_12 rfl (lv_at hl 1 rfl) ?_
    refine lv_i2l (v := a1.toInt64) hx hb dX0_isCell_13 rfl ?_
    refine lv_lconst (v := 0) hx hb dX0_isCell_14 (by decide) ?_
    refine lv_ldc2 (v := 11) hx hb S.2.2.2.1 (S.2.2.2.2 _ q1184) dX0_isCell_15 ?_
    obtain ⟨x_7, h_5, h⟩ := bnd_some h
    refine d_callS (As := [.long a1.toInt64, .long 0, .long 11]) (rest := []) S hW (metX0_in h_5) (cwX0_in_S S.2.2.2.2 q149 ⟨Nat.le_of_ble_eq_true rfl, Nat.le_of_ble_eq_true rfl⟩) rfl hl.1 rfl (Nat.le_of_ble_eq_true rfl) dX0_isCell_18 ⟨(Nat.le_of_ble_eq_true rfl), (Nat.le_of_ble_eq_true rfl)⟩ rfl (fun H locs hW => ?_)
    refine lv_if_eq (tgt := 28) hx hb dX0_isCell_21 (by decide) (fun c_8 => ?_) (fun c_8 => ?_)
    · have h := if_t h c_8
      refine lv_iconst (v := 0) hx hb dX0_isCell_28 (by decide) ?_
      cases h
      exact d_zret S hr hlk rfl hW (Nat.le_of_ble_eq_true rfl) (Nat.le_of_ble_eq_true rfl) dX0_isCell_29
    · have h := if_f h c_8
      refine lv_iconst (v := 1) hx hb dX0_isCell_24 (by decide) ?_
      refine lv_goto (tgt := 29) hx hb dX0_isCell_25 (by decide) ?_
      cases h
      exact d_zret S hr hlk rfl hW (Nat.le_of_ble_eq_true rfl) (Nat.le_of_ble_eq_true rfl) dX0_isCell_29
