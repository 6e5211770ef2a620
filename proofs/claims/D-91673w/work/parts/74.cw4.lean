/-! walks of the component: X9_init J3_checkIndex J7_copyOf X0_isSlot X0_feed X0_heat X0_hasShaft X0_greatestLift X0_lift X1_isFrozen X1_streams X1_takes -/
set_option maxRecDepth 100000
def cm_X9_init (gp : Nat → Nat) (Z0 : c_S) (a0 : Nat) (a1 : Int32) (a2 : Int32) : Option (c_S) :=
  bnd (cm_J12_init_3 gp Z0 a0 none none 0 0) (fun Z_3 => zPI Z_3 a0 9 8 6 a1 fun Z_4 => zPI Z_4 a0 9 8 7 a2 fun Z_5 => some Z_5)
abbrev rmX9_init : Room := rmD 3 68 0 0
theorem cwJ12_init_3_I {own : String} {R : Room} {s : State} {args : Array Value} {index : Nat} (hts : ∀ w ∈ lw_all, w.before args s = true) (hl : Cond.methodLink own index yJ12_init_3 ∈ lw_all) (hR : rmJ12_init_3.frames + 1 ≤ R.frames ∧ 8 + (5 + 11) + rmJ12_init_3.locals ≤ R.locals) : CallB R s args own index yJ12_init_3 cJ12_init_3 5 (none) (ws_ yJ12_init_3 cJ12_init_3 5 (none)) rmJ12_init_3 0 0 4 ∧ yJ12_init_3.name = "<init>" ∧ (Cond.instanceMethod yJ12_init_3).before args s = true := cwI 4 hts (lw_meth q949) rfl rfl rfl (hts _ q127) (hts _ hl) (hts _ q948) rfl ⟨by decide, by decide, by decide +kernel⟩ hR
set_option maxHeartbeats 4000000 in
theorem metX9_init {l : Launch} {gp : Nat → Nat} {D : va_G} {K : Nat → ClassId} {Z0 : c_S} {a0 : Nat} {a1 : Int32} {a2 : Int32} {Z' : c_S} (h : cm_X9_init gp Z0 a0 a1 a2 = some Z') : Met l yX9_init (ws_ yX9_init cX9_init 3 (none)) rmX9_init (z_Pc gp [.ref a0, .int a1, .int a2] D K Z0) (z_Q (.returned (none)) D K (z_A Z0) Z') 0 0 (z_A Z0) := by
  refine d_met rfl (Nat.le_of_ble_eq_true rfl) ?_
  intro p e s m below meth c ls S hr hlk hnm hl hW hsz
  have S : CallFix p m c cX9_init 3 s ([.ref a0, .int a1, .int a2] : List Value).toArray lw_all RX9 := S
  have hx := S.1
  have hb := S.2.1
  have hl : lv_has ls 3 [(0, .ref a0), (1, .int a1), (2, .int a2)] := hl
  have hnm : meth.name = "<init>" := hnm
  unfold cm_X9_init at h
  refine lv_aload_n hx hb dX9_init_0 rfl (lv_at hl 0 rfl) ?_
  refine z_null rfl hx hb dX9_init_1 ?_
  refine z_null rfl hx hb dX9_init_2 ?_
  refine lv_iconst (v := 0) hx hb dX9_init_3 (by decide) ?_
  refine lv_iconst (v := 0) hx hb dX9_init_4 (by decide) ?_
  obtain ⟨Z_3, h_1, h⟩ := bnd_some h
  refine d_callI (As := [va_rf none, va_rf none, .int 0, .int 0]) (rest := []) S hW (metJ12_init_3 h_1) (cwJ12_init_3_I S.2.2.2.2 q947 ⟨Nat.le_of_ble_eq_true rfl, Nat.le_of_ble_eq_true rfl⟩) rfl hl.1 rfl (Nat.le_of_ble_eq_true rfl) dX9_init_5 ⟨(Nat.le_of_ble_eq_true rfl), (Nat.le_of_ble_eq_true rfl)⟩ rfl (fun H locs hW => ?_)
  refine lv_aload_n hx hb dX9_init_8 rfl (lv_at hl 0 rfl) ?_
  refine lv_iload_n hx hb dX9_init_9 rfl (lv_at hl 1 rfl) ?_
  refine zw_putI S hW zC_X9 (i := 6) (by decide) (Or.inr ⟨rfl, hnm, rfl, q953⟩) rfl rfl rfl (Or.inl q953) (fun _ h => h) dX9_init_10 h (fun Z_4 h H locs hW => ?_)
  refine lv_aload_n hx hb dX9_init_13 rfl (lv_at hl 0 rfl) ?_
  refine lv_iload_n hx hb dX9_init_14 rfl (lv_at hl 2 rfl) ?_
  refine zw_putI S hW zC_X9 (i := 7) (by decide) (Or.inr ⟨rfl, hnm, rfl, q955⟩) rfl rfl rfl (Or.inl q955) (fun _ h => h) dX9_init_15 h (fun Z_5 h H locs hW => ?_)
  cases h
  exact d_vret S hr hlk hW (Nat.le_of_ble_eq_true rfl) (Nat.le_of_ble_eq_true rfl) dX9_init_18
def cm_J3_checkIndex (a0 : Int32) (a1 : Int32) : Option (Int32) :=
  bnd (cm_J4_checkIndex a0 a1 none) (fun x_3 => some x_3)
abbrev rmJ3_checkIndex : Room := rmD 1 22 0 0
theorem cwJ4_checkIndex_S {own : String} {R : Room} {s : State} {args : Array Value} {index : Nat} (hts : ∀ w ∈ lw_all, w.before args s = true) (hl : Cond.methodLink own index yJ4_checkIndex ∈ lw_all) (hR : rmJ4_checkIndex.frames + 1 ≤ R.frames ∧ 8 + (3 + 11) + rmJ4_checkIndex.locals ≤ R.locals) : CallB R s args own index yJ4_checkIndex cJ4_checkIndex 3 (some .int) (ws_ yJ4_checkIndex cJ4_checkIndex 3 (some .int)) rmJ4_checkIndex 0 0 3 ∧ (Cond.static yJ4_checkIndex).before args s = true := va_cwS 3 hts (lw_S hl q518 q114 q519) rfl rfl rfl (by decide +kernel) hR
set_option maxHeartbeats 4000000 in
theorem metJ3_checkIndex {l : Launch} {gp : Nat → Nat} {D : va_G} {K : Nat → ClassId} {Z0 : c_S} {a0 : Int32} {a1 : Int32} {r : Int32} (h : cm_J3_checkIndex a0 a1 = some r) : Met l yJ3_checkIndex (ws_ yJ3_checkIndex cJ3_checkIndex 2 (some .int)) rmJ3_checkIndex (z_Pc gp [.int a0, .int a1] D K Z0) (z_Q (.returned (some (.int r))) D K (z_A Z0) Z0) 0 0 (z_A Z0) := by
  refine d_met rfl (Nat.le_of_ble_eq_true rfl) ?_
  intro p e s m below meth c ls S hr hlk hnm hl hW hsz
  have S : CallFix p m c cJ3_checkIndex 2 s ([.int a0, .int a1] : List Value).toArray lw_all RJ3 := S
  have hx := S.1
  have hb := S.2.1
  have hl : lv_has ls 2 [(0, .int a0), (1, .int a1)] := hl
  have hnm : meth.name = "checkIndex" := hnm
  unfold cm_J3_checkIndex at h
  refine lv_iload_n hx hb dJ3_checkIndex_0 rfl (lv_at hl 0 rfl) ?_
  refine lv_iload_n hx hb dJ3_checkIndex_1 rfl (lv_at hl 1 rfl) ?_
  refine z_null rfl hx hb dJ3_checkIndex_2 ?_
  obtain ⟨x_3, h_1, h⟩ := bnd_some h
  refine d_callS (As := [.int a0, .int a1, va_rf none]) (rest := []) S hW (metJ4_checkIndex h_1) (cwJ4_checkIndex_S S.2.2.2.2 q517 ⟨Nat.le_of_ble_eq_true rfl, Nat.le_of_ble_eq_true rfl⟩) rfl hl.1 rfl (Nat.le_of_ble_eq_true rfl) dJ3_checkIndex_3 ⟨(Nat.le_of_ble_eq_true rfl), (Nat.le_of_ble_eq_true rfl)⟩ rfl (fun H locs hW => ?_)
  cases h
  exact d_iret S hr hlk hW (Nat.le_of_ble_eq_true rfl) (Nat.le_of_ble_eq_true rfl) dJ3_checkIndex_6
def cm_J7_copyOf (gp : Nat → Nat) (Z0 : c_S) (a0 : Nat) (a1 : Int32) : Option ((Option Nat) × c_S) :=
  zGc gp Z0 a0 fun _ => bnd (cm_J7_copyOf_2 gp Z0 a0 a1 (gp 200)) (un2 fun o_3 Z_4 => some (o_3, Z_4))
abbrev rmJ7_copyOf : Room := rmD 2 83 1 19
theorem cwJ7_copyOf_2_S {own : String} {R : Room} {s : State} {args : Array Value} {index : Nat} (hts : ∀ w ∈ lw_all, w.before args s = true) (hl : Cond.methodLink own index yJ7_copyOf_2 ∈ lw_all) (hR : rmJ7_copyOf_2.frames + 1 ≤ R.frames ∧ 8 + (4 + 11) + rmJ7_copyOf_2.locals ≤ R.locals) : CallB R s args own index yJ7_copyOf_2 cJ7_copyOf_2 4 (some (.array (.object "java/lang/Object"))) (ws_ yJ7_copyOf_2 cJ7_copyOf_2 4 (some (.array (.object "java/lang/Object")))) rmJ7_copyOf_2 1 19 3 ∧ (Cond.static yJ7_copyOf_2).before args s = true := va_cwS 3 hts (lw_S hl q628 q118 q629) rfl rfl rfl (by decide +kernel) hR
set_option maxHeartbeats 4000000 in
theorem metJ7_copyOf {l : Launch} {gp : Nat → Nat} {D : va_G} {K : Nat → ClassId} {Z0 : c_S} {a0 : Nat} {a1 : Int32} {r : Option Nat} {Z' : c_S} (h : cm_J7_copyOf gp Z0 a0 a1 = some (r, Z')) : Met l yJ7_copyOf (ws_ yJ7_copyOf cJ7_copyOf 2 (some (.array (.object "java/lang/Object")))) rmJ7_copyOf (z_Pc gp [.ref a0, .int a1] D K Z0) (z_Q (.returned (some (va_rf r))) D K (z_A Z0) Z') 1 19 (z_A Z0) := by
  refine d_met rfl (Nat.le_of_ble_eq_true rfl) ?_
  intro p e s m below meth c ls S hr hlk hnm hl hW hsz
  have S : CallFix p m c cJ7_copyOf 2 s ([.ref a0, .int a1] : List Value).toArray lw_all RJ7 := S
  have hx := S.1
  have hb := S.2.1
  have hl : lv_has ls 2 [(0, .ref a0), (1, .int a1)] := hl
  have hnm : meth.name = "copyOf" := hnm
  unfold cm_J7_copyOf at h
  refine lv_aload_n hx hb dJ7_copyOf_0 rfl (lv_at hl 0 rfl) ?_
  refine lv_iload_n hx hb dJ7_copyOf_1 rfl (lv_at hl 1 rfl) ?_
  refine lv_aload_n hx hb dJ7_copyOf_2 rfl (lv_at hl 0 rfl) ?_
  refine zw_getC S hW q604 hl.1 (Nat.le_of_ble_eq_true rfl) (z_ro (Nat.le_of_ble_eq_true rfl)) (Nat.le_of_ble_eq_true rfl) dJ7_copyOf_3 h (fun h => ?_)
  obtain ⟨o_3, Z_4, h_1, h⟩ := bnd2_some h
  refine d_callS (As := [.ref a0, .int a1, .ref (gp 200)]) (rest := []) S hW (metJ7_copyOf_2 h_1) (cwJ7_copyOf_2_S S.2.2.2.2 q627 ⟨Nat.le_of_ble_eq_true rfl, Nat.le_of_ble_eq_true rfl⟩) rfl hl.1 rfl (Nat.le_of_ble_eq_true rfl) dJ7_copyOf_6 ⟨(Nat.le_of_ble_eq_true rfl), (Nat.le_of_ble_eq_true rfl)⟩ rfl (fun H locs hW => ?_)
  cases h
  exact d_aret S hr (Or.inr ⟨_, rfl⟩) hlk hW (Nat.le_of_ble_eq_true rfl) (Nat.le_of_ble_eq_true rfl) dJ7_copyOf_9
def cm_X0_isSlot (a0 : Int32) : Option (Int32) :=
  bnd (cm_X0_in a0.toInt64 0 3) (fun x_3 => okI (isB x_3) <| some x_3)
abbrev rmX0_isSlot : Room := rmD 1 25 0 0
set_option maxHeartbeats 4000000 in
theorem metX0_isSlot {l : Launch} {gp : Nat → Nat} {D : va_G} {K : Nat → ClassId} {Z0 : c_S} {a0 : Int32} {r : Int32} (h : cm_X0_isSlot a0 = some r) : Met l yX0_isSlot (ws_ yX0_isSlot cX0_isSlot 1 (some .boolean)) rmX0_isSlot (z_Pc gp [.int a0] D K Z0) (z_Q (.returned (some (.int r))) D K (z_A Z0) Z0) 0 0 (z_A Z0) := by
  refine d_met rfl (Nat.le_of_ble_eq_true rfl) ?_
  intro p e s m below meth c ls S hr hlk hnm hl hW hsz
  have S : CallFix p m c cX0_isSlot 1 s ([.int a0] : List Value).toArray lw_all RX0 := S
  have hx := S.1
  have hb := S.2.1
  have hl : lv_has ls 1 [(0, .int a0)] := hl
  have hnm : meth.name = "isSlot" := hnm
  unfold cm_X0_isSlot at h
  refine lv_iload_n hx hb dX0_isSlot_0 rfl (lv_at hl 0 rfl) ?_
  refine lv_i2l (v := a0.toInt64) hx hb dX0_isSlot_1 rfl ?_
  refine lv_lconst (v := 0) hx hb dX0_isSlot_2 (by decide) ?_
  refine lv_ldc2 (v := 3) hx hb S.2.2.2.1 (S.2.2.2.2 _ q148) dX0_isSlot_3 ?_
  obtain ⟨x_3, h_1, h⟩ := bnd_some h
  refine d_callS (As := [.long a0.toInt64, .long 0, .long 3]) (rest := []) S hW (metX0_in h_1) (cwX0_in_S S.2.2.2.2 q149 ⟨Nat.le_of_ble_eq_true rfl, Nat.le_of_ble_eq_true rfl⟩) rfl hl.1 rfl (Nat.le_of_ble_eq_true rfl) dX0_isSlot_6 ⟨(Nat.le_of_ble_eq_true rfl), (Nat.le_of_ble_eq_true rfl)⟩ rfl (fun H locs hW => ?_)
  obtain ⟨h_4, h⟩ := okI_some h
  cases h
  exact d_zret S hr hlk (isB_narrow h_4) hW (Nat.le_of_ble_eq_true rfl) (Nat.le_of_ble_eq_true rfl) dX0_isSlot_9
def cm_X0_feed (Z0 : c_S) (a0 : Nat) (a1 : Int32) (a2 : Int32) (a3 : Int32) (a4 : Int32) (a5 : Int32) : Option (Int32 × c_S) :=
  cI Z0.Sh Z0.V a0 0 11 5 fun x_1 => if (x_1 + 20) ≤ 700 then (zK Z0 a0 0 11 <| bnd (cm_X0_puts Z0 a0 a1) (fun Z_6 => zK Z_6 a0 0 11 <| bnd (cm_X0_puts Z_6 a0 a2) (fun Z_10 => zK Z_10 a0 0 11 <| bnd (cm_X0_puts Z_10 a0 a3) (fun Z_14 => zK Z_14 a0 0 11 <| bnd (cm_X0_puts Z_14 a0 a4) (fun Z_18 => zK Z_18 a0 0 11 <| bnd (cm_X0_puts Z_18 a0 a5) (fun Z_22 => cI Z_22.Sh Z_22.V a0 0 11 5 fun x_23 => some (x_23, Z_22))))))) else (some ((-1), Z0))
abbrev rmX0_feed : Room := rmD 1 22 0 0
theorem cwX0_puts_V {own : String} {R : Room} {s : State} {args : Array Value} {index : Nat} (hts : ∀ w ∈ lw_all, w.before args s = true) (hl : Cond.methodLink own index yX0_puts ∈ lw_all) (hR : rmX0_puts.frames + 1 ≤ R.frames ∧ 8 + (3 + 11) + rmX0_puts.locals ≤ R.locals) : CallW R s args own RX0 index yX0_puts cX0_puts 3 (none) (ws_ yX0_puts cX0_puts 3 (none)) rmX0_puts 0 0 1 := cwV 1 hts (lw_V hl q795 qs8 q105 q796) rfl rfl rfl (by decide +kernel) hR
set_option maxHeartbeats 4000000 in
theorem metX0_feed {l : Launch} {gp : Nat → Nat} {D : va_G} {K : Nat → ClassId} {Z0 : c_S} {a0 : Nat} {a1 : Int32} {a2 : Int32} {a3 : Int32} {a4 : Int32} {a5 : Int32} {r : Int32} {Z' : c_S} (h : cm_X0_feed Z0 a0 a1 a2 a3 a4 a5 = some (r, Z')) : Met l yX0_feed (ws_ yX0_feed cX0_feed 6 (some .int)) rmX0_feed (z_Pc gp [.ref a0, .int a1, .int a2, .int a3, .int a4, .int a5] D K Z0) (z_Q (.returned (some (.int r))) D K (z_A Z0) Z') 0 0 (z_A Z0) := by
  refine d_met rfl (Nat.le_of_ble_eq_true rfl) ?_
  intro p e s m below meth c ls S hr hlk hnm hl hW hsz
  have S : CallFix p m c cX0_feed 6 s ([.ref a0, .int a1, .int a2, .int a3, .int a4, .int a5] : List Value).toArray lw_all RX0 := S
  have hx := S.1
  have hb := S.2.1
  have hl : lv_has ls 6 [(0, .ref a0), (1, .int a1), (2, .int a2), (3, .int a3), (4, .int a4), (5, .int a5)] := hl
  have hnm : meth.name = "feed" := hnm
  unfold cm_X0_feed at h
  refine lv_aload_n hx hb dX0_feed_0 rfl (lv_at hl 0 rfl) ?_
  refine zw_getI S hW zC_X0 (i := 5) (by decide) (Or.inl q760) (fun _ h => h) dX0_feed_1 h (fun x_1 h => ?_)
  refine lv_bipush (v := 20) hx hb dX0_feed_4 (by decide) ?_
  refine lv_iadd hx hb dX0_feed_6 ?_
  refine lv_sipush (v := 700) hx hb dX0_feed_7 (by decide) ?_
  refine lv_icmp_le (tgt := 15) hx hb dX0_feed_10 (by decide) (fun c_2 => ?_) (fun c_2 => ?_)
  · have h := if_t h c_2
    refine lv_aload_n hx hb dX0_feed_15 rfl (lv_at hl 0 rfl) ?_
    refine lv_iload_n hx hb dX0_feed_16 rfl (lv_at hl 1 rfl) ?_
    obtain ⟨⟨_, k_3⟩, h⟩ := zK_some h
    obtain ⟨Z_6, h_4, h⟩ := bnd_some h
    refine d_callV (As := [.int a1]) (rest := []) S hW (metX0_puts h_4) (cwX0_puts_V S.2.2.2.2 q793 ⟨Nat.le_of_ble_eq_true rfl, Nat.le_of_ble_eq_true rfl⟩) k_3 rfl rfl hl.1 rfl (Nat.le_of_ble_eq_true rfl) dX0_feed_17 ⟨(Nat.le_of_ble_eq_true rfl), (Nat.le_of_ble_eq_true rfl)⟩ rfl (fun H locs hW => ?_)
    refine lv_aload_n hx hb dX0_feed_20 rfl (lv_at hl 0 rfl) ?_
    refine lv_iload_n hx hb dX0_feed_21 rfl (lv_at hl 2 rfl) ?_
    obtain ⟨⟨_, k_7⟩, h⟩ := zK_some h
    obtain ⟨Z_10, h_8, h⟩ := bnd_some h
    refine d_callV (As := [.int a2]) (rest := []) S hW (metX0_puts h_8) (cwX0_puts_V S.2.2.2.2 q793 ⟨Nat.le_of_ble_eq_true rfl, Nat.le_of_ble_eq_true rfl⟩) k_7 rfl rfl hl.1 rfl (Nat.le_of_ble_eq_true rfl) dX0_feed_22 ⟨(Nat.le_of_ble_eq_true rfl), (Nat.le_of_ble_eq_true rfl)⟩ rfl (fun H locs hW => ?_)
    refine lv_aload_n hx hb dX0_feed_25 rfl (lv_at hl 0 rfl) ?_
    refine lv_iload_n hx hb dX0_feed_26 rfl (lv_at hl 3 rfl) ?_
    obtain ⟨⟨_, k_11⟩, h⟩ := zK_some h
    obtain ⟨Z_14, h_12, h⟩ := bnd_some h
    refine d_callV (As := [.int a3]) (rest := []) S hW (metX0_puts h_12) (cwX0_puts_V S.2.2.2.2 q793 ⟨Nat.le_of_ble_eq_true rfl, Nat.le_of_ble_eq_true rfl⟩) k_11 rfl rfl hl.1 rfl (Nat.le_of_ble_eq_true rfl) dX0_feed_27 ⟨(Nat.le_of_ble_eq_true rfl), (Nat.le_of_ble_eq_true rfl)⟩ rfl (fun H locs hW => ?_)
    refine lv_aload_n hx hb dX0_feed_30 rfl (lv_at hl 0 rfl) ?_
    refine lv_iload hx hb dX0_feed_31 (lv_at hl 4 rfl) ?_
    obtain ⟨⟨_, k_15⟩, h⟩ := zK_some h
    obtain ⟨Z_18, h_16, h⟩ := bnd_some h
    refine d_callV (As := [.int a4]) (rest := []) S hW (metX0_puts h_16) (cwX0_puts_V S.2.2.2.2 q793 ⟨Nat.le_of_ble_eq_true rfl, Nat.le_of_ble_eq_true rfl⟩) k_15 rfl rfl hl.1 rfl (Nat.le_of_ble_eq_true rfl) dX0_feed_33 ⟨(Nat.le_of_ble_eq_true rfl), (Nat.le_of_ble_eq_true rfl)⟩ rfl (fun H locs hW => ?_)
    refine lv_aload_n hx hb dX0_feed_36 rfl (lv_at hl 0 rfl) ?_
    refine lv_iload hx hb dX0_feed_37 (lv_at hl 5 rfl) ?_
    obtain ⟨⟨_, k_19⟩, h⟩ := zK_some h
    obtain ⟨Z_22, h_20, h⟩ := bnd_some h
    refine d_callV (As := [.int a5]) (rest := []) S hW (metX0_puts h_20) (cwX0_puts_V S.2.2.2.2 q793 ⟨Nat.le_of_ble_eq_true rfl, Nat.le_of_ble_eq_true rfl⟩) k_19 rfl rfl hl.1 rfl (Nat.le_of_ble_eq_true rfl) dX0_feed_39 ⟨(Nat.le_of_ble_eq_true rfl), (Nat.le_of_ble_eq_true rfl)⟩ rfl (fun H locs hW => ?_)
    refine lv_aload_n hx hb dX0_feed_42 rfl (lv_at hl 0 rfl) ?_
    refine zw_getI S hW zC_X0 (i := 5) (by decide) (Or.inl q760) (fun _ h => h) dX0_feed_43 h (fun x_23 h => ?_)
    cases h
    exact d_iret S hr hlk hW (Nat.le_of_ble_eq_true rfl) (Nat.le_of_ble_eq_true rfl) dX0_feed_46
  · have h := if_f h c_2
    refine lv_iconst (v := (-1)) hx hb dX0_feed_13 (by decide) ?_
    cases h
    exact d_iret S hr hlk hW (Nat.le_of_ble_eq_true rfl) (Nat.le_of_ble_eq_true rfl) dX0_feed_14
def cm_X0_heat (Z0 : c_S) (a0 : Nat) (a1 : Int32) : Option (Int32) :=
  if a1 = 0 then (cA Z0.Sh a0 0 11 1 fun a_2 => zK Z0 a_2 1 20 <| bnd (cm_X1_heat Z0 a_2) (fun x_6 => some x_6)) else (if a1 = 1 then (cA Z0.Sh a0 0 11 1 fun a_8 => cI Z0.Sh Z0.V a_8 1 20 11 fun x_9 => some x_9) else (if a1 = 2 then (cA Z0.Sh a0 0 11 1 fun a_11 => cI Z0.Sh Z0.V a_11 1 20 12 fun x_12 => some x_12) else (if a1 = 3 then (cA Z0.Sh a0 0 11 1 fun a_14 => cI Z0.Sh Z0.V a_14 1 20 13 fun x_15 => some x_15) else (if a1 = 4 then (cA Z0.Sh a0 0 11 1 fun a_17 => cI Z0.Sh Z0.V a_17 1 20 14 fun x_18 => some x_18) else (if a1 = 5 then (cA Z0.Sh a0 0 11 1 fun a_20 => cI Z0.Sh Z0.V a_20 1 20 15 fun x_21 => some x_21) else (some (-2000000000)))))))
abbrev rmX0_heat : Room := rmD 1 22 0 0
theorem cwX1_heat_V {own : String} {R : Room} {s : State} {args : Array Value} {index : Nat} (hts : ∀ w ∈ lw_all, w.before args s = true) (hl : Cond.methodLink own index yX1_heat ∈ lw_all) (hR : rmX1_heat.frames + 1 ≤ R.frames ∧ 8 + (3 + 11) + rmX1_heat.locals ≤ R.locals) : CallW R s args own RX1 index yX1_heat cX1_heat 3 (some .int) (ws_ yX1_heat cX1_heat 3 (some .int)) rmX1_heat 0 0 0 := cwV 0 hts (lw_V hl q1202 q1203 q106 q1204) rfl rfl rfl (by decide +kernel) hR
set_option maxHeartbeats 4000000 in
theorem metX0_heat {l : Launch} {gp : Nat → Nat} {D : va_G} {K : Nat → ClassId} {Z0 : c_S} {a0 : Nat} {a1 : Int32} {r : Int32} (h : cm_X0_heat Z0 a0 a1 = some r) : Met l yX0_heat (ws_ yX0_heat cX0_heat 2 (some .int)) rmX0_heat (z_Pc gp [.ref a0, .int a1] D K Z0) (z_Q (.returned (some (.int r))) D K (z_A Z0) Z0) 0 0 (z_A Z0) := by
  refine d_met rfl (Nat.le_of_ble_eq_true rfl) ?_
  intro p e s m below meth c ls S hr hlk hnm hl hW hsz
  have S : CallFix p m c cX0_heat 2 s ([.ref a0, .int a1] : List Value).toArray lw_all RX0 := S
  have hx := S.1
  have hb := S.2.1
  have hl : lv_has ls 2 [(0, .ref a0), (1, .int a1)] := hl
  have hnm : meth.name = "heat" := hnm
  unfold cm_X0_heat at h
  refine lv_iload_n hx hb dX0_heat_0 rfl (lv_at hl 1 rfl) ?_
  by_cases c_1 : a1 = 0
  · have h := if_t h c_1
    refine lv_tableIn (off := 39) (tgt := 40) hx hb dX0_heat_1 (by rw [c_1]; decide) (by rw [c_1]; decide) (by rw [c_1]; decide) (by decide) ?_
    refine lv_aload_n hx hb dX0_heat_40 rfl (lv_at hl 0 rfl) ?_
    refine zw_getA S hW zC_X0 (i := 1) (by decide) (Or.inl q756) (fun _ h => h) dX0_heat_41 h (fun a_2 h => ?_)
    obtain ⟨⟨_, k_3⟩, h⟩ := zK_some h
    obtain ⟨x_6, h_4, h⟩ := bnd_some h
    refine d_callV (As := []) (rest := []) S hW (metX1_heat h_4) (cwX1_heat_V S.2.2.2.2 q1201 ⟨Nat.le_of_ble_eq_true rfl, Nat.le_of_ble_eq_true rfl⟩) k_3 rfl rfl hl.1 rfl (Nat.le_of_ble_eq_true rfl) dX0_heat_44 ⟨(Nat.le_of_ble_eq_true rfl), (Nat.le_of_ble_eq_true rfl)⟩ rfl (fun H locs hW => ?_)
    cases h
    exact d_iret S hr hlk hW (Nat.le_of_ble_eq_true rfl) (Nat.le_of_ble_eq_true rfl) dX0_heat_47
  have h := if_f h c_1
  by_cases c_7 : a1 = 1
  · have h := if_t h c_7
    refine lv_tableIn (off := 47) (tgt := 48) hx hb dX0_heat_1 (by rw [c_7]; decide) (by rw [c_7]; decide) (by rw [c_7]; decide) (by decide) ?_
    refine lv_aload_n hx hb dX0_heat_48 rfl (lv_at hl 0 rfl) ?_
    refine zw_getA S hW zC_X0 (i := 1) (by decide) (Or.inl q756) (fun _ h => h) dX0_heat_49 h (fun a_8 h => ?_)
    refine zw_getI S hW zC_X1 (i := 11) (by decide) (Or.inr ⟨_, nestW_in q688 rfl⟩) (fun _ h => h) dX0_heat_52 h (fun x_9 h => ?_)
    cases h
    exact d_iret S hr hlk hW (Nat.le_of_ble_eq_true rfl) (Nat.le_of_ble_eq_true rfl) dX0_heat_55
  have h := if_f h c_7
  by_cases c_10 : a1 = 2
  · have h := if_t h c_10
    refine lv_tableIn (off := 55) (tgt := 56) hx hb dX0_heat_1 (by rw [c_10]; decide) (by rw [c_10]; decide) (by rw [c_10]; decide) (by decide) ?_
    refine lv_aload_n hx hb dX0_heat_56 rfl (lv_at hl 0 rfl) ?_
    refine zw_getA S hW zC_X0 (i := 1) (by decide) (Or.inl q756) (fun _ h => h) dX0_heat_57 h (fun a_11 h => ?_)
    refine zw_getI S hW zC_X1 (i := 12) (by decide) (Or.inr ⟨_, nestW_in q690 rfl⟩) (fun _ h => h) dX0_heat_60 h (fun x_12 h => ?_)
    cases h
    exact d_iret S hr hlk hW (Nat.le_of_ble_eq_true rfl) (Nat.le_of_ble_eq_true rfl) dX0_heat_63
  have h := if_f h c_10
  by_cases c_13 : a1 = 3
  · have h := if_t h c_13
    refine lv_tableIn (off := 63) (tgt := 64) hx hb dX0_heat_1 (by rw [c_13]; decide) (by rw [c_13]; decide) (by rw [c_13]; decide) (by decide) ?_
    refine lv_aload_n hx hb dX0_heat_64 rfl (lv_at hl 0 rfl) ?_
    refine zw_getA S hW zC_X0 (i := 1) (by decide) (Or.inl q756) (fun _ h => h) dX0_heat_65 h (fun a_14 h => ?_)
    refine zw_getI S hW zC_X1 (i := 13) (by decide) (Or.inr ⟨_, nestW_in q692 rfl⟩) (fun _ h => h) dX0_heat_68 h (fun x_15 h => ?_)
    cases h
    exact d_iret S hr hlk hW (Nat.le_of_ble_eq_true rfl) (Nat.le_of_ble_eq_true rfl) dX0_heat_71
  have h := if_f h c_13
  by_cases c_16 : a1 = 4
  · have h := if_t h c_16
    refine lv_tableIn (off := 71) (tgt := 72) hx hb dX0_heat_1 (by rw [c_16]; decide) (by rw [c_16]; decide) (by rw [c_16]; decide) (by decide) ?_
    refine lv_aload_n hx hb dX0_heat_72 rfl (lv_at hl 0 rfl) ?_
    refine zw_getA S hW zC_X0 (i := 1) (by decide) (Or.inl q756) (fun _ h => h) dX0_heat_73 h (fun a_17 h => ?_)
    refine zw_getI S hW zC_X1 (i := 14) (by decide) (Or.inr ⟨_, nestW_in q694 rfl⟩) (fun _ h => h) dX0_heat_76 h (fun x_18 h => ?_)
    cases h
    exact d_iret S hr hlk hW (Nat.le_of_ble_eq_true rfl) (Nat.le_of_ble_eq_true rfl) dX0_heat_79
  have h := if_f h c_16
  by_cases c_19 : a1 = 5
  · have h := if_t h c_19
    refine lv_tableIn (off := 79) (tgt := 80) hx hb dX0_heat_1 (by rw [c_19]; decide) (by rw [c_19]; decide) (by rw [c_19]; decide) (by decide) ?_
    refine lv_aload_n hx hb dX0_heat_80 rfl (lv_at hl 0 rfl) ?_
    refine zw_getA S hW zC_X0 (i := 1) (by decide) (Or.inl q756) (fun _ h => h) dX0_heat_81 h (fun a_20 h => ?_)
    refine zw_getI S hW zC_X1 (i := 15) (by decide) (Or.inr ⟨_, nestW_in q696 rfl⟩) (fun _ h => h) dX0_heat_84 h (fun x_21 h => ?_)
    cases h
    exact d_iret S hr hlk hW (Nat.le_of_ble_eq_true rfl) (Nat.le_of_ble_eq_true rfl) dX0_heat_87
  have h := if_f h c_19
  have c_1 := lv_neT (a := 0) c_1 (by decide)
  have c_7 := lv_neT (a := 1) c_7 (by decide)
  have c_10 := lv_neT (a := 2) c_10 (by decide)
  have c_13 := lv_neT (a := 3) c_13 (by decide)
  have c_16 := lv_neT (a := 4) c_16 (by decide)
  have c_19 := lv_neT (a := 5) c_19 (by decide)
  refine lv_tableOut (tgt := 88) hx hb dX0_heat_1 (by omega) (by decide) ?_
  refine lv_ldc (v := (-2000000000)) hx hb S.2.2.2.1 (S.2.2.2.2 _ q1185) dX0_heat_88 ?_
  cases h
  exact d_iret S hr hlk hW (Nat.le_of_ble_eq_true rfl) (Nat.le_of_ble_eq_true rfl) dX0_heat_90
def cm_X0_hasShaft (Z0 : c_S) (a0 : Nat) : Option (Int32) :=
  cA Z0.Sh a0 0 11 1 fun a_1 => cA Z0.Sh a_1 1 20 0 fun a_2 => zK Z0 a_2 2 13 <| bnd (cm_X2_hasShaft Z0 a_2) (fun x_6 => okI (isB x_6) <| some x_6)
abbrev rmX0_hasShaft : Room := rmD 1 20 0 0
set_option maxHeartbeats 4000000 in
theorem metX0_hasShaft {l : Launch} {gp : Nat → Nat} {D : va_G} {K : Nat → ClassId} {Z0 : c_S} {a0 : Nat} {r : Int32} (h : cm_X0_hasShaft Z0 a0 = some r) : Met l yX0_hasShaft (ws_ yX0_hasShaft cX0_hasShaft 1 (some .boolean)) rmX0_hasShaft (z_Pc gp [.ref a0] D K Z0) (z_Q (.returned (some (.int r))) D K (z_A Z0) Z0) 0 0 (z_A Z0) := by
  refine d_met rfl (Nat.le_of_ble_eq_true rfl) ?_
  intro p e s m below meth c ls S hr hlk hnm hl hW hsz
  have S : CallFix p m c cX0_hasShaft 1 s ([.ref a0] : List Value).toArray lw_all RX0 := S
  have hx := S.1
  have hb := S.2.1
  have hl : lv_has ls 1 [(0, .ref a0)] := hl
  have hnm : meth.name = "hasShaft" := hnm
  unfold cm_X0_hasShaft at h
  refine lv_aload_n hx hb dX0_hasShaft_0 rfl (lv_at hl 0 rfl) ?_
  refine zw_getA S hW zC_X0 (i := 1) (by decide) (Or.inl q756) (fun _ h => h) dX0_hasShaft_1 h (fun a_1 h => ?_)
  refine zw_getA S hW zC_X1 (i := 0) (by decide) (Or.inr ⟨_, nestW_in q667 rfl⟩) (fun _ h => h) dX0_hasShaft_4 h (fun a_2 h => ?_)
  obtain ⟨⟨_, k_3⟩, h⟩ := zK_some h
  obtain ⟨x_6, h_4, h⟩ := bnd_some h
  refine d_callV (As := []) (rest := []) S hW (metX2_hasShaft h_4) (cwX2_hasShaft_V S.2.2.2.2 q1230 ⟨Nat.le_of_ble_eq_true rfl, Nat.le_of_ble_eq_true rfl⟩) k_3 rfl rfl hl.1 rfl (Nat.le_of_ble_eq_true rfl) dX0_hasShaft_7 ⟨(Nat.le_of_ble_eq_true rfl), (Nat.le_of_ble_eq_true rfl)⟩ rfl (fun H locs hW => ?_)
  obtain ⟨h_7, h⟩ := okI_some h
  cases h
  exact d_zret S hr hlk (isB_narrow h_7) hW (Nat.le_of_ble_eq_true rfl) (Nat.le_of_ble_eq_true rfl) dX0_hasShaft_10
def cm_X0_greatestLift_B4 (x0 : Nat) (Z : c_S) (rec : Int32 → Int32 → Option (Int32)) (x1 : Int32) (x2 : Int32) : Option (Int32) :=
  if 12 ≤ x2 then (some x1) else (cA Z.Sh x0 0 11 1 fun a_2 => zK Z a_2 1 20 <| bnd (cm_X1_lift Z a_2 x2) (fun x_6 => nmI (if x1 < x_6 then x_6 else x1) fun x_7 => nmI (x2 + 1) fun x_9 => rec x_7 x_9))
abbrev cm_X0_greatestLift_F4 (x0 : Nat) (Z : c_S) : (((Int32) × (Int32)) → Option (Int32)) → ((Int32) × (Int32)) → Option (Int32) := fun rec s => cm_X0_greatestLift_B4 x0 Z (fun x1 x2 => rec (x1, x2)) s.1 s.2
def cm_X0_greatestLift_L4 (x0 : Nat) (Z : c_S) (n : Nat) (x1 : Int32) (x2 : Int32) : Option (Int32) := lp (cm_X0_greatestLift_F4 x0 Z) n (x1, x2)
theorem cm_X0_greatestLift_L4_s (x0 : Nat) (Z : c_S) (n : Nat) (x1 : Int32) (x2 : Int32) : cm_X0_greatestLift_L4 x0 Z (n + 1) x1 x2 = cm_X0_greatestLift_B4 x0 Z (fun x1 x2 => cm_X0_greatestLift_L4 x0 Z n x1 x2) x1 x2 := lp_s (cm_X0_greatestLift_F4 x0 Z) n (x1, x2)
def cm_X0_greatestLift (Z0 : c_S) (a0 : Nat) : Option (Int32) :=
  bnd (cm_X0_greatestLift_L4 a0 Z0 1000 0 0) (fun x_13 => some x_13)
abbrev rmX0_greatestLift : Room := rmD 1 23 0 0
theorem cwX1_lift_V {own : String} {R : Room} {s : State} {args : Array Value} {index : Nat} (hts : ∀ w ∈ lw_all, w.before args s = true) (hl : Cond.methodLink own index yX1_lift ∈ lw_all) (hR : rmX1_lift.frames + 1 ≤ R.frames ∧ 8 + (4 + 11) + rmX1_lift.locals ≤ R.locals) : CallW R s args own RX1 index yX1_lift cX1_lift 4 (some .int) (ws_ yX1_lift cX1_lift 4 (some .int)) rmX1_lift 0 0 1 := cwV 1 hts (lw_V hl q1146 q1147 q106 q1148) rfl rfl rfl (by decide +kernel) hR
set_option maxHeartbeats 4000000 in
theorem metX0_greatestLift {l : Launch} {gp : Nat → Nat} {D : va_G} {K : Nat → ClassId} {Z0 : c_S} {a0 : Nat} {r : Int32} (h : cm_X0_greatestLift Z0 a0 = some r) : Met l yX0_greatestLift (ws_ yX0_greatestLift cX0_greatestLift 3 (some .int)) rmX0_greatestLift (z_Pc gp [.ref a0] D K Z0) (z_Q (.returned (some (.int r))) D K (z_A Z0) Z0) 0 0 (z_A Z0) := by
  refine d_met rfl (Nat.le_of_ble_eq_true rfl) ?_
  intro p e s m below meth c ls S hr hlk hnm hl hW hsz
  have S : CallFix p m c cX0_greatestLift 3 s ([.ref a0] : List Value).toArray lw_all RX0 := S
  have hx := S.1
  have hb := S.2.1
  have hl : lv_has ls 3 [(0, .ref a0)] := hl
  have hnm : meth.name = "greatestLift" := hnm
  have Lp4 : ∀ (x0 : Nat) (Z : c_S) (n : Nat) (x1 : Int32) (x2 : Int32) (out : (Int32)) (H : Heap) (locs : List Loc) (ls : Array Slot), cm_X0_greatestLift_L4 x0 Z n x1 x2 = some out → z_W gp D K (z_A Z0) s Z H locs → lv_has ls 3 [(0, .ref x0), (1, .int x1), (2, .int x2)] → (∀ (o1 : Int32), out = o1 → ∀ (H : Heap) (locs : List Loc) (ls : Array Slot), z_W gp D K (z_A Z0) s Z H locs → lv_has ls 3 [(1, .int o1)] → W p l e rmX0_greatestLift s m ([.ref a0] : List Value).toArray below meth c H locs 0 0 (MQ below (z_Q (.returned (some (.int r))) D K (z_A Z0) Z0) ([.ref a0] : List Value).toArray s 0 0 (z_A Z0)) (F0 m 29 ls [])) → W p l e rmX0_greatestLift s m ([.ref a0] : List Value).toArray below meth c H locs 0 0 (MQ below (z_Q (.returned (some (.int r))) D K (z_A Z0) Z0) ([.ref a0] : List Value).toArray s 0 0 (z_A Z0)) (F0 m 4 ls []) := by
    intro x0 Z n
    induction n with
    | zero =>
      intro x1 x2 out H locs ls h
      exact (lp_0 h).elim
    | succ n ih =>
      intro x1 x2 out H locs ls h hW hl k1
      rw [cm_X0_greatestLift_L4_s] at h
      unfold cm_X0_greatestLift_B4 at h
      refine lv_iload_n hx hb dX0_greatestLift_4 rfl (lv_at hl 2 rfl) ?_
      refine lv_bipush (v := 12) hx hb dX0_greatestLift_5 (by decide) ?_
      refine lv_icmp_ge (tgt := 29) hx hb dX0_greatestLift_7 (by decide) (fun c_1 => ?_) (fun c_1 => ?_)
      · have h := if_t h c_1
        exact k1 _ (Option.some.inj h).symm _ _ _ hW (lv_sub hl [1] rfl)
      · have h := if_f h c_1
        refine lv_iload_n hx hb dX0_greatestLift_10 rfl (lv_at hl 1 rfl) ?_
        refine lv_aload_n hx hb dX0_greatestLift_11 rfl (lv_at hl 0 rfl) ?_
        refine zw_getA S hW zC_X0 (i := 1) (by decide) (Or.inl q756) (fun _ h => h) dX0_greatestLift_12 h (fun a_2 h => ?_)
        refine lv_iload_n hx hb dX0_greatestLift_15 rfl (lv_at hl 2 rfl) ?_
        obtain ⟨⟨_, k_3⟩, h⟩ := zK_some h
        obtain ⟨x_6, h_4, h⟩ := bnd_some h
        refine d_callV (As := [.int x2]) (rest := [.int x1]) S hW (metX1_lift h_4) (cwX1_lift_V S.2.2.2.2 q1366 ⟨Nat.le_of_ble_eq_true rfl, Nat.le_of_ble_eq_true rfl⟩) k_3 rfl rfl hl.1 rfl (Nat.le_of_ble_eq_true rfl) dX0_greatestLift_16 ⟨(Nat.le_of_ble_eq_true rfl), (Nat.le_of_ble_eq_true rfl)⟩ rfl (fun H locs hW => ?_)
        refine va_mmax hx hb (S.2.2.1.trans hl.1.symm) S.2.2.2.1 (S.2.2.2.2 _ q1367) (S.2.2.2.2 _ q595) (S.2.2.2.2 _ q117) (S.2.2.2.2 _ mc_max) (Nat.le_of_ble_eq_true rfl) (zm_lo (z_ro (Nat.le_of_ble_eq_true rfl)) (Nat.le_of_ble_eq_true rfl)) (Nat.le_of_ble_eq_true rfl) (Nat.le_of_ble_eq_true rfl) dX0_greatestLift_19 ?_
        obtain ⟨x_7, e_8, h⟩ := nmI_some h
        refine g_nmi e_8 ?_
        refine lv_istore_n (lv' := [(1, .int x_7), (0, .ref x0), (2, .int x2)]) hx hb dX0_greatestLift_22 rfl hl (by decide) rfl (fun ls hl => ?_)
        obtain ⟨x_9, e_10, h⟩ := nmI_some h
        refine lv_iinc (v := x_9) (lv' := [(2, .int x_9), (1, .int x_7), (0, .ref x0)]) hx hb dX0_greatestLift_23 hl (k := 2) rfl (by rw [e_10]; rfl) (by decide) rfl (fun ls hl => ?_)
        refine lv_goto (tgt := 4) hx hb dX0_greatestLift_26 (by decide) ?_
        exact ih x_7 x_9 out _ _ _ h hW (lv_sub hl [2, 1, 0] rfl) k1
  unfold cm_X0_greatestLift at h
  refine lv_iconst (v := 0) hx hb dX0_greatestLift_0 (by decide) ?_
  refine lv_istore_n (lv' := [(1, .int 0), (0, .ref a0)]) hx hb dX0_greatestLift_1 rfl hl (by decide) rfl (fun ls hl => ?_)
  refine lv_iconst (v := 0) hx hb dX0_greatestLift_2 (by decide) ?_
  refine lv_istore_n (lv' := [(2, .int 0), (1, .int 0), (0, .ref a0)]) hx hb dX0_greatestLift_3 rfl hl (by decide) rfl (fun ls hl => ?_)
  obtain ⟨x_13, h_12, h⟩ := bnd_some h
  refine Lp4 a0 Z0 1000 0 0  _ _ _ _ h_12 hW (lv_sub hl [2, 1, 0] rfl) ?_
  intro w0 eo H locs ls hW hl
  subst eo
  refine lv_iload_n hx hb dX0_greatestLift_29 rfl (lv_at hl 0 rfl) ?_
  cases h
  exact d_iret S hr hlk hW (Nat.le_of_ble_eq_true rfl) (Nat.le_of_ble_eq_true rfl) dX0_greatestLift_30
def cm_X0_lift (Z0 : c_S) (a0 : Nat) (a1 : Int32) : Option (Int32) :=
  bnd (cm_X0_in a1.toInt64 0 11) (fun x_3 => if x_3 = 0 then (some (-2000000000)) else (cA Z0.Sh a0 0 11 1 fun a_5 => zK Z0 a_5 1 20 <| bnd (cm_X1_lift Z0 a_5 a1) (fun x_9 => some x_9)))
abbrev rmX0_lift : Room := rmD 1 25 0 0
set_option maxHeartbeats 4000000 in
theorem metX0_lift {l : Launch} {gp : Nat → Nat} {D : va_G} {K : Nat → ClassId} {Z0 : c_S} {a0 : Nat} {a1 : Int32} {r : Int32} (h : cm_X0_lift Z0 a0 a1 = some r) : Met l yX0_lift (ws_ yX0_lift cX0_lift 2 (some .int)) rmX0_lift (z_Pc gp [.ref a0, .int a1] D K Z0) (z_Q (.returned (some (.int r))) D K (z_A Z0) Z0) 0 0 (z_A Z0) := by
  refine d_met rfl (Nat.le_of_ble_eq_true rfl) ?_
  intro p e s m below meth c ls S hr hlk hnm hl hW hsz
  have S : CallFix p m c cX0_lift 2 s ([.ref a0, .int a1] : List Value).toArray lw_all RX0 := S
  have hx := S.1
  have hb := S.2.1
  have hl : lv_has ls 2 [(0, .ref a0), (1, .int a1)] := hl
  have hnm : meth.name = "lift" := hnm
  unfold cm_X0_lift at h
  refine lv_iload_n hx hb dX0_lift_0 rfl (lv_at hl 1 rfl) ?_
  refine lv_i2l (v := a1.toInt64) hx hb dX0_lift_1 rfl ?_
  refine lv_lconst (v := 0) hx hb dX0_lift_2 (by decide) ?_
  refine lv_ldc2 (v := 11) hx hb S.2.2.2.1 (S.2.2.2.2 _ q1184) dX0_lift_3 ?_
  obtain ⟨x_3, h_1, h⟩ := bnd_some h
  refine d_callS (As := [.long a1.toInt64, .long 0, .long 11]) (rest := []) S hW (metX0_in h_1) (cwX0_in_S S.2.2.2.2 q149 ⟨Nat.le_of_ble_eq_true rfl, Nat.le_of_ble_eq_true rfl⟩) rfl hl.1 rfl (Nat.le_of_ble_eq_true rfl) dX0_lift_6 ⟨(Nat.le_of_ble_eq_true rfl), (Nat.le_of_ble_eq_true rfl)⟩ rfl (fun H locs hW => ?_)
  refine lv_if_eq (tgt := 23) hx hb dX0_lift_9 (by decide) (fun c_4 => ?_) (fun c_4 => ?_)
  · have h := if_t h c_4
    refine lv_ldc (v := (-2000000000)) hx hb S.2.2.2.1 (S.2.2.2.2 _ q1185) dX0_lift_23 ?_
    cases h
    exact d_iret S hr hlk hW (Nat.le_of_ble_eq_true rfl) (Nat.le_of_ble_eq_true rfl) dX0_lift_25
  · have h := if_f h c_4
    refine lv_aload_n hx hb dX0_lift_12 rfl (lv_at hl 0 rfl) ?_
    refine zw_getA S hW zC_X0 (i := 1) (by decide) (Or.inl q756) (fun _ h => h) dX0_lift_13 h (fun a_5 h => ?_)
    refine lv_iload_n hx hb dX0_lift_16 rfl (lv_at hl 1 rfl) ?_
    obtain ⟨⟨_, k_6⟩, h⟩ := zK_some h
    obtain ⟨x_9, h_7, h⟩ := bnd_some h
    refine d_callV (As := [.int a1]) (rest := []) S hW (metX1_lift h_7) (cwX1_lift_V S.2.2.2.2 q1366 ⟨Nat.le_of_ble_eq_true rfl, Nat.le_of_ble_eq_true rfl⟩) k_6 rfl rfl hl.1 rfl (Nat.le_of_ble_eq_true rfl) dX0_lift_17 ⟨(Nat.le_of_ble_eq_true rfl), (Nat.le_of_ble_eq_true rfl)⟩ rfl (fun H locs hW => ?_)
    refine lv_goto (tgt := 25) hx hb dX0_lift_20 (by decide) ?_
    cases h
    exact d_iret S hr hlk hW (Nat.le_of_ble_eq_true rfl) (Nat.le_of_ble_eq_true rfl) dX0_lift_25
def cm_X1_isFrozen (Z0 : c_S) (a0 : Nat) (a1 : Int32) : Option (Int32) :=
  cA Z0.Sh a0 1 20 4 fun a_1 => caI Z0.Sh Z0.V 2 a_1 a1 fun x_2 => if x_2 = 0 then (cA Z0.Sh a0 1 20 2 fun a_4 => caI Z0.Sh Z0.V 0 a_4 a1 fun x_5 => cA Z0.Sh a0 1 20 0 fun a_6 => zK Z0 a_6 2 13 <| bnd (cm_X2_of Z0 a_6 a1) (fun o_10 => nn o_10 fun a_11 => cI Z0.Sh Z0.V a_11 4 4 2 fun x_12 => if x_5 = x_12 then (some 1) else (some 0))) else (some 0)
abbrev rmX1_isFrozen : Room := rmD 1 21 0 0
theorem cwX2_of_V {own : String} {R : Room} {s : State} {args : Array Value} {index : Nat} (hts : ∀ w ∈ lw_all, w.before args s = true) (hl : Cond.methodLink own index yX2_of ∈ lw_all) (hR : rmX2_of.frames + 1 ≤ R.frames ∧ 8 + (2 + 11) + rmX2_of.locals ≤ R.locals) : CallW R s args own RX2 index yX2_of cX2_of 2 (some (.object "FrostRing$Ground")) (ws_ yX2_of cX2_of 2 (some (.object "FrostRing$Ground"))) rmX2_of 0 0 1 := cwV 1 hts (lw_V hl q1124 q1125 q107 q1126) rfl rfl rfl (by decide +kernel) hR
set_option maxHeartbeats 4000000 in
theorem metX1_isFrozen {l : Launch} {gp : Nat → Nat} {D : va_G} {K : Nat → ClassId} {Z0 : c_S} {a0 : Nat} {a1 : Int32} {r : Int32} (h : cm_X1_isFrozen Z0 a0 a1 = some r) : Met l yX1_isFrozen (ws_ yX1_isFrozen cX1_isFrozen 2 (some .boolean)) rmX1_isFrozen (z_Pc gp [.ref a0, .int a1] D K Z0) (z_Q (.returned (some (.int r))) D K (z_A Z0) Z0) 0 0 (z_A Z0) := by
  refine d_met rfl (Nat.le_of_ble_eq_true rfl) ?_
  intro p e s m below meth c ls S hr hlk hnm hl hW hsz
  have S : CallFix p m c cX1_isFrozen 2 s ([.ref a0, .int a1] : List Value).toArray lw_all RX1 := S
  have hx := S.1
  have hb := S.2.1
  have hl : lv_has ls 2 [(0, .ref a0), (1, .int a1)] := hl
  have hnm : meth.name = "isFrozen" := hnm
  unfold cm_X1_isFrozen at h
  refine lv_aload_n hx hb dX1_isFrozen_0 rfl (lv_at hl 0 rfl) ?_
  refine zw_getA S hW zC_X1 (i := 4) (by decide) (Or.inl q673) (fun _ h => h) dX1_isFrozen_1 h (fun a_1 h => ?_)
  refine lv_iload_n hx hb dX1_isFrozen_4 rfl (lv_at hl 1 rfl) ?_
  refine zw_zald S hW dX1_isFrozen_5 h (fun x_2 h => ?_)
  refine lv_if_ne (tgt := 33) hx hb dX1_isFrozen_6 (by decide) (fun c_3 => ?_) (fun c_3 => ?_)
  · have h := if_f h c_3
    refine lv_iconst (v := 0) hx hb dX1_isFrozen_33 (by decide) ?_
    cases h
    exact d_zret S hr hlk rfl hW (Nat.le_of_ble_eq_true rfl) (Nat.le_of_ble_eq_true rfl) dX1_isFrozen_34
  · have h := if_t h c_3
    refine lv_aload_n hx hb dX1_isFrozen_9 rfl (lv_at hl 0 rfl) ?_
    refine zw_getA S hW zC_X1 (i := 2) (by decide) (Or.inl q670) (fun _ h => h) dX1_isFrozen_10 h (fun a_4 h => ?_)
    refine lv_iload_n hx hb dX1_isFrozen_13 rfl (lv_at hl 1 rfl) ?_
    refine zw_iald S hW dX1_isFrozen_14 h (fun x_5 h => ?_)
    refine lv_aload_n hx hb dX1_isFrozen_15 rfl (lv_at hl 0 rfl) ?_
    refine zw_getA S hW zC_X1 (i := 0) (by decide) (Or.inl q665) (fun _ h => h) dX1_isFrozen_16 h (fun a_6 h => ?_)
    refine lv_iload_n hx hb dX1_isFrozen_19 rfl (lv_at hl 1 rfl) ?_
    obtain ⟨⟨_, k_7⟩, h⟩ := zK_some h
    obtain ⟨o_10, h_8, h⟩ := bnd_some h
    refine d_callV (As := [.int a1]) (rest := [.int x_5]) S hW (metX2_of h_8) (cwX2_of_V S.2.2.2.2 q1123 ⟨Nat.le_of_ble_eq_true rfl, Nat.le_of_ble_eq_true rfl⟩) k_7 rfl rfl hl.1 rfl (Nat.le_of_ble_eq_true rfl) dX1_isFrozen_20 ⟨(Nat.le_of_ble_eq_true rfl), (Nat.le_of_ble_eq_true rfl)⟩ rfl (fun H locs hW => ?_)
    have h9 := nn_some h
    clear h
    obtain ⟨a_11, rfl, h8⟩ := h9
    have h := h8
    clear h8
    refine zw_getI S hW zC_X4 (i := 2) (by decide) (Or.inr ⟨_, nestW_in q464 rfl⟩) (fun _ h => h) dX1_isFrozen_23 h (fun x_12 h => ?_)
    refine lv_icmp_ne (tgt := 33) hx hb dX1_isFrozen_26 (by decide) (fun c_13 => ?_) (fun c_13 => ?_)
    · have h := if_f h c_13
      refine lv_iconst (v := 0) hx hb dX1_isFrozen_33 (by decide) ?_
      cases h
      exact d_zret S hr hlk rfl hW (Nat.le_of_ble_eq_true rfl) (Nat.le_of_ble_eq_true rfl) dX1_isFrozen_34
    · have h := if_t h c_13
      refine lv_iconst (v := 1) hx hb dX1_isFrozen_29 (by decide) ?_
      refine lv_goto (tgt := 34) hx hb dX1_isFrozen_30 (by decide) ?_
      cases h
      exact d_zret S hr hlk rfl hW (Nat.le_of_ble_eq_true rfl) (Nat.le_of_ble_eq_true rfl) dX1_isFrozen_34
def cm_X1_streams_J77 (y0 : Nat) (y1 : Int32) (y2 : Int32) (z0 : Int32) (Z : c_S) : Option (c_S) :=
  cA Z.Sh y0 1 20 1 fun a_17 => caI Z.Sh Z.V 0 a_17 y1 fun x_18 => nmI (((z0 - x_18) * y2) / 100) fun x_19 => cA Z.Sh y0 1 20 3 fun a_21 => caI Z.Sh Z.V 0 a_21 y1 fun x_22 => zsI Z 0 a_21 y1 (x_22 + x_19) fun Z_23 => cI Z_23.Sh Z_23.V y0 1 20 13 fun x_24 => zPI Z_23 y0 1 20 13 (x_24 + x_19) fun Z_25 => some Z_25
def cm_X1_streams_J56 (y0 : Nat) (y1 : Int32) (y2 : Int32) (y3 : Int32) (Z : c_S) : Option (c_S) :=
  if y3 = (-1) then (cA Z.Sh y0 1 20 0 fun a_26 => cI Z.Sh Z.V a_26 2 13 6 fun x_27 => cm_X1_streams_J77 y0 y1 y2 x_27 Z) else (cA Z.Sh y0 1 20 1 fun a_15 => caI Z.Sh Z.V 0 a_15 y3 fun x_16 => cm_X1_streams_J77 y0 y1 y2 x_16 Z)
def cm_X1_streams (Z0 : c_S) (a0 : Nat) (a1 : Int32) : Option (c_S) :=
  cA Z0.Sh a0 1 20 0 fun a_1 => cA Z0.Sh a_1 2 13 2 fun a_2 => caI Z0.Sh Z0.V 0 a_2 (a1 / 12) fun x_3 => if x_3 = (-1) then (some Z0) else (zK Z0 a0 1 20 <| bnd (cm_X1_isFrozen Z0 a0 a1) (fun x_8 => if x_8 = 0 then (bnd (cm_X0_beside a1 1) (fun x_12 => if x_12 = (-1) then (cm_X1_streams_J56 a0 a1 x_3 x_12 Z0) else (cA Z0.Sh a0 1 20 4 fun a_28 => caI Z0.Sh Z0.V 2 a_28 x_12 fun x_29 => if x_29 = 0 then (zK Z0 a0 1 20 <| bnd (cm_X1_isFrozen Z0 a0 x_12) (fun x_34 => if x_34 = 0 then (cm_X1_streams_J56 a0 a1 x_3 x_12 Z0) else (some Z0))) else (some Z0)))) else (some Z0)))
abbrev rmX1_streams : Room := rmD 2 42 0 0
theorem cwX1_isFrozen_V {own : String} {R : Room} {s : State} {args : Array Value} {index : Nat} (hts : ∀ w ∈ lw_all, w.before args s = true) (hl : Cond.methodLink own index yX1_isFrozen ∈ lw_all) (hR : rmX1_isFrozen.frames + 1 ≤ R.frames ∧ 8 + (2 + 11) + rmX1_isFrozen.locals ≤ R.locals) : CallW R s args own RX1 index yX1_isFrozen cX1_isFrozen 2 (some .boolean) (ws_ yX1_isFrozen cX1_isFrozen 2 (some .boolean)) rmX1_isFrozen 0 0 1 := cwV 1 hts (lw_V hl q1120 q1121 q106 q1122) rfl rfl rfl (by decide +kernel) hR
set_option maxHeartbeats 4000000 in
theorem metX1_streams {l : Launch} {gp : Nat → Nat} {D : va_G} {K : Nat → ClassId} {Z0 : c_S} {a0 : Nat} {a1 : Int32} {Z' : c_S} (h : cm_X1_streams Z0 a0 a1 = some Z') : Met l yX1_streams (ws_ yX1_streams cX1_streams 5 (none)) rmX1_streams (z_Pc gp [.ref a0, .int a1] D K Z0) (z_Q (.returned (none)) D K (z_A Z0) Z') 0 0 (z_A Z0) := by
  refine d_met rfl (Nat.le_of_ble_eq_true rfl) ?_
  intro p e s m below meth c ls S hr hlk hnm hl hW hsz
  have S : CallFix p m c cX1_streams 5 s ([.ref a0, .int a1] : List Value).toArray lw_all RX1 := S
  have hx := S.1
  have hb := S.2.1
  have hl : lv_has ls 5 [(0, .ref a0), (1, .int a1)] := hl
  have hnm : meth.name = "streams" := hnm
  have J77 : ∀ (y0 : Nat) (y1 : Int32) (y2 : Int32) (z0 : Int32) (Z : c_S) (H : Heap) (locs : List Loc) (ls : Array Slot), cm_X1_streams_J77 y0 y1 y2 z0 Z = some Z' → z_W gp D K (z_A Z0) s Z H locs → lv_has ls 5 [(0, .ref y0), (1, .int y1), (2, .int y2)] → W p l e rmX1_streams s m ([.ref a0, .int a1] : List Value).toArray below meth c H locs 0 0 (MQ below (z_Q (.returned (none)) D K (z_A Z0) Z') ([.ref a0, .int a1] : List Value).toArray s 0 0 (z_A Z0)) (F0 m 77 ls [.int z0]) := by
    intro y0 y1 y2 z0 Z H locs ls h hW hl
    unfold cm_X1_streams_J77 at h
    refine lv_aload_n hx hb dX1_streams_77 rfl (lv_at hl 0 rfl) ?_
    refine zw_getA S hW zC_X1 (i := 1) (by decide) (Or.inl q668) (fun _ h => h) dX1_streams_78 h (fun a_17 h => ?_)
    refine lv_iload_n hx hb dX1_streams_81 rfl (lv_at hl 1 rfl) ?_
    refine zw_iald S hW dX1_streams_82 h (fun x_18 h => ?_)
    refine lv_isub hx hb dX1_streams_83 ?_
    refine lv_iload_n hx hb dX1_streams_84 rfl (lv_at hl 2 rfl) ?_
    refine lv_imul hx hb dX1_streams_85 ?_
    refine lv_bipush (v := 100) hx hb dX1_streams_86 (by decide) ?_
    refine lv_idiv hx hb dX1_streams_88 (by decide) ?_
    obtain ⟨x_19, e_20, h⟩ := nmI_some h
    refine g_nmi e_20 ?_
    refine lv_istore (lv' := [(4, .int x_19), (0, .ref y0), (1, .int y1), (2, .int y2)]) hx hb dX1_streams_89 hl (by decide) rfl (fun ls hl => ?_)
    refine lv_aload_n hx hb dX1_streams_91 rfl (lv_at hl 1 rfl) ?_
    refine zw_getA S hW zC_X1 (i := 3) (by decide) (Or.inl q672) (fun _ h => h) dX1_streams_92 h (fun a_21 h => ?_)
    refine lv_iload_n hx hb dX1_streams_95 rfl (lv_at hl 2 rfl) ?_
    refine lv_dup2_11 hx hb dX1_streams_96 rfl rfl ?_
    refine zw_iald S hW dX1_streams_97 h (fun x_22 h => ?_)
    refine lv_iload hx hb dX1_streams_98 (lv_at hl 0 rfl) ?_
    refine lv_iadd hx hb dX1_streams_100 ?_
    refine zw_iast S hW dX1_streams_101 h (fun Z_23 h H locs hW => ?_)
    refine lv_aload_n hx hb dX1_streams_102 rfl (lv_at hl 1 rfl) ?_
    refine lv_dup hx hb dX1_streams_103 rfl ?_
    refine zw_getI S hW zC_X1 (i := 13) (by decide) (Or.inl q691) (fun _ h => h) dX1_streams_104 h (fun x_24 h => ?_)
    refine lv_iload hx hb dX1_streams_107 (lv_at hl 0 rfl) ?_
    refine lv_iadd hx hb dX1_streams_109 ?_
    refine zw_putI S hW zC_X1 (i := 13) (by decide) (Or.inl rfl) rfl rfl rfl (Or.inl q691) (fun _ h => h) dX1_streams_110 h (fun Z_25 h H locs hW => ?_)
    cases h
    exact d_vret S hr hlk hW (Nat.le_of_ble_eq_true rfl) (Nat.le_of_ble_eq_true rfl) dX1_streams_113
  have J56 : ∀ (y0 : Nat) (y1 : Int32) (y2 : Int32) (y3 : Int32) (Z : c_S) (H : Heap) (locs : List Loc) (ls : Array Slot), cm_X1_streams_J56 y0 y1 y2 y3 Z = some Z' → z_W gp D K (z_A Z0) s Z H locs → lv_has ls 5 [(0, .ref y0), (1, .int y1), (2, .int y2), (3, .int y3)] → W p l e rmX1_streams s m ([.ref a0, .int a1] : List Value).toArray below meth c H locs 0 0 (MQ below (z_Q (.returned (none)) D K (z_A Z0) Z') ([.ref a0, .int a1] : List Value).toArray s 0 0 (z_A Z0)) (F0 m 56 ls []) := by
    intro y0 y1 y2 y3 Z H locs ls h hW hl
    unfold cm_X1_streams_J56 at h
    refine lv_iload_n hx hb dX1_streams_56 rfl (lv_at hl 3 rfl) ?_
    refine lv_iconst (v := (-1)) hx hb dX1_streams_57 (by decide) ?_
    refine lv_icmp_ne (tgt := 71) hx hb dX1_streams_58 (by decide) (fun c_14 => ?_) (fun c_14 => ?_)
    · have h := if_f h c_14
      refine lv_aload_n hx hb dX1_streams_71 rfl (lv_at hl 0 rfl) ?_
      refine zw_getA S hW zC_X1 (i := 1) (by decide) (Or.inl q668) (fun _ h => h) dX1_streams_72 h (fun a_15 h => ?_)
      refine lv_iload_n hx hb dX1_streams_75 rfl (lv_at hl 3 rfl) ?_
      refine zw_iald S hW dX1_streams_76 h (fun x_16 h => ?_)
      exact J77 y0 y1 y2 x_16 Z _ _ _ h hW (lv_sub hl [0, 1, 2] rfl)
    · have h := if_t h c_14
      refine lv_aload_n hx hb dX1_streams_61 rfl (lv_at hl 0 rfl) ?_
      refine zw_getA S hW zC_X1 (i := 0) (by decide) (Or.inl q665) (fun _ h => h) dX1_streams_62 h (fun a_26 h => ?_)
      refine zw_getI S hW zC_X2 (i := 6) (by decide) (Or.inr ⟨_, nestW_in q407 rfl⟩) (fun _ h => h) dX1_streams_65 h (fun x_27 h => ?_)
      refine lv_goto (tgt := 77) hx hb dX1_streams_68 (by decide) ?_
      exact J77 y0 y1 y2 x_27 Z _ _ _ h hW (lv_sub hl [0, 1, 2] rfl)
  unfold cm_X1_streams at h
  refine lv_aload_n hx hb dX1_streams_0 rfl (lv_at hl 0 rfl) ?_
  refine zw_getA S hW zC_X1 (i := 0) (by decide) (Or.inl q665) (fun _ h => h) dX1_streams_1 h (fun a_1 h => ?_)
  refine zw_getA S hW zC_X2 (i := 2) (by decide) (Or.inr ⟨_, nestW_in q395 rfl⟩) (fun _ h => h) dX1_streams_4 h (fun a_2 h => ?_)
  refine lv_iload_n hx hb dX1_streams_7 rfl (lv_at hl 1 rfl) ?_
  refine lv_bipush (v := 12) hx hb dX1_streams_8 (by decide) ?_
  refine lv_idiv hx hb dX1_streams_10 (by decide) ?_
  refine zw_iald S hW dX1_streams_11 h (fun x_3 h => ?_)
  refine lv_istore_n (lv' := [(2, .int x_3), (0, .ref a0), (1, .int a1)]) hx hb dX1_streams_12 rfl hl (by decide) rfl (fun ls hl => ?_)
  refine lv_iload_n hx hb dX1_streams_13 rfl (lv_at hl 0 rfl) ?_
  refine lv_iconst (v := (-1)) hx hb dX1_streams_14 (by decide) ?_
  refine lv_icmp_eq (tgt := 26) hx hb dX1_streams_15 (by decide) (fun c_4 => ?_) (fun c_4 => ?_)
  · have h := if_t h c_4
    cases h
    exact d_vret S hr hlk hW (Nat.le_of_ble_eq_true rfl) (Nat.le_of_ble_eq_true rfl) dX1_streams_26
  · have h := if_f h c_4
    refine lv_aload_n hx hb dX1_streams_18 rfl (lv_at hl 1 rfl) ?_
    refine lv_iload_n hx hb dX1_streams_19 rfl (lv_at hl 2 rfl) ?_
    obtain ⟨⟨_, k_5⟩, h⟩ := zK_some h
    obtain ⟨x_8, h_6, h⟩ := bnd_some h
    refine d_callV (As := [.int a1]) (rest := []) S hW (metX1_isFrozen h_6) (cwX1_isFrozen_V S.2.2.2.2 q1119 ⟨Nat.le_of_ble_eq_true rfl, Nat.le_of_ble_eq_true rfl⟩) k_5 rfl rfl hl.1 rfl (Nat.le_of_ble_eq_true rfl) dX1_streams_20 ⟨(Nat.le_of_ble_eq_true rfl), (Nat.le_of_ble_eq_true rfl)⟩ rfl (fun H locs hW => ?_)
    refine lv_if_eq (tgt := 27) hx hb dX1_streams_23 (by decide) (fun c_9 => ?_) (fun c_9 => ?_)
    · have h := if_t h c_9
      refine lv_iload_n hx hb dX1_streams_27 rfl (lv_at hl 2 rfl) ?_
      refine lv_iconst (v := 1) hx hb dX1_streams_28 (by decide) ?_
      obtain ⟨x_12, h_10, h⟩ := bnd_some h
      refine d_callSN (As := [.int a1, .int 1]) (rest := []) S hW (metX0_beside h_10) (cwX0_beside_SN S.2.2.2.2 (hW.1.2.2.2.2.1.2.2.2.2.1 _ (nestW_in q1112 rfl)) ⟨Nat.le_of_ble_eq_true rfl, Nat.le_of_ble_eq_true rfl⟩) rfl hl.1 rfl (Nat.le_of_ble_eq_true rfl) dX1_streams_29 ⟨(Nat.le_of_ble_eq_true rfl), (Nat.le_of_ble_eq_true rfl)⟩ rfl (fun H locs hW => ?_)
      refine lv_istore_n (lv' := [(3, .int x_12), (2, .int x_3), (0, .ref a0), (1, .int a1)]) hx hb dX1_streams_32 rfl hl (by decide) rfl (fun ls hl => ?_)
      refine lv_iload_n hx hb dX1_streams_33 rfl (lv_at hl 0 rfl) ?_
      refine lv_iconst (v := (-1)) hx hb dX1_streams_34 (by decide) ?_
      refine lv_icmp_eq (tgt := 56) hx hb dX1_streams_35 (by decide) (fun c_13 => ?_) (fun c_13 => ?_)
      · have h := if_t h c_13
        exact J56 a0 a1 x_3 x_12 Z0 _ _ _ h hW (lv_sub hl [2, 3, 1, 0] rfl)
      · have h := if_f h c_13
        refine lv_aload_n hx hb dX1_streams_38 rfl (lv_at hl 2 rfl) ?_
        refine zw_getA S hW zC_X1 (i := 4) (by decide) (Or.inl q673) (fun _ h => h) dX1_streams_39 h (fun a_28 h => ?_)
        refine lv_iload_n hx hb dX1_streams_42 rfl (lv_at hl 0 rfl) ?_
        refine zw_zald S hW dX1_streams_43 h (fun x_29 h => ?_)
        refine lv_if_ne (tgt := 55) hx hb dX1_streams_44 (by decide) (fun c_30 => ?_) (fun c_30 => ?_)
        · have h := if_f h c_30
          cases h
          exact d_vret S hr hlk hW (Nat.le_of_ble_eq_true rfl) (Nat.le_of_ble_eq_true rfl) dX1_streams_55
        · have h := if_t h c_30
          refine lv_aload_n hx hb dX1_streams_47 rfl (lv_at hl 2 rfl) ?_
          refine lv_iload_n hx hb dX1_streams_48 rfl (lv_at hl 0 rfl) ?_
          obtain ⟨⟨_, k_31⟩, h⟩ := zK_some h
          obtain ⟨x_34, h_32, h⟩ := bnd_some h
          refine d_callV (As := [.int x_12]) (rest := []) S hW (metX1_isFrozen h_32) (cwX1_isFrozen_V S.2.2.2.2 q1119 ⟨Nat.le_of_ble_eq_true rfl, Nat.le_of_ble_eq_true rfl⟩) k_31 rfl rfl hl.1 rfl (Nat.le_of_ble_eq_true rfl) dX1_streams_49 ⟨(Nat.le_of_ble_eq_true rfl), (Nat.le_of_ble_eq_true rfl)⟩ rfl (fun H locs hW => ?_)
          refine lv_if_eq (tgt := 56) hx hb dX1_streams_52 (by decide) (fun c_35 => ?_) (fun c_35 => ?_)
          · have h := if_t h c_35
            exact J56 a0 a1 x_3 x_12 Z0 _ _ _ h hW (lv_sub hl [2, 3, 1, 0] rfl)
          · have h := if_f h c_35
            cases h
            exact d_vret S hr hlk hW (Nat.le_of_ble_eq_true rfl) (Nat.le_of_ble_eq_true rfl) dX1_streams_55
    · have h := if_f h c_9
      cases h
      exact d_vret S hr hlk hW (Nat.le_of_ble_eq_true rfl) (Nat.le_of_ble_eq_true rfl) dX1_streams_26
def cm_X1_takes (Z0 : c_S) (a0 : Nat) (a1 : Int32) (a2 : Int32) : Option (c_S) :=
  cA Z0.Sh a0 1 20 0 fun a_1 => zK Z0 a_1 2 13 <| bnd (cm_X2_of Z0 a_1 a1) (fun o_5 => nn o_5 fun a_6 => cI Z0.Sh Z0.V a_6 4 4 3 fun x_7 => if 0 ≤ a2 then (cA Z0.Sh a0 1 20 1 fun a_9 => caI Z0.Sh Z0.V 0 a_9 a1 fun x_10 => nmI (if 0 < (x_7 - x_10) then (x_7 - x_10) else 0) fun x_11 => nmI (if x_11 < a2 then x_11 else a2) fun x_13 => cA Z0.Sh a0 1 20 1 fun a_15 => caI Z0.Sh Z0.V 0 a_15 a1 fun x_16 => zsI Z0 0 a_15 a1 (x_16 + x_13) fun Z_17 => nmI (a2 - x_13) fun x_18 => cA Z_17.Sh a0 1 20 2 fun a_20 => caI Z_17.Sh Z_17.V 0 a_20 a1 fun x_21 => nmI (if x_21 < x_18 then x_21 else x_18) fun x_22 => cA Z_17.Sh a0 1 20 2 fun a_24 => caI Z_17.Sh Z_17.V 0 a_24 a1 fun x_25 => zsI Z_17 0 a_24 a1 (x_25 - x_22) fun Z_26 => nmI (x_18 - x_22) fun x_27 => cA Z_26.Sh a0 1 20 1 fun a_29 => caI Z_26.Sh Z_26.V 0 a_29 a1 fun x_30 => zsI Z_26 0 a_29 a1 (x_30 + x_27) fun Z_31 => some Z_31) else (cA Z0.Sh a0 1 20 1 fun a_32 => caI Z0.Sh Z0.V 0 a_32 a1 fun x_33 => nmI (if 0 < (x_33 - x_7) then (x_33 - x_7) else 0) fun x_34 => nmI (if x_34 < (-a2) then x_34 else (-a2)) fun x_36 => cA Z0.Sh a0 1 20 1 fun a_38 => caI Z0.Sh Z0.V 0 a_38 a1 fun x_39 => zsI Z0 0 a_38 a1 (x_39 - x_36) fun Z_40 => nmI (a2 + x_36) fun x_41 => cA Z_40.Sh a0 1 20 0 fun a_43 => zK Z_40 a_43 2 13 <| bnd (cm_X2_of Z_40 a_43 a1) (fun o_47 => nn o_47 fun a_48 => cI Z_40.Sh Z_40.V a_48 4 4 2 fun x_49 => cA Z_40.Sh a0 1 20 2 fun a_50 => caI Z_40.Sh Z_40.V 0 a_50 a1 fun x_51 => nmI (if (x_49 - x_51) < (-x_41) then (x_49 - x_51) else (-x_41)) fun x_52 => cA Z_40.Sh a0 1 20 2 fun a_54 => caI Z_40.Sh Z_40.V 0 a_54 a1 fun x_55 => zsI Z_40 0 a_54 a1 (x_55 + x_52) fun Z_56 => nmI (x_41 + x_52) fun x_57 => cA Z_56.Sh a0 1 20 1 fun a_59 => caI Z_56.Sh Z_56.V 0 a_59 a1 fun x_60 => zsI Z_56 0 a_59 a1 (x_60 + x_57) fun Z_61 => some Z_61)))
abbrev rmX1_takes : Room := rmD 1 21 0 0
set_option maxHeartbeats 4000000 in
theorem metX1_takes {l : Launch} {gp : Nat → Nat} {D : va_G} {K : Nat → ClassId} {Z0 : c_S} {a0 : Nat} {a1 : Int32} {a2 : Int32} {Z' : c_S} (h : cm_X1_takes Z0 a0 a1 a2 = some Z') : Met l yX1_takes (ws_ yX1_takes cX1_takes 7 (none)) rmX1_takes (z_Pc gp [.ref a0, .int a1, .int a2] D K Z0) (z_Q (.returned (none)) D K (z_A Z0) Z') 0 0 (z_A Z0) := by
  refine d_met rfl (Nat.le_of_ble_eq_true rfl) ?_
  intro p e s m below meth c ls S hr hlk hnm hl hW hsz
  have S : CallFix p m c cX1_takes 7 s ([.ref a0, .int a1, .int a2] : List Value).toArray lw_all RX1 := S
  have hx := S.1
  have hb := S.2.1
  have hl : lv_has ls 7 [(0, .ref a0), (1, .int a1), (2, .int a2)] := hl
  have hnm : meth.name = "takes" := hnm
  unfold cm_X1_takes at h
  refine lv_aload_n hx hb dX1_takes_0 rfl (lv_at hl 0 rfl) ?_
  refine zw_getA S hW zC_X1 (i := 0) (by decide) (Or.inl q665) (fun _ h => h) dX1_takes_1 h (fun a_1 h => ?_)
  refine lv_iload_n hx hb dX1_takes_4 rfl (lv_at hl 1 rfl) ?_
  obtain ⟨⟨_, k_2⟩, h⟩ := zK_some h
  obtain ⟨o_5, h_3, h⟩ := bnd_some h
  refine d_callV (As := [.int a1]) (rest := []) S hW (metX2_of h_3) (cwX2_of_V S.2.2.2.2 q1123 ⟨Nat.le_of_ble_eq_true rfl, Nat.le_of_ble_eq_true rfl⟩) k_2 rfl rfl hl.1 rfl (Nat.le_of_ble_eq_true rfl) dX1_takes_5 ⟨(Nat.le_of_ble_eq_true rfl), (Nat.le_of_ble_eq_true rfl)⟩ rfl (fun H locs hW => ?_)
  have h9 := nn_some h
  clear h
  obtain ⟨a_6, rfl, h8⟩ := h9
  have h := h8
  clear h8
  refine zw_getI S hW zC_X4 (i := 3) (by decide) (Or.inr ⟨_, nestW_in q466 rfl⟩) (fun _ h => h) dX1_takes_8 h (fun x_7 h => ?_)
  refine lv_istore_n (lv' := [(3, .int x_7), (0, .ref a0), (1, .int a1), (2, .int a2)]) hx hb dX1_takes_11 rfl hl (by decide) rfl (fun ls hl => ?_)
  refine lv_iload_n hx hb dX1_takes_12 rfl (lv_at hl 3 rfl) ?_
  refine lv_istore (lv' := [(4, .int a2), (3, .int x_7), (0, .ref a0), (1, .int a1), (2, .int a2)]) hx hb dX1_takes_13 hl (by decide) rfl (fun ls hl => ?_)
  refine lv_iload hx hb dX1_takes_15 (lv_at hl 0 rfl) ?_
  refine lv_if_ge (tgt := 105) hx hb dX1_takes_17 (by decide) (fun c_8 => ?_) (fun c_8 => ?_)
  · have h := if_t h c_8
    refine lv_iload hx hb dX1_takes_105 (lv_at hl 0 rfl) ?_
    refine lv_iconst (v := 0) hx hb dX1_takes_107 (by decide) ?_
    refine lv_iload_n hx hb dX1_takes_108 rfl (lv_at hl 1 rfl) ?_
    refine lv_aload_n hx hb dX1_takes_109 rfl (lv_at hl 2 rfl) ?_
    refine zw_getA S hW zC_X1 (i := 1) (by decide) (Or.inl q668) (fun _ h => h) dX1_takes_110 h (fun a_9 h => ?_)
    refine lv_iload_n hx hb dX1_takes_113 rfl (lv_at hl 3 rfl) ?_
    refine zw_iald S hW dX1_takes_114 h (fun x_10 h => ?_)
    refine lv_isub hx hb dX1_takes_115 ?_
    refine va_mmax hx hb (S.2.2.1.trans hl.1.symm) S.2.2.2.1 (S.2.2.2.2 _ q1140) (S.2.2.2.2 _ q595) (S.2.2.2.2 _ q117) (S.2.2.2.2 _ mc_max) (Nat.le_of_ble_eq_true rfl) (zm_lo (z_ro (Nat.le_of_ble_eq_true rfl)) (Nat.le_of_ble_eq_true rfl)) (Nat.le_of_ble_eq_true rfl) (Nat.le_of_ble_eq_true rfl) dX1_takes_116 ?_
    obtain ⟨x_11, e_12, h⟩ := nmI_some h
    refine g_nmi e_12 ?_
    refine va_mmin hx hb (S.2.2.1.trans hl.1.symm) S.2.2.2.1 (S.2.2.2.2 _ q1127) (S.2.2.2.2 _ q633) (S.2.2.2.2 _ q117) (S.2.2.2.2 _ mc_min) (Nat.le_of_ble_eq_true rfl) (zm_lo (z_ro (Nat.le_of_ble_eq_true rfl)) (Nat.le_of_ble_eq_true rfl)) (Nat.le_of_ble_eq_true rfl) (Nat.le_of_ble_eq_true rfl) dX1_takes_119 ?_
    obtain ⟨x_13, e_14, h⟩ := nmI_some h
    refine g_nmi e_14 ?_
    refine lv_istore (lv' := [(5, .int x_13), (4, .int a2), (3, .int x_7), (0, .ref a0), (1, .int a1), (2, .int a2)]) hx hb dX1_takes_122 hl (by decide) rfl (fun ls hl => ?_)
    refine lv_aload_n hx hb dX1_takes_124 rfl (lv_at hl 3 rfl) ?_
    refine zw_getA S hW zC_X1 (i := 1) (by decide) (Or.inl q668) (fun _ h => h) dX1_takes_125 h (fun a_15 h => ?_)
    refine lv_iload_n hx hb dX1_takes_128 rfl (lv_at hl 4 rfl) ?_
    refine lv_dup2_11 hx hb dX1_takes_129 rfl rfl ?_
    refine zw_iald S hW dX1_takes_130 h (fun x_16 h => ?_)
    refine lv_iload hx hb dX1_takes_131 (lv_at hl 0 rfl) ?_
    refine lv_iadd hx hb dX1_takes_133 ?_
    refine zw_iast S hW dX1_takes_134 h (fun Z_17 h H locs hW => ?_)
    refine lv_iload hx hb dX1_takes_135 (lv_at hl 1 rfl) ?_
    refine lv_iload hx hb dX1_takes_137 (lv_at hl 0 rfl) ?_
    refine lv_isub hx hb dX1_takes_139 ?_
    obtain ⟨x_18, e_19, h⟩ := nmI_some h
    refine g_nmi e_19 ?_
    refine lv_istore (lv' := [(4, .int x_18), (5, .int x_13), (3, .int x_7), (0, .ref a0), (1, .int a1), (2, .int a2)]) hx hb dX1_takes_140 hl (by decide) rfl (fun ls hl => ?_)
    refine lv_iload hx hb dX1_takes_142 (lv_at hl 0 rfl) ?_
    refine lv_aload_n hx hb dX1_takes_144 rfl (lv_at hl 3 rfl) ?_
    refine zw_getA S hW zC_X1 (i := 2) (by decide) (Or.inl q670) (fun _ h => h) dX1_takes_145 h (fun a_20 h => ?_)
    refine lv_iload_n hx hb dX1_takes_148 rfl (lv_at hl 4 rfl) ?_
    refine zw_iald S hW dX1_takes_149 h (fun x_21 h => ?_)
    refine va_mmin hx hb (S.2.2.1.trans hl.1.symm) S.2.2.2.1 (S.2.2.2.2 _ q1127) (S.2.2.2.2 _ q633) (S.2.2.2.2 _ q117) (S.2.2.2.2 _ mc_min) (Nat.le_of_ble_eq_true rfl) (zm_lo (z_ro (Nat.le_of_ble_eq_true rfl)) (Nat.le_of_ble_eq_true rfl)) (Nat.le_of_ble_eq_true rfl) (Nat.le_of_ble_eq_true rfl) dX1_takes_150 ?_
    obtain ⟨x_22, e_23, h⟩ := nmI_some h
    refine g_nmi e_23 ?_
    refine lv_istore (lv' := [(6, .int x_22), (4, .int x_18), (5, .int x_13), (3, .int x_7), (0, .ref a0), (1, .int a1), (2, .int a2)]) hx hb dX1_takes_153 hl (by decide) rfl (fun ls hl => ?_)
    refine lv_aload_n hx hb dX1_takes_155 rfl (lv_at hl 4 rfl) ?_
    refine zw_getA S hW zC_X1 (i := 2) (by decide) (Or.inl q670) (fun _ h => h) dX1_takes_156 h (fun a_24 h => ?_)
    refine lv_iload_n hx hb dX1_takes_159 rfl (lv_at hl 5 rfl) ?_
    refine lv_dup2_11 hx hb dX1_takes_160 rfl rfl ?_
    refine zw_iald S hW dX1_takes_161 h (fun x_25 h => ?_)
    refine lv_iload hx hb dX1_takes_162 (lv_at hl 0 rfl) ?_
    refine lv_isub hx hb dX1_takes_164 ?_
    refine zw_iast S hW dX1_takes_165 h (fun Z_26 h H locs hW => ?_)
    refine lv_iload hx hb dX1_takes_166 (lv_at hl 1 rfl) ?_
    refine lv_iload hx hb dX1_takes_168 (lv_at hl 0 rfl) ?_
    refine lv_isub hx hb dX1_takes_170 ?_
    obtain ⟨x_27, e_28, h⟩ := nmI_some h
    refine g_nmi e_28 ?_
    refine lv_istore (lv' := [(4, .int x_27), (6, .int x_22), (5, .int x_13), (3, .int x_7), (0, .ref a0), (1, .int a1), (2, .int a2)]) hx hb dX1_takes_171 hl (by decide) rfl (fun ls hl => ?_)
    refine lv_aload_n hx hb dX1_takes_173 rfl (lv_at hl 4 rfl) ?_
    refine zw_getA S hW zC_X1 (i := 1) (by decide) (Or.inl q668) (fun _ h => h) dX1_takes_174 h (fun a_29 h => ?_)
    refine lv_iload_n hx hb dX1_takes_177 rfl (lv_at hl 5 rfl) ?_
    refine lv_dup2_11 hx hb dX1_takes_178 rfl rfl ?_
    refine zw_iald S hW dX1_takes_179 h (fun x_30 h => ?_)
    refine lv_iload hx hb dX1_takes_180 (lv_at hl 0 rfl) ?_
    refine lv_iadd hx hb dX1_takes_182 ?_
    refine zw_iast S hW dX1_takes_183 h (fun Z_31 h H locs hW => ?_)
    cases h
    exact d_vret S hr hlk hW (Nat.le_of_ble_eq_true rfl) (Nat.le_of_ble_eq_true rfl) dX1_takes_184
  · have h := if_f h c_8
    refine lv_iload hx hb dX1_takes_20 (lv_at hl 0 rfl) ?_
    refine lv_ineg hx hb dX1_takes_22 ?_
    refine lv_iconst (v := 0) hx hb dX1_takes_23 (by decide) ?_
    refine lv_aload_n hx hb dX1_takes_24 rfl (lv_at hl 2 rfl) ?_
    refine zw_getA S hW zC_X1 (i := 1) (by decide) (Or.inl q668) (fun _ h => h) dX1_takes_25 h (fun a_32 h => ?_)
    refine lv_iload_n hx hb dX1_takes_28 rfl (lv_at hl 3 rfl) ?_
    refine zw_iald S hW dX1_takes_29 h (fun x_33 h => ?_)
    refine lv_iload_n hx hb dX1_takes_30 rfl (lv_at hl 1 rfl) ?_
    refine lv_isub hx hb dX1_takes_31 ?_
    refine va_mmax hx hb (S.2.2.1.trans hl.1.symm) S.2.2.2.1 (S.2.2.2.2 _ q1140) (S.2.2.2.2 _ q595) (S.2.2.2.2 _ q117) (S.2.2.2.2 _ mc_max) (Nat.le_of_ble_eq_true rfl) (zm_lo (z_ro (Nat.le_of_ble_eq_true rfl)) (Nat.le_of_ble_eq_true rfl)) (Nat.le_of_ble_eq_true rfl) (Nat.le_of_ble_eq_true rfl) dX1_takes_32 ?_
    obtain ⟨x_34, e_35, h⟩ := nmI_some h
    refine g_nmi e_35 ?_
    refine va_mmin hx hb (S.2.2.1.trans hl.1.symm) S.2.2.2.1 (S.2.2.2.2 _ q1127) (S.2.2.2.2 _ q633) (S.2.2.2.2 _ q117) (S.2.2.2.2 _ mc_min) (Nat.le_of_ble_eq_true rfl) (zm_lo (z_ro (Nat.le_of_ble_eq_true rfl)) (Nat.le_of_ble_eq_true rfl)) (Nat.le_of_ble_eq_true rfl) (Nat.le_of_ble_eq_true rfl) dX1_takes_35 ?_
    obtain ⟨x_36, e_37, h⟩ := nmI_some h
    refine g_nmi e_37 ?_
    refine lv_istore (lv' := [(5, .int x_36), (4, .int a2), (3, .int x_7), (0, .ref a0), (1, .int a1), (2, .int a2)]) hx hb dX1_takes_38 hl (by decide) rfl (fun ls hl => ?_)
    refine lv_aload_n hx hb dX1_takes_40 rfl (lv_at hl 3 rfl) ?_
    refine zw_getA S hW zC_X1 (i := 1) (by decide) (Or.inl q668) (fun _ h => h) dX1_takes_41 h (fun a_38 h => ?_)
    refine lv_iload_n hx hb dX1_takes_44 rfl (lv_at hl 4 rfl) ?_
    refine lv_dup2_11 hx hb dX1_takes_45 rfl rfl ?_
    refine zw_iald S hW dX1_takes_46 h (fun x_39 h => ?_)
    refine lv_iload hx hb dX1_takes_47 (lv_at hl 0 rfl) ?_
    refine lv_isub hx hb dX1_takes_49 ?_
    refine zw_iast S hW dX1_takes_50 h (fun Z_40 h H locs hW => ?_)
    refine lv_iload hx hb dX1_takes_51 (lv_at hl 1 rfl) ?_
    refine lv_iload hx hb dX1_takes_53 (lv_at hl 0 rfl) ?_
    refine lv_iadd hx hb dX1_takes_55 ?_
    obtain ⟨x_41, e_42, h⟩ := nmI_some h
    refine g_nmi e_42 ?_
    refine lv_istore (lv' := [(4, .int x_41), (5, .int x_36), (3, .int x_7), (0, .ref a0), (1, .int a1), (2, .int a2)]) hx hb dX1_takes_56 hl (by decide) rfl (fun ls hl => ?_)
    refine lv_iload hx hb dX1_takes_58 (lv_at hl 0 rfl) ?_
    refine lv_ineg hx hb dX1_takes_60 ?_
    refine lv_aload_n hx hb dX1_takes_61 rfl (lv_at hl 3 rfl) ?_
    refine zw_getA S hW zC_X1 (i := 0) (by decide) (Or.inl q665) (fun _ h => h) dX1_takes_62 h (fun a_43 h => ?_)
    refine lv_iload_n hx hb dX1_takes_65 rfl (lv_at hl 4 rfl) ?_
    obtain ⟨⟨_, k_44⟩, h⟩ := zK_some h
    obtain ⟨o_47, h_45, h⟩ := bnd_some h
    refine d_callV (As := [.int a1]) (rest := [.int (-x_41)]) S hW (metX2_of h_45) (cwX2_of_V S.2.2.2.2 q1123 ⟨Nat.le_of_ble_eq_true rfl, Nat.le_of_ble_eq_true rfl⟩) k_44 rfl rfl hl.1 rfl (Nat.le_of_ble_eq_true rfl) dX1_takes_66 ⟨(Nat.le_of_ble_eq_true rfl), (Nat.le_of_ble_eq_true rfl)⟩ rfl (fun H locs hW => ?_)
    have h9 := nn_some h
    clear h
    obtain ⟨a_48, rfl, h8⟩ := h9
    have h := h8
    clear h8
    refine zw_getI S hW zC_X4 (i := 2) (by decide) (Or.inr ⟨_, nestW_in q464 rfl⟩) (fun _ h => h) dX1_takes_69 h (fun x_49 h => ?_)
    refine lv_aload_n hx hb dX1_takes_72 rfl (lv_at hl 3 rfl) ?_
    refine zw_getA S hW zC_X1 (i := 2) (by decide) (Or.inl q670) (fun _ h => h) dX1_takes_73 h (fun a_50 h => ?_)
    refine lv_iload_n hx hb dX1_takes_76 rfl (lv_at hl 4 rfl) ?_
    refine zw_iald S hW dX1_takes_77 h (fun x_51 h => ?_)
    refine lv_isub hx hb dX1_takes_78 ?_
    refine va_mmin hx hb (S.2.2.1.trans hl.1.symm) S.2.2.2.1 (S.2.2.2.2 _ q1127) (S.2.2.2.2 _ q633) (S.2.2.2.2 _ q117) (S.2.2.2.2 _ mc_min) (Nat.le_of_ble_eq_true rfl) (zm_lo (z_ro (Nat.le_of_ble_eq_true rfl)) (Nat.le_of_ble_eq_true rfl)) (Nat.le_of_ble_eq_true rfl) (Nat.le_of_ble_eq_true rfl) dX1_takes_79 ?_
    obtain ⟨x_52, e_53, h⟩ := nmI_some h
    refine g_nmi e_53 ?_
    refine lv_istore (lv' := [(6, .int x_52), (4, .int x_41), (5, .int x_36), (3, .int x_7), (0, .ref a0), (1, .int a1), (2, .int a2)]) hx hb dX1_takes_82 hl (by decide) rfl (fun ls hl => ?_)
    refine lv_aload_n hx hb dX1_takes_84 rfl (lv_at hl 4 rfl) ?_
    refine zw_getA S hW zC_X1 (i := 2) (by decide) (Or.inl q670) (fun _ h => h) dX1_takes_85 h (fun a_54 h => ?_)
    refine lv_iload_n hx hb dX1_takes_88 rfl (lv_at hl 5 rfl) ?_
    refine lv_dup2_11 hx hb dX1_takes_89 rfl rfl ?_
    refine zw_iald S hW dX1_takes_90 h (fun x_55 h => ?_)
    refine lv_iload hx hb dX1_takes_91 (lv_at hl 0 rfl) ?_
    refine lv_iadd hx hb dX1_takes_93 ?_
    refine zw_iast S hW dX1_takes_94 h (fun Z_56 h H locs hW => ?_)
    refine lv_iload hx hb dX1_takes_95 (lv_at hl 1 rfl) ?_
    refine lv_iload hx hb dX1_takes_97 (lv_at hl 0 rfl) ?_
    refine lv_iadd hx hb dX1_takes_99 ?_
    obtain ⟨x_57, e_58, h⟩ := nmI_some h
    refine g_nmi e_58 ?_
    refine lv_istore (lv' := [(4, .int x_57), (6, .int x_52), (5, .int x_36), (3, .int x_7), (0, .ref a0), (1, .int a1), (2, .int a2)]) hx hb dX1_takes_100 hl (by decide) rfl (fun ls hl => ?_)
    refine lv_goto (tgt := 173) hx hb dX1_takes_102 (by decide) ?_
    refine lv_aload_n hx hb dX1_takes_173 rfl (lv_at hl 4 rfl) ?_
    refine zw_getA S hW zC_X1 (i := 1) (by decide) (Or.inl q668) (fun _ h => h) dX1_takes_174 h (fun a_59 h => ?_)
    refine lv_iload_n hx hb dX1_takes_177 rfl (lv_at hl 5 rfl) ?_
    refine lv_dup2_11 hx hb dX1_takes_178 rfl rfl ?_
    refine zw_iald S hW dX1_takes_179 h (fun x_60 h => ?_)
    refine lv_iload hx hb dX1_takes_180 (lv_at hl 0 rfl) ?_
    refine lv_iadd hx hb dX1_takes_182 ?_
    refine zw_iast S hW dX1_takes_183 h (fun Z_61 h H locs hW => ?_)
    cases h
    exact d_vret S hr hlk hW (Nat.le_of_ble_eq_true rfl) (Nat.le_of_ble_eq_true rfl) dX1_takes_184
