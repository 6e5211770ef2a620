/-! walks of the component: X3_init X3_isAt X3_is X3_isFull X3_isSign X4_init X5_init X6_init X7_width X7_init X7_many X7_number -/
set_option maxRecDepth 100000
def cm_X3_init (gp : Nat → Nat) (Z0 : c_S) (a0 : Nat) (a1 : Nat) (a2 : Int32) : Option (c_S) :=
  zNewR Z0 6 4 4 fun Z_1 a_2 => zsS Z_1 6 a_2 0 (gp 0) fun Z_3 => zsS Z_3 6 a_2 1 (gp 1) fun Z_4 => zsS Z_4 6 a_2 2 (gp 2) fun Z_5 => zsS Z_5 6 a_2 3 (gp 3) fun Z_6 => zPR Z_6 a0 3 11 0 (some a_2) fun Z_7 => zNewR Z_7 6 9 9 fun Z_8 a_9 => zsS Z_8 6 a_9 0 (gp 4) fun Z_10 => zsS Z_10 6 a_9 1 (gp 5) fun Z_11 => zsS Z_11 6 a_9 2 (gp 6) fun Z_12 => zsS Z_12 6 a_9 3 (gp 7) fun Z_13 => zsS Z_13 6 a_9 4 (gp 8) fun Z_14 => zsS Z_14 6 a_9 5 (gp 9) fun Z_15 => zsS Z_15 6 a_9 6 (gp 10) fun Z_16 => zsS Z_16 6 a_9 7 (gp 11) fun Z_17 => zsS Z_17 6 a_9 8 (gp 12) fun Z_18 => zPR Z_18 a0 3 11 1 (some a_9) fun Z_19 => zPR Z_19 a0 3 11 2 (some a1) fun Z_20 => zPI Z_20 a0 3 11 3 a2 fun Z_21 => some Z_21
abbrev rmX3_init : Room := rmD 1 20 2 13
set_option maxHeartbeats 4000000 in
theorem metX3_init {l : Launch} {gp : Nat → Nat} {D : va_G} {K : Nat → ClassId} {Z0 : c_S} {a0 : Nat} {a1 : Nat} {a2 : Int32} {Z' : c_S} (h : cm_X3_init gp Z0 a0 a1 a2 = some Z') : Met l yX3_init (ws_ yX3_init cX3_init 3 (none)) rmX3_init (z_Pc gp [.ref a0, .ref a1, .int a2] D K Z0) (z_Q (.returned (none)) D K (z_A Z0) Z') 2 13 (z_A Z0) := by
  refine d_met rfl (Nat.le_of_ble_eq_true rfl) ?_
  intro p e s m below meth c ls S hr hlk hnm hl hW hsz
  have S : CallFix p m c cX3_init 3 s ([.ref a0, .ref a1, .int a2] : List Value).toArray lw_all RX3 := S
  have hx := S.1
  have hb := S.2.1
  have hl : lv_has ls 3 [(0, .ref a0), (1, .ref a1), (2, .int a2)] := hl
  have hnm : meth.name = "<init>" := hnm
  unfold cm_X3_init at h
  refine lv_aload_n hx hb dX3_init_0 rfl (lv_at hl 0 rfl) ?_
  refine zw_oinit S q811 hl.1 (Nat.le_of_ble_eq_true rfl) (z_ro (Nat.le_of_ble_eq_true rfl)) (Nat.le_of_ble_eq_true rfl) dX3_init_1 ?_
  refine lv_aload_n hx hb dX3_init_4 rfl (lv_at hl 0 rfl) ?_
  refine lv_iconst (v := 4) hx hb dX3_init_5 (by decide) ?_
  refine zw_newr (t := 6) (B := 4) S hW q812 (by decide) rfl (by decide) (Nat.le_of_ble_eq_true rfl) (Nat.le_of_ble_eq_true rfl) dX3_init_6 h (fun Z_1 a_2 h H hW => ?_)
  refine lv_dup hx hb dX3_init_9 rfl ?_
  refine lv_iconst (v := 0) hx hb dX3_init_10 (by decide) ?_
  refine g_ldcS (w := 0) (tx := "thick") S hW.1 (List.mem_of_getElem? (i := 0) rfl) dX3_init_11 ?_
  refine zw_aastS S hW (by decide) dX3_init_13 h (fun Z_3 h H locs hW => ?_)
  refine lv_dup hx hb dX3_init_14 rfl ?_
  refine lv_iconst (v := 1) hx hb dX3_init_15 (by decide) ?_
  refine g_ldcS (w := 1) (tx := "gaps") S hW.1 (List.mem_of_getElem? (i := 1) rfl) dX3_init_16 ?_
  refine zw_aastS S hW (by decide) dX3_init_18 h (fun Z_4 h H locs hW => ?_)
  refine lv_dup hx hb dX3_init_19 rfl ?_
  refine lv_iconst (v := 2) hx hb dX3_init_20 (by decide) ?_
  refine g_ldcS (w := 2) (tx := "tick") S hW.1 (List.mem_of_getElem? (i := 2) rfl) dX3_init_21 ?_
  refine zw_aastS S hW (by decide) dX3_init_23 h (fun Z_5 h H locs hW => ?_)
  refine lv_dup hx hb dX3_init_24 rfl ?_
  refine lv_iconst (v := 3) hx hb dX3_init_25 (by decide) ?_
  refine g_ldcS (w := 3) (tx := "lift") S hW.1 (List.mem_of_getElem? (i := 3) rfl) dX3_init_26 ?_
  refine zw_aastS S hW (by decide) dX3_init_28 h (fun Z_6 h H locs hW => ?_)
  refine zw_putR (o := some a_2) S hW zC_X3 (i := 0) (by decide) (Or.inr ⟨rfl, hnm, rfl, q827⟩) rfl (Or.inl q827) (fun _ h => h) dX3_init_29 h (fun Z_7 h H locs hW => ?_)
  refine lv_aload_n hx hb dX3_init_32 rfl (lv_at hl 0 rfl) ?_
  refine lv_bipush (v := 9) hx hb dX3_init_33 (by decide) ?_
  refine zw_newr (t := 6) (B := 9) S hW q812 (by decide) rfl (by decide) (Nat.le_of_ble_eq_true rfl) (Nat.le_of_ble_eq_true rfl) dX3_init_35 h (fun Z_8 a_9 h H hW => ?_)
  refine lv_dup hx hb dX3_init_38 rfl ?_
  refine lv_iconst (v := 0) hx hb dX3_init_39 (by decide) ?_
  refine g_ldcS (w := 4) (tx := "ground") S hW.1 (List.mem_of_getElem? (i := 4) rfl) dX3_init_40 ?_
  refine zw_aastS S hW (by decide) dX3_init_42 h (fun Z_10 h H locs hW => ?_)
  refine lv_dup hx hb dX3_init_43 rfl ?_
  refine lv_iconst (v := 1) hx hb dX3_init_44 (by decide) ?_
  refine g_ldcS (w := 5) (tx := "lay") S hW.1 (List.mem_of_getElem? (i := 5) rfl) dX3_init_45 ?_
  refine zw_aastS S hW (by decide) dX3_init_47 h (fun Z_11 h H locs hW => ?_)
  refine lv_dup hx hb dX3_init_48 rfl ?_
  refine lv_iconst (v := 2) hx hb dX3_init_49 (by decide) ?_
  refine g_ldcS (w := 6) (tx := "stream") S hW.1 (List.mem_of_getElem? (i := 6) rfl) dX3_init_50 ?_
  refine zw_aastS S hW (by decide) dX3_init_52 h (fun Z_12 h H locs hW => ?_)
  refine lv_dup hx hb dX3_init_53 rfl ?_
  refine lv_iconst (v := 3) hx hb dX3_init_54 (by decide) ?_
  refine g_ldcS (w := 7) (tx := "far") S hW.1 (List.mem_of_getElem? (i := 7) rfl) dX3_init_55 ?_
  refine zw_aastS S hW (by decide) dX3_init_57 h (fun Z_13 h H locs hW => ?_)
  refine lv_dup hx hb dX3_init_58 rfl ?_
  refine lv_iconst (v := 4) hx hb dX3_init_59 (by decide) ?_
  refine g_ldcS (w := 8) (tx := "shaft") S hW.1 (List.mem_of_getElem? (i := 8) rfl) dX3_init_60 ?_
  refine zw_aastS S hW (by decide) dX3_init_62 h (fun Z_14 h H locs hW => ?_)
  refine lv_dup hx hb dX3_init_63 rfl ?_
  refine lv_iconst (v := 5) hx hb dX3_init_64 (by decide) ?_
  refine g_ldcS (w := 9) (tx := "pipe") S hW.1 (List.mem_of_getElem? (i := 9) rfl) dX3_init_65 ?_
  refine zw_aastS S hW (by decide) dX3_init_67 h (fun Z_15 h H locs hW => ?_)
  refine lv_dup hx hb dX3_init_68 rfl ?_
  refine lv_bipush (v := 6) hx hb dX3_init_69 (by decide) ?_
  refine g_ldcS (w := 10) (tx := "cold") S hW.1 (List.mem_of_getElem? (i := 10) rfl) dX3_init_71 ?_
  refine zw_aastS S hW (by decide) dX3_init_73 h (fun Z_16 h H locs hW => ?_)
  refine lv_dup hx hb dX3_init_74 rfl ?_
  refine lv_bipush (v := 7) hx hb dX3_init_75 (by decide) ?_
  refine g_ldcS (w := 11) (tx := "house") S hW.1 (List.mem_of_getElem? (i := 11) rfl) dX3_init_77 ?_
  refine zw_aastS S hW (by decide) dX3_init_79 h (fun Z_17 h H locs hW => ?_)
  refine lv_dup hx hb dX3_init_80 rfl ?_
  refine lv_bipush (v := 8) hx hb dX3_init_81 (by decide) ?_
  refine g_ldcS (w := 12) (tx := "dig") S hW.1 (List.mem_of_getElem? (i := 12) rfl) dX3_init_83 ?_
  refine zw_aastS S hW (by decide) dX3_init_85 h (fun Z_18 h H locs hW => ?_)
  refine zw_putR (o := some a_9) S hW zC_X3 (i := 1) (by decide) (Or.inr ⟨rfl, hnm, rfl, q828⟩) rfl (Or.inl q828) (fun _ h => h) dX3_init_86 h (fun Z_19 h H locs hW => ?_)
  refine lv_aload_n hx hb dX3_init_89 rfl (lv_at hl 0 rfl) ?_
  refine lv_aload_n hx hb dX3_init_90 rfl (lv_at hl 1 rfl) ?_
  refine zw_putR (o := some a1) S hW zC_X3 (i := 2) (by decide) (Or.inr ⟨rfl, hnm, rfl, q829⟩) rfl (Or.inl q829) (fun _ h => h) dX3_init_91 h (fun Z_20 h H locs hW => ?_)
  refine lv_aload_n hx hb dX3_init_94 rfl (lv_at hl 0 rfl) ?_
  refine lv_iload_n hx hb dX3_init_95 rfl (lv_at hl 2 rfl) ?_
  refine zw_putI S hW zC_X3 (i := 3) (by decide) (Or.inr ⟨rfl, hnm, rfl, q830⟩) rfl rfl rfl (Or.inl q830) (fun _ h => h) dX3_init_96 h (fun Z_21 h H locs hW => ?_)
  cases h
  exact d_vret S hr hlk hW (Nat.le_of_ble_eq_true rfl) (Nat.le_of_ble_eq_true rfl) dX3_init_99
def cm_X3_isAt (Z0 : c_S) (a0 : Nat) (a1 : Int32) (a2 : Int32) : Option (Int32) :=
  cI Z0.Sh Z0.V a0 3 11 4 fun x_1 => cI Z0.Sh Z0.V a0 3 11 3 fun x_2 => if x_2 ≤ x_1 then (some 0) else (cA Z0.Sh a0 3 11 2 fun a_4 => cI Z0.Sh Z0.V a0 3 11 4 fun x_5 => caI Z0.Sh Z0.V 1 a_4 x_5 fun x_6 => if x_6 < a1 then (some 0) else (cA Z0.Sh a0 3 11 2 fun a_8 => cI Z0.Sh Z0.V a0 3 11 4 fun x_9 => caI Z0.Sh Z0.V 1 a_8 x_9 fun x_10 => if a2 < x_10 then (some 0) else (some 1)))
abbrev rmX3_isAt : Room := rmD 0 0 0 0
set_option maxHeartbeats 4000000 in
theorem metX3_isAt {l : Launch} {gp : Nat → Nat} {D : va_G} {K : Nat → ClassId} {Z0 : c_S} {a0 : Nat} {a1 : Int32} {a2 : Int32} {r : Int32} (h : cm_X3_isAt Z0 a0 a1 a2 = some r) : Met l yX3_isAt (ws_ yX3_isAt cX3_isAt 3 (some .boolean)) rmX3_isAt (z_Pc gp [.ref a0, .int a1, .int a2] D K Z0) (z_Q (.returned (some (.int r))) D K (z_A Z0) Z0) 0 0 (z_A Z0) := by
  refine d_met rfl (Nat.le_of_ble_eq_true rfl) ?_
  intro p e s m below meth c ls S hr hlk hnm hl hW hsz
  have S : CallFix p m c cX3_isAt 3 s ([.ref a0, .int a1, .int a2] : List Value).toArray lw_all RX3 := S
  have hx := S.1
  have hb := S.2.1
  have hl : lv_has ls 3 [(0, .ref a0), (1, .int a1), (2, .int a2)] := hl
  have hnm : meth.name = "isAt" := hnm
  unfold cm_X3_isAt at h
  refine lv_aload_n hx hb dX3_isAt_0 rfl (lv_at hl 0 rfl) ?_
  refine zw_getI S hW zC_X3 (i := 4) (by decide) (Or.inl q831) (fun _ h => h) dX3_isAt_1 h (fun x_1 h => ?_)
  refine lv_aload_n hx hb dX3_isAt_4 rfl (lv_at hl 0 rfl) ?_
  refine zw_getI S hW zC_X3 (i := 3) (by decide) (Or.inl q830) (fun _ h => h) dX3_isAt_5 h (fun x_2 h => ?_)
  refine lv_icmp_ge (tgt := 41) hx hb dX3_isAt_8 (by decide) (fun c_3 => ?_) (fun c_3 => ?_)
  · have h := if_t h c_3
    refine lv_iconst (v := 0) hx hb dX3_isAt_41 (by decide) ?_
    cases h
    exact d_zret S hr hlk rfl hW (Nat.le_of_ble_eq_true rfl) (Nat.le_of_ble_eq_true rfl) dX3_isAt_42
  · have h := if_f h c_3
    refine lv_aload_n hx hb dX3_isAt_11 rfl (lv_at hl 0 rfl) ?_
    refine zw_getA S hW zC_X3 (i := 2) (by decide) (Or.inl q829) (fun _ h => h) dX3_isAt_12 h (fun a_4 h => ?_)
    refine lv_aload_n hx hb dX3_isAt_15 rfl (lv_at hl 0 rfl) ?_
    refine zw_getI S hW zC_X3 (i := 4) (by decide) (Or.inl q831) (fun _ h => h) dX3_isAt_16 h (fun x_5 h => ?_)
    refine zw_bald S hW dX3_isAt_19 h (fun x_6 h => ?_)
    refine lv_iload_n hx hb dX3_isAt_20 rfl (lv_at hl 1 rfl) ?_
    refine lv_icmp_lt (tgt := 41) hx hb dX3_isAt_21 (by decide) (fun c_7 => ?_) (fun c_7 => ?_)
    · have h := if_t h c_7
      refine lv_iconst (v := 0) hx hb dX3_isAt_41 (by decide) ?_
      cases h
      exact d_zret S hr hlk rfl hW (Nat.le_of_ble_eq_true rfl) (Nat.le_of_ble_eq_true rfl) dX3_isAt_42
    · have h := if_f h c_7
      refine lv_aload_n hx hb dX3_isAt_24 rfl (lv_at hl 0 rfl) ?_
      refine zw_getA S hW zC_X3 (i := 2) (by decide) (Or.inl q829) (fun _ h => h) dX3_isAt_25 h (fun a_8 h => ?_)
      refine lv_aload_n hx hb dX3_isAt_28 rfl (lv_at hl 0 rfl) ?_
      refine zw_getI S hW zC_X3 (i := 4) (by decide) (Or.inl q831) (fun _ h => h) dX3_isAt_29 h (fun x_9 h => ?_)
      refine zw_bald S hW dX3_isAt_32 h (fun x_10 h => ?_)
      refine lv_iload_n hx hb dX3_isAt_33 rfl (lv_at hl 2 rfl) ?_
      refine lv_icmp_gt (tgt := 41) hx hb dX3_isAt_34 (by decide) (fun c_11 => ?_) (fun c_11 => ?_)
      · have h := if_t h c_11
        refine lv_iconst (v := 0) hx hb dX3_isAt_41 (by decide) ?_
        cases h
        exact d_zret S hr hlk rfl hW (Nat.le_of_ble_eq_true rfl) (Nat.le_of_ble_eq_true rfl) dX3_isAt_42
      · have h := if_f h c_11
        refine lv_iconst (v := 1) hx hb dX3_isAt_37 (by decide) ?_
        refine lv_goto (tgt := 42) hx hb dX3_isAt_38 (by decide) ?_
        cases h
        exact d_zret S hr hlk rfl hW (Nat.le_of_ble_eq_true rfl) (Nat.le_of_ble_eq_true rfl) dX3_isAt_42
def cm_X3_is_B32 (gp : Nat → Nat) (x0 : Nat) (x1 : Nat) (Z : c_S) (rec : Int32 → Int32 → Option (Int32)) (x2 : Int32) (x3 : Int32) : Option (Int32) :=
  zSt gp x1 fun w_3 => if (stL w_3) ≤ x3 then (some x2) else (if x2 = 0 then (some x2) else (cA Z.Sh x0 3 11 2 fun a_7 => cI Z.Sh Z.V x0 3 11 5 fun x_8 => caI Z.Sh Z.V 1 a_7 (x_8 + x3) fun x_9 => zSt gp x1 fun w_10 => rdI (stC w_10) (stLen.getD w_10 0) x3 fun x_12 => if x_9 = x_12 then (nmI (x3 + 1) fun x_18 => rec 1 x_18) else (nmI (x3 + 1) fun x_16 => rec 0 x_16)))
abbrev cm_X3_is_F32 (gp : Nat → Nat) (x0 : Nat) (x1 : Nat) (Z : c_S) : (((Int32) × (Int32)) → Option (Int32)) → ((Int32) × (Int32)) → Option (Int32) := fun rec s => cm_X3_is_B32 gp x0 x1 Z (fun x2 x3 => rec (x2, x3)) s.1 s.2
def cm_X3_is_L32 (gp : Nat → Nat) (x0 : Nat) (x1 : Nat) (Z : c_S) (n : Nat) (x2 : Int32) (x3 : Int32) : Option (Int32) := lp (cm_X3_is_F32 gp x0 x1 Z) n (x2, x3)
theorem cm_X3_is_L32_s (gp : Nat → Nat) (x0 : Nat) (x1 : Nat) (Z : c_S) (n : Nat) (x2 : Int32) (x3 : Int32) : cm_X3_is_L32 gp x0 x1 Z (n + 1) x2 x3 = cm_X3_is_B32 gp x0 x1 Z (fun x2 x3 => cm_X3_is_L32 gp x0 x1 Z n x2 x3) x2 x3 := lp_s (cm_X3_is_F32 gp x0 x1 Z) n (x2, x3)
def cm_X3_is_J29 (gp : Nat → Nat) (y0 : Nat) (y1 : Nat) (z0 : Int32) (Z0 : c_S) : Option (Int32) :=
  bnd (cm_X3_is_L32 gp y0 y1 Z0 1000 z0 0) (fun x_22 => okI (isB x_22) <| some x_22)
def cm_X3_is_J28 (gp : Nat → Nat) (y0 : Nat) (y1 : Nat) (Z0 : c_S) : Option (Int32) :=
  cm_X3_is_J29 gp y0 y1 0 Z0
def cm_X3_is (gp : Nat → Nat) (Z0 : c_S) (a0 : Nat) (a1 : Nat) : Option (Int32) :=
  cI Z0.Sh Z0.V a0 3 11 6 fun x_1 => if x_1 = 1 then (cI Z0.Sh Z0.V a0 3 11 4 fun x_24 => cI Z0.Sh Z0.V a0 3 11 5 fun x_25 => zSt gp a1 fun w_26 => if (x_24 - x_25) = (stL w_26) then (cm_X3_is_J29 gp a0 a1 1 Z0) else (cm_X3_is_J28 gp a0 a1 Z0)) else (cm_X3_is_J28 gp a0 a1 Z0)
abbrev rmX3_is : Room := rmD 4 120 0 0
set_option maxHeartbeats 4000000 in
theorem metX3_is {l : Launch} {gp : Nat → Nat} {D : va_G} {K : Nat → ClassId} {Z0 : c_S} {a0 : Nat} {a1 : Nat} {r : Int32} (h : cm_X3_is gp Z0 a0 a1 = some r) : Met l yX3_is (ws_ yX3_is cX3_is 4 (some .boolean)) rmX3_is (z_Pc gp [.ref a0, .ref a1] D K Z0) (z_Q (.returned (some (.int r))) D K (z_A Z0) Z0) 0 0 (z_A Z0) := by
  refine d_met rfl (Nat.le_of_ble_eq_true rfl) ?_
  intro p e s m below meth c ls S hr hlk hnm hl hW hsz
  have S : CallFix p m c cX3_is 4 s ([.ref a0, .ref a1] : List Value).toArray lw_all RX3 := S
  have hx := S.1
  have hb := S.2.1
  have hl : lv_has ls 4 [(0, .ref a0), (1, .ref a1)] := hl
  have hnm : meth.name = "is" := hnm
  have Lp32 : ∀ (x0 : Nat) (x1 : Nat) (Z : c_S) (n : Nat) (x2 : Int32) (x3 : Int32) (out : (Int32)) (H : Heap) (locs : List Loc) (ls : Array Slot), cm_X3_is_L32 gp x0 x1 Z n x2 x3 = some out → z_W gp D K (z_A Z0) s Z H locs → lv_has ls 4 [(0, .ref x0), (1, .ref x1), (2, .int x2), (3, .int x3)] → (∀ (o2 : Int32), out = o2 → ∀ (H : Heap) (locs : List Loc) (ls : Array Slot), z_W gp D K (z_A Z0) s Z H locs → lv_has ls 4 [(2, .int o2)] → W p l e rmX3_is s m ([.ref a0, .ref a1] : List Value).toArray below meth c H locs 0 0 (MQ below (z_Q (.returned (some (.int r))) D K (z_A Z0) Z0) ([.ref a0, .ref a1] : List Value).toArray s 0 0 (z_A Z0)) (F0 m 75 ls [])) → W p l e rmX3_is s m ([.ref a0, .ref a1] : List Value).toArray below meth c H locs 0 0 (MQ below (z_Q (.returned (some (.int r))) D K (z_A Z0) Z0) ([.ref a0, .ref a1] : List Value).toArray s 0 0 (z_A Z0)) (F0 m 32 ls []) := by
    intro x0 x1 Z n
    induction n with
    | zero =>
      intro x2 x3 out H locs ls h
      exact (lp_0 h).elim
    | succ n ih =>
      intro x2 x3 out H locs ls h hW hl k1
      rw [cm_X3_is_L32_s] at h
      unfold cm_X3_is_B32 at h
      refine lv_iload_n hx hb dX3_is_32 rfl (lv_at hl 3 rfl) ?_
      refine lv_aload_n hx hb dX3_is_33 rfl (lv_at hl 1 rfl) ?_
      have h9 := zSt_some h
      clear h
      obtain ⟨w_3, hw_4, e9, h⟩ := h9
      refine z_eqA0 e9 ?_
      clear e9
      refine g_slen S hW.1 hw_4 q885 ⟨Nat.le_of_ble_eq_true rfl, Nat.le_of_ble_eq_true rfl⟩ hl.1 (z_ro (Nat.le_of_ble_eq_true rfl)) ⟨(Nat.le_of_ble_eq_true rfl), (Nat.le_of_ble_eq_true rfl)⟩ dX3_is_34 ?_
      refine lv_icmp_ge (tgt := 75) hx hb dX3_is_37 (by decide) (fun c_5 => ?_) (fun c_5 => ?_)
      · have h := if_t h c_5
        exact k1 _ (Option.some.inj h).symm _ _ _ hW (lv_sub hl [2] rfl)
      · have h := if_f h c_5
        refine lv_iload_n hx hb dX3_is_40 rfl (lv_at hl 2 rfl) ?_
        refine lv_if_eq (tgt := 75) hx hb dX3_is_41 (by decide) (fun c_6 => ?_) (fun c_6 => ?_)
        · have h := if_t h c_6
          exact k1 _ (Option.some.inj h).symm _ _ _ hW (lv_sub hl [2] rfl)
        · have h := if_f h c_6
          refine lv_aload_n hx hb dX3_is_44 rfl (lv_at hl 0 rfl) ?_
          refine zw_getA S hW zC_X3 (i := 2) (by decide) (Or.inl q829) (fun _ h => h) dX3_is_45 h (fun a_7 h => ?_)
          refine lv_aload_n hx hb dX3_is_48 rfl (lv_at hl 0 rfl) ?_
          refine zw_getI S hW zC_X3 (i := 5) (by decide) (Or.inl q832) (fun _ h => h) dX3_is_49 h (fun x_8 h => ?_)
          refine lv_iload_n hx hb dX3_is_52 rfl (lv_at hl 3 rfl) ?_
          refine lv_iadd hx hb dX3_is_53 ?_
          refine zw_bald S hW dX3_is_54 h (fun x_9 h => ?_)
          refine lv_aload_n hx hb dX3_is_55 rfl (lv_at hl 1 rfl) ?_
          refine lv_iload_n hx hb dX3_is_56 rfl (lv_at hl 3 rfl) ?_
          have h9 := zSt_some h
          clear h
          obtain ⟨w_10, hw_11, e9, h⟩ := h9
          refine z_eqA1 e9 ?_
          clear e9
          obtain ⟨h_13, x_12, e_14, h⟩ := rdI_some h
          refine g_schar S hW.1 hw_11 h_13 e_14 q895 ⟨Nat.le_of_ble_eq_true rfl, Nat.le_of_ble_eq_true rfl⟩ hl.1 (z_ro (Nat.le_of_ble_eq_true rfl)) ⟨(Nat.le_of_ble_eq_true rfl), (Nat.le_of_ble_eq_true rfl)⟩ dX3_is_57 ?_
          refine lv_icmp_ne (tgt := 67) hx hb dX3_is_60 (by decide) (fun c_15 => ?_) (fun c_15 => ?_)
          · have h := if_f h c_15
            refine lv_iconst (v := 0) hx hb dX3_is_67 (by decide) ?_
            refine lv_istore_n (lv' := [(2, .int 0), (0, .ref x0), (1, .ref x1), (3, .int x3)]) hx hb dX3_is_68 rfl hl (by decide) rfl (fun ls hl => ?_)
            obtain ⟨x_16, e_17, h⟩ := nmI_some h
            refine lv_iinc (v := x_16) (lv' := [(3, .int x_16), (2, .int 0), (0, .ref x0), (1, .ref x1)]) hx hb dX3_is_69 hl (k := 3) rfl (by rw [e_17]; rfl) (by decide) rfl (fun ls hl => ?_)
            refine lv_goto (tgt := 32) hx hb dX3_is_72 (by decide) ?_
            exact ih 0 x_16 out _ _ _ h hW (lv_sub hl [2, 3, 1, 0] rfl) k1
          · have h := if_t h c_15
            refine lv_iconst (v := 1) hx hb dX3_is_63 (by decide) ?_
            refine lv_goto (tgt := 68) hx hb dX3_is_64 (by decide) ?_
            refine lv_istore_n (lv' := [(2, .int 1), (0, .ref x0), (1, .ref x1), (3, .int x3)]) hx hb dX3_is_68 rfl hl (by decide) rfl (fun ls hl => ?_)
            obtain ⟨x_18, e_19, h⟩ := nmI_some h
            refine lv_iinc (v := x_18) (lv' := [(3, .int x_18), (2, .int 1), (0, .ref x0), (1, .ref x1)]) hx hb dX3_is_69 hl (k := 3) rfl (by rw [e_19]; rfl) (by decide) rfl (fun ls hl => ?_)
            refine lv_goto (tgt := 32) hx hb dX3_is_72 (by decide) ?_
            exact ih 1 x_18 out _ _ _ h hW (lv_sub hl [2, 3, 1, 0] rfl) k1
  have J29 : ∀ (y0 : Nat) (y1 : Nat) (z0 : Int32) (H : Heap) (locs : List Loc) (ls : Array Slot), cm_X3_is_J29 gp y0 y1 z0 Z0 = some r → z_W gp D K (z_A Z0) s Z0 H locs → lv_has ls 4 [(0, .ref y0), (1, .ref y1)] → W p l e rmX3_is s m ([.ref a0, .ref a1] : List Value).toArray below meth c H locs 0 0 (MQ below (z_Q (.returned (some (.int r))) D K (z_A Z0) Z0) ([.ref a0, .ref a1] : List Value).toArray s 0 0 (z_A Z0)) (F0 m 29 ls [.int z0]) := by
    intro y0 y1 z0 H locs ls h hW hl
    unfold cm_X3_is_J29 at h
    refine lv_istore_n (lv' := [(2, .int z0), (0, .ref y0), (1, .ref y1)]) hx hb dX3_is_29 rfl hl (by decide) rfl (fun ls hl => ?_)
    refine lv_iconst (v := 0) hx hb dX3_is_30 (by decide) ?_
    refine lv_istore_n (lv' := [(3, .int 0), (2, .int z0), (0, .ref y0), (1, .ref y1)]) hx hb dX3_is_31 rfl hl (by decide) rfl (fun ls hl => ?_)
    obtain ⟨x_22, h_21, h⟩ := bnd_some h
    refine Lp32 y0 y1 Z0 1000 z0 0  _ _ _ _ h_21 hW (lv_sub hl [2, 3, 1, 0] rfl) ?_
    intro w0 eo H locs ls hW hl
    subst eo
    refine lv_iload_n hx hb dX3_is_75 rfl (lv_at hl 0 rfl) ?_
    obtain ⟨h_23, h⟩ := okI_some h
    cases h
    exact d_zret S hr hlk (isB_narrow h_23) hW (Nat.le_of_ble_eq_true rfl) (Nat.le_of_ble_eq_true rfl) dX3_is_76
  have J28 : ∀ (y0 : Nat) (y1 : Nat) (H : Heap) (locs : List Loc) (ls : Array Slot), cm_X3_is_J28 gp y0 y1 Z0 = some r → z_W gp D K (z_A Z0) s Z0 H locs → lv_has ls 4 [(0, .ref y0), (1, .ref y1)] → W p l e rmX3_is s m ([.ref a0, .ref a1] : List Value).toArray below meth c H locs 0 0 (MQ below (z_Q (.returned (some (.int r))) D K (z_A Z0) Z0) ([.ref a0, .ref a1] : List Value).toArray s 0 0 (z_A Z0)) (F0 m 28 ls []) := by
    intro y0 y1 H locs ls h hW hl
    unfold cm_X3_is_J28 at h
    refine lv_iconst (v := 0) hx hb dX3_is_28 (by decide) ?_
    exact J29 y0 y1 0 _ _ _ h hW hl
  unfold cm_X3_is at h
  refine lv_aload_n hx hb dX3_is_0 rfl (lv_at hl 0 rfl) ?_
  refine zw_getI S hW zC_X3 (i := 6) (by decide) (Or.inl q833) (fun _ h => h) dX3_is_1 h (fun x_1 h => ?_)
  refine lv_iconst (v := 1) hx hb dX3_is_4 (by decide) ?_
  refine lv_icmp_ne (tgt := 28) hx hb dX3_is_5 (by decide) (fun c_2 => ?_) (fun c_2 => ?_)
  · have h := if_f h c_2
    exact J28 a0 a1 _ _ _ h hW hl
  · have h := if_t h c_2
    refine lv_aload_n hx hb dX3_is_8 rfl (lv_at hl 0 rfl) ?_
    refine zw_getI S hW zC_X3 (i := 4) (by decide) (Or.inl q831) (fun _ h => h) dX3_is_9 h (fun x_24 h => ?_)
    refine lv_aload_n hx hb dX3_is_12 rfl (lv_at hl 0 rfl) ?_
    refine zw_getI S hW zC_X3 (i := 5) (by decide) (Or.inl q832) (fun _ h => h) dX3_is_13 h (fun x_25 h => ?_)
    refine lv_isub hx hb dX3_is_16 ?_
    refine lv_aload_n hx hb dX3_is_17 rfl (lv_at hl 1 rfl) ?_
    have h9 := zSt_some h
    clear h
    obtain ⟨w_26, hw_27, e9, h⟩ := h9
    refine z_eqA0 e9 ?_
    clear e9
    refine g_slen S hW.1 hw_27 q885 ⟨Nat.le_of_ble_eq_true rfl, Nat.le_of_ble_eq_true rfl⟩ hl.1 (z_ro (Nat.le_of_ble_eq_true rfl)) ⟨(Nat.le_of_ble_eq_true rfl), (Nat.le_of_ble_eq_true rfl)⟩ dX3_is_18 ?_
    refine lv_icmp_ne (tgt := 28) hx hb dX3_is_21 (by decide) (fun c_28 => ?_) (fun c_28 => ?_)
    · have h := if_f h c_28
      exact J28 a0 a1 _ _ _ h hW hl
    · have h := if_t h c_28
      refine lv_iconst (v := 1) hx hb dX3_is_24 (by decide) ?_
      refine lv_goto (tgt := 29) hx hb dX3_is_25 (by decide) ?_
      exact J29 a0 a1 1 _ _ _ h hW hl
def cm_X3_isFull_J14 (y0 : Nat) (y1 : Nat) (y2 : Int32) (z0 : Int32) (Z0 : c_S) : Option (Int32) :=
  if y2 = 3 then (if z0 = 0 then (cI Z0.Sh Z0.V y0 3 11 9 fun x_5 => if x_5 = 0 then (some 0) else (some 1)) else (some 1)) else (if y2 = 4 then (if z0 = 0 then (zK Z0 y1 2 13 <| bnd (cm_X2_hasShaft Z0 y1) (fun x_12 => if x_12 = 0 then (some 0) else (some 1))) else (some 1)) else (if y2 = 5 then (if z0 = 0 then (cA Z0.Sh y1 2 13 3 fun a_16 => zK Z0 a_16 14 3 <| bnd (cm_J2_size Z0 a_16) (fun x_20 => if x_20 = 12 then (some 1) else (some 0))) else (some 1)) else (if y2 = 6 then (if z0 = 0 then (cI Z0.Sh Z0.V y0 3 11 10 fun x_24 => if x_24 = 0 then (some 0) else (some 1)) else (some 1)) else (if y2 = 7 then (if z0 = 0 then (cA Z0.Sh y1 2 13 4 fun a_28 => zK Z0 a_28 14 3 <| bnd (cm_J2_size Z0 a_28) (fun x_32 => if x_32 = 6 then (some 1) else (some 0))) else (some 1)) else (if y2 = 8 then (if z0 = 0 then (cA Z0.Sh y1 2 13 5 fun a_36 => zK Z0 a_36 14 3 <| bnd (cm_J2_size Z0 a_36) (fun x_40 => if x_40 = 4 then (some 1) else (some 0))) else (some 1)) else (okI (isB z0) <| some z0))))))
def cm_X3_isFull (Z0 : c_S) (a0 : Nat) (a1 : Nat) (a2 : Int32) : Option (Int32) :=
  cI Z0.Sh Z0.V a1 2 13 12 fun x_1 => if x_1 = 40 then (cm_X3_isFull_J14 a0 a1 a2 1 Z0) else (cm_X3_isFull_J14 a0 a1 a2 0 Z0)
abbrev rmX3_isFull : Room := rmD 1 20 0 0
set_option maxHeartbeats 4000000 in
theorem metX3_isFull {l : Launch} {gp : Nat → Nat} {D : va_G} {K : Nat → ClassId} {Z0 : c_S} {a0 : Nat} {a1 : Nat} {a2 : Int32} {r : Int32} (h : cm_X3_isFull Z0 a0 a1 a2 = some r) : Met l yX3_isFull (ws_ yX3_isFull cX3_isFull 4 (some .boolean)) rmX3_isFull (z_Pc gp [.ref a0, .ref a1, .int a2] D K Z0) (z_Q (.returned (some (.int r))) D K (z_A Z0) Z0) 0 0 (z_A Z0) := by
  refine d_met rfl (Nat.le_of_ble_eq_true rfl) ?_
  intro p e s m below meth c ls S hr hlk hnm hl hW hsz
  have S : CallFix p m c cX3_isFull 4 s ([.ref a0, .ref a1, .int a2] : List Value).toArray lw_all RX3 := S
  have hx := S.1
  have hb := S.2.1
  have hl : lv_has ls 4 [(0, .ref a0), (1, .ref a1), (2, .int a2)] := hl
  have hnm : meth.name = "isFull" := hnm
  have J14 : ∀ (y0 : Nat) (y1 : Nat) (y2 : Int32) (z0 : Int32) (H : Heap) (locs : List Loc) (ls : Array Slot), cm_X3_isFull_J14 y0 y1 y2 z0 Z0 = some r → z_W gp D K (z_A Z0) s Z0 H locs → lv_has ls 4 [(0, .ref y0), (1, .ref y1), (2, .int y2)] → W p l e rmX3_isFull s m ([.ref a0, .ref a1, .int a2] : List Value).toArray below meth c H locs 0 0 (MQ below (z_Q (.returned (some (.int r))) D K (z_A Z0) Z0) ([.ref a0, .ref a1, .int a2] : List Value).toArray s 0 0 (z_A Z0)) (F0 m 14 ls [.int z0]) := by
    intro y0 y1 y2 z0 H locs ls h hW hl
    unfold cm_X3_isFull_J14 at h
    refine lv_istore_n (lv' := [(3, .int z0), (0, .ref y0), (1, .ref y1), (2, .int y2)]) hx hb dX3_isFull_14 rfl hl (by decide) rfl (fun ls hl => ?_)
    refine lv_iload_n hx hb dX3_isFull_15 rfl (lv_at hl 3 rfl) ?_
    by_cases c_3 : y2 = 3
    · have h := if_t h c_3
      refine lv_tableIn (off := 40) (tgt := 56) hx hb dX3_isFull_16 (by rw [c_3]; decide) (by rw [c_3]; decide) (by rw [c_3]; decide) (by decide) ?_
      refine lv_iload_n hx hb dX3_isFull_56 rfl (lv_at hl 0 rfl) ?_
      refine lv_if_ne (tgt := 67) hx hb dX3_isFull_57 (by decide) (fun c_4 => ?_) (fun c_4 => ?_)
      · have h := if_f h c_4
        refine lv_iconst (v := 1) hx hb dX3_isFull_67 (by decide) ?_
        refine lv_goto (tgt := 72) hx hb dX3_isFull_68 (by decide) ?_
        cases h
        exact d_zret S hr hlk rfl hW (Nat.le_of_ble_eq_true rfl) (Nat.le_of_ble_eq_true rfl) dX3_isFull_72
      · have h := if_t h c_4
        refine lv_aload_n hx hb dX3_isFull_60 rfl (lv_at hl 1 rfl) ?_
        refine zw_getI S hW zC_X3 (i := 9) (by decide) (Or.inl q836) (fun _ h => h) dX3_isFull_61 h (fun x_5 h => ?_)
        refine lv_if_eq (tgt := 71) hx hb dX3_isFull_64 (by decide) (fun c_6 => ?_) (fun c_6 => ?_)
        · have h := if_t h c_6
          refine lv_iconst (v := 0) hx hb dX3_isFull_71 (by decide) ?_
          cases h
          exact d_zret S hr hlk rfl hW (Nat.le_of_ble_eq_true rfl) (Nat.le_of_ble_eq_true rfl) dX3_isFull_72
        · have h := if_f h c_6
          refine lv_iconst (v := 1) hx hb dX3_isFull_67 (by decide) ?_
          refine lv_goto (tgt := 72) hx hb dX3_isFull_68 (by decide) ?_
          cases h
          exact d_zret S hr hlk rfl hW (Nat.le_of_ble_eq_true rfl) (Nat.le_of_ble_eq_true rfl) dX3_isFull_72
    have h := if_f h c_3
    by_cases c_7 : y2 = 4
    · have h := if_t h c_7
      refine lv_tableIn (off := 57) (tgt := 73) hx hb dX3_isFull_16 (by rw [c_7]; decide) (by rw [c_7]; decide) (by rw [c_7]; decide) (by decide) ?_
      refine lv_iload_n hx hb dX3_isFull_73 rfl (lv_at hl 0 rfl) ?_
      refine lv_if_ne (tgt := 84) hx hb dX3_isFull_74 (by decide) (fun c_8 => ?_) (fun c_8 => ?_)
      · have h := if_f h c_8
        refine lv_iconst (v := 1) hx hb dX3_isFull_84 (by decide) ?_
        refine lv_goto (tgt := 89) hx hb dX3_isFull_85 (by decide) ?_
        cases h
        exact d_zret S hr hlk rfl hW (Nat.le_of_ble_eq_true rfl) (Nat.le_of_ble_eq_true rfl) dX3_isFull_89
      · have h := if_t h c_8
        refine lv_aload_n hx hb dX3_isFull_77 rfl (lv_at hl 2 rfl) ?_
        obtain ⟨⟨_, k_9⟩, h⟩ := zK_some h
        obtain ⟨x_12, h_10, h⟩ := bnd_some h
        refine d_callV (As := []) (rest := []) S hW (metX2_hasShaft h_10) (cwX2_hasShaft_V S.2.2.2.2 q967 ⟨Nat.le_of_ble_eq_true rfl, Nat.le_of_ble_eq_true rfl⟩) k_9 rfl rfl hl.1 rfl (Nat.le_of_ble_eq_true rfl) dX3_isFull_78 ⟨(Nat.le_of_ble_eq_true rfl), (Nat.le_of_ble_eq_true rfl)⟩ rfl (fun H locs hW => ?_)
        refine lv_if_eq (tgt := 88) hx hb dX3_isFull_81 (by decide) (fun c_13 => ?_) (fun c_13 => ?_)
        · have h := if_t h c_13
          refine lv_iconst (v := 0) hx hb dX3_isFull_88 (by decide) ?_
          cases h
          exact d_zret S hr hlk rfl hW (Nat.le_of_ble_eq_true rfl) (Nat.le_of_ble_eq_true rfl) dX3_isFull_89
        · have h := if_f h c_13
          refine lv_iconst (v := 1) hx hb dX3_isFull_84 (by decide) ?_
          refine lv_goto (tgt := 89) hx hb dX3_isFull_85 (by decide) ?_
          cases h
          exact d_zret S hr hlk rfl hW (Nat.le_of_ble_eq_true rfl) (Nat.le_of_ble_eq_true rfl) dX3_isFull_89
    have h := if_f h c_7
    by_cases c_14 : y2 = 5
    · have h := if_t h c_14
      refine lv_tableIn (off := 74) (tgt := 90) hx hb dX3_isFull_16 (by rw [c_14]; decide) (by rw [c_14]; decide) (by rw [c_14]; decide) (by decide) ?_
      refine lv_iload_n hx hb dX3_isFull_90 rfl (lv_at hl 0 rfl) ?_
      refine lv_if_ne (tgt := 108) hx hb dX3_isFull_91 (by decide) (fun c_15 => ?_) (fun c_15 => ?_)
      · have h := if_f h c_15
        refine lv_iconst (v := 1) hx hb dX3_isFull_108 (by decide) ?_
        refine lv_goto (tgt := 113) hx hb dX3_isFull_109 (by decide) ?_
        cases h
        exact d_zret S hr hlk rfl hW (Nat.le_of_ble_eq_true rfl) (Nat.le_of_ble_eq_true rfl) dX3_isFull_113
      · have h := if_t h c_15
        refine lv_aload_n hx hb dX3_isFull_94 rfl (lv_at hl 2 rfl) ?_
        refine zw_getA S hW zC_X2 (i := 3) (by decide) (Or.inr ⟨_, nestW_in q399 rfl⟩) (fun _ h => h) dX3_isFull_95 h (fun a_16 h => ?_)
        obtain ⟨⟨_, k_17⟩, h⟩ := zK_some h
        obtain ⟨x_20, h_18, h⟩ := bnd_some h
        refine d_callF (As := []) (rest := []) S hW (metJ2_size h_18) (cwJ2_size_F S.2.2.2.2 q972 (hW.1.2.2.2.2.1.2.2.2.2.2.2.1 _ (List.mem_of_getElem? (i := 1) rfl)) ⟨Nat.le_of_ble_eq_true rfl, Nat.le_of_ble_eq_true rfl⟩) k_17 rfl rfl hl.1 rfl (Nat.le_of_ble_eq_true rfl) dX3_isFull_98 ⟨(Nat.le_of_ble_eq_true rfl), (Nat.le_of_ble_eq_true rfl)⟩ rfl (fun H locs hW => ?_)
        refine lv_bipush (v := 12) hx hb dX3_isFull_103 (by decide) ?_
        refine lv_icmp_ne (tgt := 112) hx hb dX3_isFull_105 (by decide) (fun c_21 => ?_) (fun c_21 => ?_)
        · have h := if_f h c_21
          refine lv_iconst (v := 0) hx hb dX3_isFull_112 (by decide) ?_
          cases h
          exact d_zret S hr hlk rfl hW (Nat.le_of_ble_eq_true rfl) (Nat.le_of_ble_eq_true rfl) dX3_isFull_113
        · have h := if_t h c_21
          refine lv_iconst (v := 1) hx hb dX3_isFull_108 (by decide) ?_
          refine lv_goto (tgt := 113) hx hb dX3_isFull_109 (by decide) ?_
          cases h
          exact d_zret S hr hlk rfl hW (Nat.le_of_ble_eq_true rfl) (Nat.le_of_ble_eq_true rfl) dX3_isFull_113
    have h := if_f h c_14
    by_cases c_22 : y2 = 6
    · have h := if_t h c_22
      refine lv_tableIn (off := 98) (tgt := 114) hx hb dX3_isFull_16 (by rw [c_22]; decide) (by rw [c_22]; decide) (by rw [c_22]; decide) (by decide) ?_
      refine lv_iload_n hx hb dX3_isFull_114 rfl (lv_at hl 0 rfl) ?_
      refine lv_if_ne (tgt := 125) hx hb dX3_isFull_115 (by decide) (fun c_23 => ?_) (fun c_23 => ?_)
      · have h := if_f h c_23
        refine lv_iconst (v := 1) hx hb dX3_isFull_125 (by decide) ?_
        refine lv_goto (tgt := 130) hx hb dX3_isFull_126 (by decide) ?_
        cases h
        exact d_zret S hr hlk rfl hW (Nat.le_of_ble_eq_true rfl) (Nat.le_of_ble_eq_true rfl) dX3_isFull_130
      · have h := if_t h c_23
        refine lv_aload_n hx hb dX3_isFull_118 rfl (lv_at hl 1 rfl) ?_
        refine zw_getI S hW zC_X3 (i := 10) (by decide) (Or.inl q837) (fun _ h => h) dX3_isFull_119 h (fun x_24 h => ?_)
        refine lv_if_eq (tgt := 129) hx hb dX3_isFull_122 (by decide) (fun c_25 => ?_) (fun c_25 => ?_)
        · have h := if_t h c_25
          refine lv_iconst (v := 0) hx hb dX3_isFull_129 (by decide) ?_
          cases h
          exact d_zret S hr hlk rfl hW (Nat.le_of_ble_eq_true rfl) (Nat.le_of_ble_eq_true rfl) dX3_isFull_130
        · have h := if_f h c_25
          refine lv_iconst (v := 1) hx hb dX3_isFull_125 (by decide) ?_
          refine lv_goto (tgt := 130) hx hb dX3_isFull_126 (by decide) ?_
          cases h
          exact d_zret S hr hlk rfl hW (Nat.le_of_ble_eq_true rfl) (Nat.le_of_ble_eq_true rfl) dX3_isFull_130
    have h := if_f h c_22
    by_cases c_26 : y2 = 7
    · have h := if_t h c_26
      refine lv_tableIn (off := 115) (tgt := 131) hx hb dX3_isFull_16 (by rw [c_26]; decide) (by rw [c_26]; decide) (by rw [c_26]; decide) (by decide) ?_
      refine lv_iload_n hx hb dX3_isFull_131 rfl (lv_at hl 0 rfl) ?_
      refine lv_if_ne (tgt := 149) hx hb dX3_isFull_132 (by decide) (fun c_27 => ?_) (fun c_27 => ?_)
      · have h := if_f h c_27
        refine lv_iconst (v := 1) hx hb dX3_isFull_149 (by decide) ?_
        refine lv_goto (tgt := 154) hx hb dX3_isFull_150 (by decide) ?_
        cases h
        exact d_zret S hr hlk rfl hW (Nat.le_of_ble_eq_true rfl) (Nat.le_of_ble_eq_true rfl) dX3_isFull_154
      · have h := if_t h c_27
        refine lv_aload_n hx hb dX3_isFull_135 rfl (lv_at hl 2 rfl) ?_
        refine zw_getA S hW zC_X2 (i := 4) (by decide) (Or.inr ⟨_, nestW_in q402 rfl⟩) (fun _ h => h) dX3_isFull_136 h (fun a_28 h => ?_)
        obtain ⟨⟨_, k_29⟩, h⟩ := zK_some h
        obtain ⟨x_32, h_30, h⟩ := bnd_some h
        refine d_callF (As := []) (rest := []) S hW (metJ2_size h_30) (cwJ2_size_F S.2.2.2.2 q972 (hW.1.2.2.2.2.1.2.2.2.2.2.2.1 _ (List.mem_of_getElem? (i := 1) rfl)) ⟨Nat.le_of_ble_eq_true rfl, Nat.le_of_ble_eq_true rfl⟩) k_29 rfl rfl hl.1 rfl (Nat.le_of_ble_eq_true rfl) dX3_isFull_139 ⟨(Nat.le_of_ble_eq_true rfl), (Nat.le_of_ble_eq_true rfl)⟩ rfl (fun H locs hW => ?_)
        refine lv_bipush (v := 6) hx hb dX3_isFull_144 (by decide) ?_
        refine lv_icmp_ne (tgt := 153) hx hb dX3_isFull_146 (by decide) (fun c_33 => ?_) (fun c_33 => ?_)
        · have h := if_f h c_33
          refine lv_iconst (v := 0) hx hb dX3_isFull_153 (by decide) ?_
          cases h
          exact d_zret S hr hlk rfl hW (Nat.le_of_ble_eq_true rfl) (Nat.le_of_ble_eq_true rfl) dX3_isFull_154
        · have h := if_t h c_33
          refine lv_iconst (v := 1) hx hb dX3_isFull_149 (by decide) ?_
          refine lv_goto (tgt := 154) hx hb dX3_isFull_150 (by decide) ?_
          cases h
          exact d_zret S hr hlk rfl hW (Nat.le_of_ble_eq_true rfl) (Nat.le_of_ble_eq_true rfl) dX3_isFull_154
    have h := if_f h c_26
    by_cases c_34 : y2 = 8
    · have h := if_t h c_34
      refine lv_tableIn (off := 139) (tgt := 155) hx hb dX3_isFull_16 (by rw [c_34]; decide) (by rw [c_34]; decide) (by rw [c_34]; decide) (by decide) ?_
      refine lv_iload_n hx hb dX3_isFull_155 rfl (lv_at hl 0 rfl) ?_
      refine lv_if_ne (tgt := 172) hx hb dX3_isFull_156 (by decide) (fun c_35 => ?_) (fun c_35 => ?_)
      · have h := if_f h c_35
        refine lv_iconst (v := 1) hx hb dX3_isFull_172 (by decide) ?_
        refine lv_goto (tgt := 177) hx hb dX3_isFull_173 (by decide) ?_
        cases h
        exact d_zret S hr hlk rfl hW (Nat.le_of_ble_eq_true rfl) (Nat.le_of_ble_eq_true rfl) dX3_isFull_177
      · have h := if_t h c_35
        refine lv_aload_n hx hb dX3_isFull_159 rfl (lv_at hl 2 rfl) ?_
        refine zw_getA S hW zC_X2 (i := 5) (by decide) (Or.inr ⟨_, nestW_in q404 rfl⟩) (fun _ h => h) dX3_isFull_160 h (fun a_36 h => ?_)
        obtain ⟨⟨_, k_37⟩, h⟩ := zK_some h
        obtain ⟨x_40, h_38, h⟩ := bnd_some h
        refine d_callF (As := []) (rest := []) S hW (metJ2_size h_38) (cwJ2_size_F S.2.2.2.2 q972 (hW.1.2.2.2.2.1.2.2.2.2.2.2.1 _ (List.mem_of_getElem? (i := 1) rfl)) ⟨Nat.le_of_ble_eq_true rfl, Nat.le_of_ble_eq_true rfl⟩) k_37 rfl rfl hl.1 rfl (Nat.le_of_ble_eq_true rfl) dX3_isFull_163 ⟨(Nat.le_of_ble_eq_true rfl), (Nat.le_of_ble_eq_true rfl)⟩ rfl (fun H locs hW => ?_)
        refine lv_iconst (v := 4) hx hb dX3_isFull_168 (by decide) ?_
        refine lv_icmp_ne (tgt := 176) hx hb dX3_isFull_169 (by decide) (fun c_41 => ?_) (fun c_41 => ?_)
        · have h := if_f h c_41
          refine lv_iconst (v := 0) hx hb dX3_isFull_176 (by decide) ?_
          cases h
          exact d_zret S hr hlk rfl hW (Nat.le_of_ble_eq_true rfl) (Nat.le_of_ble_eq_true rfl) dX3_isFull_177
        · have h := if_t h c_41
          refine lv_iconst (v := 1) hx hb dX3_isFull_172 (by decide) ?_
          refine lv_goto (tgt := 177) hx hb dX3_isFull_173 (by decide) ?_
          cases h
          exact d_zret S hr hlk rfl hW (Nat.le_of_ble_eq_true rfl) (Nat.le_of_ble_eq_true rfl) dX3_isFull_177
    have h := if_f h c_34
    have c_3 := lv_neT (a := 3) c_3 (by decide)
    have c_7 := lv_neT (a := 4) c_7 (by decide)
    have c_14 := lv_neT (a := 5) c_14 (by decide)
    have c_22 := lv_neT (a := 6) c_22 (by decide)
    have c_26 := lv_neT (a := 7) c_26 (by decide)
    have c_34 := lv_neT (a := 8) c_34 (by decide)
    refine lv_tableOut (tgt := 178) hx hb dX3_isFull_16 (by omega) (by decide) ?_
    refine lv_iload_n hx hb dX3_isFull_178 rfl (lv_at hl 0 rfl) ?_
    obtain ⟨h_42, h⟩ := okI_some h
    cases h
    exact d_zret S hr hlk (isB_narrow h_42) hW (Nat.le_of_ble_eq_true rfl) (Nat.le_of_ble_eq_true rfl) dX3_isFull_179
  unfold cm_X3_isFull at h
  refine lv_aload_n hx hb dX3_isFull_0 rfl (lv_at hl 1 rfl) ?_
  refine zw_getI S hW zC_X2 (i := 12) (by decide) (Or.inr ⟨_, nestW_in q422 rfl⟩) (fun _ h => h) dX3_isFull_1 h (fun x_1 h => ?_)
  refine lv_bipush (v := 40) hx hb dX3_isFull_4 (by decide) ?_
  refine lv_icmp_ne (tgt := 13) hx hb dX3_isFull_6 (by decide) (fun c_2 => ?_) (fun c_2 => ?_)
  · have h := if_f h c_2
    refine lv_iconst (v := 0) hx hb dX3_isFull_13 (by decide) ?_
    exact J14 a0 a1 a2 0 _ _ _ h hW hl
  · have h := if_t h c_2
    refine lv_iconst (v := 1) hx hb dX3_isFull_9 (by decide) ?_
    refine lv_goto (tgt := 14) hx hb dX3_isFull_10 (by decide) ?_
    exact J14 a0 a1 a2 1 _ _ _ h hW hl
def cm_X3_isSign (Z0 : c_S) (a0 : Nat) (a1 : Int32) : Option (Int32) :=
  cI Z0.Sh Z0.V a0 3 11 6 fun x_1 => if x_1 = 3 then (cI Z0.Sh Z0.V a0 3 11 8 fun x_3 => if x_3 = a1 then (some 1) else (some 0)) else (some 0)
abbrev rmX3_isSign : Room := rmD 0 0 0 0
set_option maxHeartbeats 4000000 in
theorem metX3_isSign {l : Launch} {gp : Nat → Nat} {D : va_G} {K : Nat → ClassId} {Z0 : c_S} {a0 : Nat} {a1 : Int32} {r : Int32} (h : cm_X3_isSign Z0 a0 a1 = some r) : Met l yX3_isSign (ws_ yX3_isSign cX3_isSign 2 (some .boolean)) rmX3_isSign (z_Pc gp [.ref a0, .int a1] D K Z0) (z_Q (.returned (some (.int r))) D K (z_A Z0) Z0) 0 0 (z_A Z0) := by
  refine d_met rfl (Nat.le_of_ble_eq_true rfl) ?_
  intro p e s m below meth c ls S hr hlk hnm hl hW hsz
  have S : CallFix p m c cX3_isSign 2 s ([.ref a0, .int a1] : List Value).toArray lw_all RX3 := S
  have hx := S.1
  have hb := S.2.1
  have hl : lv_has ls 2 [(0, .ref a0), (1, .int a1)] := hl
  have hnm : meth.name = "isSign" := hnm
  unfold cm_X3_isSign at h
  refine lv_aload_n hx hb dX3_isSign_0 rfl (lv_at hl 0 rfl) ?_
  refine zw_getI S hW zC_X3 (i := 6) (by decide) (Or.inl q833) (fun _ h => h) dX3_isSign_1 h (fun x_1 h => ?_)
  refine lv_iconst (v := 3) hx hb dX3_isSign_4 (by decide) ?_
  refine lv_icmp_ne (tgt := 20) hx hb dX3_isSign_5 (by decide) (fun c_2 => ?_) (fun c_2 => ?_)
  · have h := if_f h c_2
    refine lv_iconst (v := 0) hx hb dX3_isSign_20 (by decide) ?_
    cases h
    exact d_zret S hr hlk rfl hW (Nat.le_of_ble_eq_true rfl) (Nat.le_of_ble_eq_true rfl) dX3_isSign_21
  · have h := if_t h c_2
    refine lv_aload_n hx hb dX3_isSign_8 rfl (lv_at hl 0 rfl) ?_
    refine zw_getI S hW zC_X3 (i := 8) (by decide) (Or.inl q835) (fun _ h => h) dX3_isSign_9 h (fun x_3 h => ?_)
    refine lv_iload_n hx hb dX3_isSign_12 rfl (lv_at hl 1 rfl) ?_
    refine lv_icmp_ne (tgt := 20) hx hb dX3_isSign_13 (by decide) (fun c_4 => ?_) (fun c_4 => ?_)
    · have h := if_f h c_4
      refine lv_iconst (v := 0) hx hb dX3_isSign_20 (by decide) ?_
      cases h
      exact d_zret S hr hlk rfl hW (Nat.le_of_ble_eq_true rfl) (Nat.le_of_ble_eq_true rfl) dX3_isSign_21
    · have h := if_t h c_4
      refine lv_iconst (v := 1) hx hb dX3_isSign_16 (by decide) ?_
      refine lv_goto (tgt := 21) hx hb dX3_isSign_17 (by decide) ?_
      cases h
      exact d_zret S hr hlk rfl hW (Nat.le_of_ble_eq_true rfl) (Nat.le_of_ble_eq_true rfl) dX3_isSign_21
def cm_X4_init (Z0 : c_S) (a0 : Nat) (a1 : Int32) (a2 : Int32) (a3 : Int32) (a4 : Int32) : Option (c_S) :=
  zPI Z0 a0 4 4 0 a1 fun Z_1 => zPI Z_1 a0 4 4 1 a2 fun Z_2 => zPI Z_2 a0 4 4 2 a3 fun Z_3 => zPI Z_3 a0 4 4 3 a4 fun Z_4 => some Z_4
abbrev rmX4_init : Room := rmD 1 20 0 0
set_option maxHeartbeats 4000000 in
theorem metX4_init {l : Launch} {gp : Nat → Nat} {D : va_G} {K : Nat → ClassId} {Z0 : c_S} {a0 : Nat} {a1 : Int32} {a2 : Int32} {a3 : Int32} {a4 : Int32} {Z' : c_S} (h : cm_X4_init Z0 a0 a1 a2 a3 a4 = some Z') : Met l yX4_init (ws_ yX4_init cX4_init 5 (none)) rmX4_init (z_Pc gp [.ref a0, .int a1, .int a2, .int a3, .int a4] D K Z0) (z_Q (.returned (none)) D K (z_A Z0) Z') 0 0 (z_A Z0) := by
  refine d_met rfl (Nat.le_of_ble_eq_true rfl) ?_
  intro p e s m below meth c ls S hr hlk hnm hl hW hsz
  have S : CallFix p m c cX4_init 5 s ([.ref a0, .int a1, .int a2, .int a3, .int a4] : List Value).toArray lw_all RX4 := S
  have hx := S.1
  have hb := S.2.1
  have hl : lv_has ls 5 [(0, .ref a0), (1, .int a1), (2, .int a2), (3, .int a3), (4, .int a4)] := hl
  have hnm : meth.name = "<init>" := hnm
  unfold cm_X4_init at h
  refine lv_aload_n hx hb dX4_init_0 rfl (lv_at hl 0 rfl) ?_
  refine zw_oinit S q458 hl.1 (Nat.le_of_ble_eq_true rfl) (z_ro (Nat.le_of_ble_eq_true rfl)) (Nat.le_of_ble_eq_true rfl) dX4_init_1 ?_
  refine lv_aload_n hx hb dX4_init_4 rfl (lv_at hl 0 rfl) ?_
  refine lv_iload_n hx hb dX4_init_5 rfl (lv_at hl 1 rfl) ?_
  refine zw_putI S hW zC_X4 (i := 0) (by decide) (Or.inr ⟨rfl, hnm, rfl, q459⟩) rfl rfl rfl (Or.inl q459) (fun _ h => h) dX4_init_6 h (fun Z_1 h H locs hW => ?_)
  refine lv_aload_n hx hb dX4_init_9 rfl (lv_at hl 0 rfl) ?_
  refine lv_iload_n hx hb dX4_init_10 rfl (lv_at hl 2 rfl) ?_
  refine zw_putI S hW zC_X4 (i := 1) (by decide) (Or.inr ⟨rfl, hnm, rfl, q461⟩) rfl rfl rfl (Or.inl q461) (fun _ h => h) dX4_init_11 h (fun Z_2 h H locs hW => ?_)
  refine lv_aload_n hx hb dX4_init_14 rfl (lv_at hl 0 rfl) ?_
  refine lv_iload_n hx hb dX4_init_15 rfl (lv_at hl 3 rfl) ?_
  refine zw_putI S hW zC_X4 (i := 2) (by decide) (Or.inr ⟨rfl, hnm, rfl, q463⟩) rfl rfl rfl (Or.inl q463) (fun _ h => h) dX4_init_16 h (fun Z_3 h H locs hW => ?_)
  refine lv_aload_n hx hb dX4_init_19 rfl (lv_at hl 0 rfl) ?_
  refine lv_iload hx hb dX4_init_20 (lv_at hl 4 rfl) ?_
  refine zw_putI S hW zC_X4 (i := 3) (by decide) (Or.inr ⟨rfl, hnm, rfl, q465⟩) rfl rfl rfl (Or.inl q465) (fun _ h => h) dX4_init_22 h (fun Z_4 h H locs hW => ?_)
  cases h
  exact d_vret S hr hlk hW (Nat.le_of_ble_eq_true rfl) (Nat.le_of_ble_eq_true rfl) dX4_init_25
def cm_X5_init (Z0 : c_S) (a0 : Nat) (a1 : Int32) (a2 : Int32) (a3 : Int32) : Option (c_S) :=
  zPI Z0 a0 5 6 3 1 fun Z_1 => zPI Z_1 a0 5 6 0 a1 fun Z_2 => zPI Z_2 a0 5 6 1 a2 fun Z_3 => zPI Z_3 a0 5 6 2 a3 fun Z_4 => some Z_4
abbrev rmX5_init : Room := rmD 1 20 0 0
set_option maxHeartbeats 4000000 in
theorem metX5_init {l : Launch} {gp : Nat → Nat} {D : va_G} {K : Nat → ClassId} {Z0 : c_S} {a0 : Nat} {a1 : Int32} {a2 : Int32} {a3 : Int32} {Z' : c_S} (h : cm_X5_init Z0 a0 a1 a2 a3 = some Z') : Met l yX5_init (ws_ yX5_init cX5_init 4 (none)) rmX5_init (z_Pc gp [.ref a0, .int a1, .int a2, .int a3] D K Z0) (z_Q (.returned (none)) D K (z_A Z0) Z') 0 0 (z_A Z0) := by
  refine d_met rfl (Nat.le_of_ble_eq_true rfl) ?_
  intro p e s m below meth c ls S hr hlk hnm hl hW hsz
  have S : CallFix p m c cX5_init 4 s ([.ref a0, .int a1, .int a2, .int a3] : List Value).toArray lw_all RX5 := S
  have hx := S.1
  have hb := S.2.1
  have hl : lv_has ls 4 [(0, .ref a0), (1, .int a1), (2, .int a2), (3, .int a3)] := hl
  have hnm : meth.name = "<init>" := hnm
  unfold cm_X5_init at h
  refine lv_aload_n hx hb dX5_init_0 rfl (lv_at hl 0 rfl) ?_
  refine zw_oinit S q534 hl.1 (Nat.le_of_ble_eq_true rfl) (z_ro (Nat.le_of_ble_eq_true rfl)) (Nat.le_of_ble_eq_true rfl) dX5_init_1 ?_
  refine lv_aload_n hx hb dX5_init_4 rfl (lv_at hl 0 rfl) ?_
  refine lv_iconst (v := 1) hx hb dX5_init_5 (by decide) ?_
  refine zw_putI S hW zC_X5 (i := 3) (by decide) (Or.inl rfl) rfl rfl rfl (Or.inl q545) (fun _ h => h) dX5_init_6 h (fun Z_1 h H locs hW => ?_)
  refine lv_aload_n hx hb dX5_init_9 rfl (lv_at hl 0 rfl) ?_
  refine lv_iload_n hx hb dX5_init_10 rfl (lv_at hl 1 rfl) ?_
  refine zw_putI S hW zC_X5 (i := 0) (by decide) (Or.inr ⟨rfl, hnm, rfl, q535⟩) rfl rfl rfl (Or.inl q535) (fun _ h => h) dX5_init_11 h (fun Z_2 h H locs hW => ?_)
  refine lv_aload_n hx hb dX5_init_14 rfl (lv_at hl 0 rfl) ?_
  refine lv_iload_n hx hb dX5_init_15 rfl (lv_at hl 2 rfl) ?_
  refine zw_putI S hW zC_X5 (i := 1) (by decide) (Or.inr ⟨rfl, hnm, rfl, q539⟩) rfl rfl rfl (Or.inl q539) (fun _ h => h) dX5_init_16 h (fun Z_3 h H locs hW => ?_)
  refine lv_aload_n hx hb dX5_init_19 rfl (lv_at hl 0 rfl) ?_
  refine lv_iload_n hx hb dX5_init_20 rfl (lv_at hl 3 rfl) ?_
  refine zw_putI S hW zC_X5 (i := 2) (by decide) (Or.inr ⟨rfl, hnm, rfl, q542⟩) rfl rfl rfl (Or.inl q542) (fun _ h => h) dX5_init_21 h (fun Z_4 h H locs hW => ?_)
  cases h
  exact d_vret S hr hlk hW (Nat.le_of_ble_eq_true rfl) (Nat.le_of_ble_eq_true rfl) dX5_init_24
def cm_X6_init (Z0 : c_S) (a0 : Nat) (a1 : Int32) (a2 : Int32) : Option (c_S) :=
  zPI Z0 a0 6 3 2 (-1) fun Z_1 => zPI Z_1 a0 6 3 0 a1 fun Z_2 => zPI Z_2 a0 6 3 1 a2 fun Z_3 => some Z_3
abbrev rmX6_init : Room := rmD 1 20 0 0
set_option maxHeartbeats 4000000 in
theorem metX6_init {l : Launch} {gp : Nat → Nat} {D : va_G} {K : Nat → ClassId} {Z0 : c_S} {a0 : Nat} {a1 : Int32} {a2 : Int32} {Z' : c_S} (h : cm_X6_init Z0 a0 a1 a2 = some Z') : Met l yX6_init (ws_ yX6_init cX6_init 3 (none)) rmX6_init (z_Pc gp [.ref a0, .int a1, .int a2] D K Z0) (z_Q (.returned (none)) D K (z_A Z0) Z') 0 0 (z_A Z0) := by
  refine d_met rfl (Nat.le_of_ble_eq_true rfl) ?_
  intro p e s m below meth c ls S hr hlk hnm hl hW hsz
  have S : CallFix p m c cX6_init 3 s ([.ref a0, .int a1, .int a2] : List Value).toArray lw_all RX6 := S
  have hx := S.1
  have hb := S.2.1
  have hl : lv_has ls 3 [(0, .ref a0), (1, .int a1), (2, .int a2)] := hl
  have hnm : meth.name = "<init>" := hnm
  unfold cm_X6_init at h
  refine lv_aload_n hx hb dX6_init_0 rfl (lv_at hl 0 rfl) ?_
  refine zw_oinit S q647 hl.1 (Nat.le_of_ble_eq_true rfl) (z_ro (Nat.le_of_ble_eq_true rfl)) (Nat.le_of_ble_eq_true rfl) dX6_init_1 ?_
  refine lv_aload_n hx hb dX6_init_4 rfl (lv_at hl 0 rfl) ?_
  refine lv_iconst (v := (-1)) hx hb dX6_init_5 (by decide) ?_
  refine zw_putI S hW zC_X6 (i := 2) (by decide) (Or.inl rfl) rfl rfl rfl (Or.inl q654) (fun _ h => h) dX6_init_6 h (fun Z_1 h H locs hW => ?_)
  refine lv_aload_n hx hb dX6_init_9 rfl (lv_at hl 0 rfl) ?_
  refine lv_iload_n hx hb dX6_init_10 rfl (lv_at hl 1 rfl) ?_
  refine zw_putI S hW zC_X6 (i := 0) (by decide) (Or.inr ⟨rfl, hnm, rfl, q648⟩) rfl rfl rfl (Or.inl q648) (fun _ h => h) dX6_init_11 h (fun Z_2 h H locs hW => ?_)
  refine lv_aload_n hx hb dX6_init_14 rfl (lv_at hl 0 rfl) ?_
  refine lv_iload_n hx hb dX6_init_15 rfl (lv_at hl 2 rfl) ?_
  refine zw_putI S hW zC_X6 (i := 1) (by decide) (Or.inr ⟨rfl, hnm, rfl, q651⟩) rfl rfl rfl (Or.inl q651) (fun _ h => h) dX6_init_16 h (fun Z_3 h H locs hW => ?_)
  cases h
  exact d_vret S hr hlk hW (Nat.le_of_ble_eq_true rfl) (Nat.le_of_ble_eq_true rfl) dX6_init_19
def cm_X7_width (Z0 : c_S) (a0 : Nat) : Option (Int32) :=
  cR Z0.Sh a0 7 1 0 fun o_1 => zIs Z0 o_1 1 fun x_2 => if x_2 = 0 then (cR Z0.Sh a0 7 1 0 fun o_4 => zIs Z0 o_4 3 fun x_5 => if x_5 = 0 then (cR Z0.Sh a0 7 1 0 fun o_7 => zIs Z0 o_7 0 fun x_8 => if x_8 = 0 then (some 3) else (some 2)) else (some 1)) else (some 0)
abbrev rmX7_width : Room := rmD 0 0 0 0
set_option maxHeartbeats 4000000 in
theorem metX7_width {l : Launch} {gp : Nat → Nat} {D : va_G} {K : Nat → ClassId} {Z0 : c_S} {a0 : Nat} {r : Int32} (h : cm_X7_width Z0 a0 = some r) : Met l yX7_width (ws_ yX7_width cX7_width 1 (some .int)) rmX7_width (z_Pc gp [.ref a0] D K Z0) (z_Q (.returned (some (.int r))) D K (z_A Z0) Z0) 0 0 (z_A Z0) := by
  refine d_met rfl (Nat.le_of_ble_eq_true rfl) ?_
  intro p e s m below meth c ls S hr hlk hnm hl hW hsz
  have S : CallFix p m c cX7_width 1 s ([.ref a0] : List Value).toArray lw_all RX7 := S
  have hx := S.1
  have hb := S.2.1
  have hl : lv_has ls 1 [(0, .ref a0)] := hl
  have hnm : meth.name = "width" := hnm
  unfold cm_X7_width at h
  refine lv_aload_n hx hb dX7_width_0 rfl (lv_at hl 0 rfl) ?_
  refine zw_getR S hW zC_X7 (i := 0) (by decide) (Or.inl q749) (fun _ h => h) dX7_width_1 h (fun o_1 h => ?_)
  refine zw_inst (o := o_1) (t := 1) S hW (by decide) q304 dX7_width_4 h (fun x_2 h => ?_)
  refine lv_if_eq (tgt := 14) hx hb dX7_width_7 (by decide) (fun c_3 => ?_) (fun c_3 => ?_)
  · have h := if_t h c_3
    refine lv_aload_n hx hb dX7_width_14 rfl (lv_at hl 0 rfl) ?_
    refine zw_getR S hW zC_X7 (i := 0) (by decide) (Or.inl q749) (fun _ h => h) dX7_width_15 h (fun o_4 h => ?_)
    refine zw_inst (o := o_4) (t := 3) S hW (by decide) q305 dX7_width_18 h (fun x_5 h => ?_)
    refine lv_if_eq (tgt := 28) hx hb dX7_width_21 (by decide) (fun c_6 => ?_) (fun c_6 => ?_)
    · have h := if_t h c_6
      refine lv_aload_n hx hb dX7_width_28 rfl (lv_at hl 0 rfl) ?_
      refine zw_getR S hW zC_X7 (i := 0) (by decide) (Or.inl q749) (fun _ h => h) dX7_width_29 h (fun o_7 h => ?_)
      refine zw_inst (o := o_7) (t := 0) S hW (by decide) q324 dX7_width_32 h (fun x_8 h => ?_)
      refine lv_if_eq (tgt := 42) hx hb dX7_width_35 (by decide) (fun c_9 => ?_) (fun c_9 => ?_)
      · have h := if_t h c_9
        refine lv_iconst (v := 3) hx hb dX7_width_42 (by decide) ?_
        cases h
        exact d_iret S hr hlk hW (Nat.le_of_ble_eq_true rfl) (Nat.le_of_ble_eq_true rfl) dX7_width_43
      · have h := if_f h c_9
        refine lv_iconst (v := 2) hx hb dX7_width_38 (by decide) ?_
        refine lv_goto (tgt := 43) hx hb dX7_width_39 (by decide) ?_
        cases h
        exact d_iret S hr hlk hW (Nat.le_of_ble_eq_true rfl) (Nat.le_of_ble_eq_true rfl) dX7_width_43
    · have h := if_f h c_6
      refine lv_iconst (v := 1) hx hb dX7_width_24 (by decide) ?_
      refine lv_goto (tgt := 43) hx hb dX7_width_25 (by decide) ?_
      cases h
      exact d_iret S hr hlk hW (Nat.le_of_ble_eq_true rfl) (Nat.le_of_ble_eq_true rfl) dX7_width_43
  · have h := if_f h c_3
    refine lv_iconst (v := 0) hx hb dX7_width_10 (by decide) ?_
    refine lv_goto (tgt := 43) hx hb dX7_width_11 (by decide) ?_
    cases h
    exact d_iret S hr hlk hW (Nat.le_of_ble_eq_true rfl) (Nat.le_of_ble_eq_true rfl) dX7_width_43
def cm_X7_init (a0 : Nat) : Option (Unit) :=
  some ()
abbrev rmX7_init : Room := rmD 1 20 0 0
set_option maxHeartbeats 4000000 in
theorem metX7_init {l : Launch} {gp : Nat → Nat} {D : va_G} {K : Nat → ClassId} {Z0 : c_S} {a0 : Nat} (h : cm_X7_init a0 = some ()) : Met l yX7_init (ws_ yX7_init cX7_init 1 (none)) rmX7_init (z_Pc gp [.ref a0] D K Z0) (z_Q (.returned (none)) D K (z_A Z0) Z0) 0 0 (z_A Z0) := by
  refine d_met rfl (Nat.le_of_ble_eq_true rfl) ?_
  intro p e s m below meth c ls S hr hlk hnm hl hW hsz
  have S : CallFix p m c cX7_init 1 s ([.ref a0] : List Value).toArray lw_all RX7 := S
  have hx := S.1
  have hb := S.2.1
  have hl : lv_has ls 1 [(0, .ref a0)] := hl
  have hnm : meth.name = "<init>" := hnm
  unfold cm_X7_init at h
  refine lv_aload_n hx hb dX7_init_0 rfl (lv_at hl 0 rfl) ?_
  refine zw_oinit S q748 hl.1 (Nat.le_of_ble_eq_true rfl) (z_ro (Nat.le_of_ble_eq_true rfl)) (Nat.le_of_ble_eq_true rfl) dX7_init_1 ?_
  exact d_vret S hr hlk hW (Nat.le_of_ble_eq_true rfl) (Nat.le_of_ble_eq_true rfl) dX7_init_4
def cm_X7_many (Z0 : c_S) (a0 : Nat) : Option (Int32) :=
  cR Z0.Sh a0 7 1 0 fun o_1 => zIs Z0 o_1 1 fun x_2 => if x_2 = 0 then (cR Z0.Sh a0 7 1 0 fun o_4 => zIs Z0 o_4 3 fun x_5 => if x_5 = 0 then (cR Z0.Sh a0 7 1 0 fun o_7 => zIs Z0 o_7 0 fun x_8 => if x_8 = 0 then (cR Z0.Sh a0 7 1 0 fun o_10 => zCa Z0 o_10 4 <| nn o_10 fun a_11 => zLen Z0 a_11 fun x_12 => some x_12) else (cR Z0.Sh a0 7 1 0 fun o_13 => zCa Z0 o_13 0 <| nn o_13 fun a_14 => zLen Z0 a_14 fun x_15 => some x_15)) else (cR Z0.Sh a0 7 1 0 fun o_16 => zCa Z0 o_16 3 <| nn o_16 fun a_17 => zLen Z0 a_17 fun x_18 => some x_18)) else (cR Z0.Sh a0 7 1 0 fun o_19 => zCa Z0 o_19 1 <| nn o_19 fun a_20 => zLen Z0 a_20 fun x_21 => some x_21)
abbrev rmX7_many : Room := rmD 0 0 0 0
set_option maxHeartbeats 4000000 in
theorem metX7_many {l : Launch} {gp : Nat → Nat} {D : va_G} {K : Nat → ClassId} {Z0 : c_S} {a0 : Nat} {r : Int32} (h : cm_X7_many Z0 a0 = some r) : Met l yX7_many (ws_ yX7_many cX7_many 1 (some .int)) rmX7_many (z_Pc gp [.ref a0] D K Z0) (z_Q (.returned (some (.int r))) D K (z_A Z0) Z0) 0 0 (z_A Z0) := by
  refine d_met rfl (Nat.le_of_ble_eq_true rfl) ?_
  intro p e s m below meth c ls S hr hlk hnm hl hW hsz
  have S : CallFix p m c cX7_many 1 s ([.ref a0] : List Value).toArray lw_all RX7 := S
  have hx := S.1
  have hb := S.2.1
  have hl : lv_has ls 1 [(0, .ref a0)] := hl
  have hnm : meth.name = "many" := hnm
  unfold cm_X7_many at h
  refine lv_aload_n hx hb dX7_many_0 rfl (lv_at hl 0 rfl) ?_
  refine zw_getR S hW zC_X7 (i := 0) (by decide) (Or.inl q749) (fun _ h => h) dX7_many_1 h (fun o_1 h => ?_)
  refine zw_inst (o := o_1) (t := 1) S hW (by decide) q304 dX7_many_4 h (fun x_2 h => ?_)
  refine lv_if_eq (tgt := 19) hx hb dX7_many_7 (by decide) (fun c_3 => ?_) (fun c_3 => ?_)
  · have h := if_t h c_3
    refine lv_aload_n hx hb dX7_many_19 rfl (lv_at hl 0 rfl) ?_
    refine zw_getR S hW zC_X7 (i := 0) (by decide) (Or.inl q749) (fun _ h => h) dX7_many_20 h (fun o_4 h => ?_)
    refine zw_inst (o := o_4) (t := 3) S hW (by decide) q305 dX7_many_23 h (fun x_5 h => ?_)
    refine lv_if_eq (tgt := 38) hx hb dX7_many_26 (by decide) (fun c_6 => ?_) (fun c_6 => ?_)
    · have h := if_t h c_6
      refine lv_aload_n hx hb dX7_many_38 rfl (lv_at hl 0 rfl) ?_
      refine zw_getR S hW zC_X7 (i := 0) (by decide) (Or.inl q749) (fun _ h => h) dX7_many_39 h (fun o_7 h => ?_)
      refine zw_inst (o := o_7) (t := 0) S hW (by decide) q324 dX7_many_42 h (fun x_8 h => ?_)
      refine lv_if_eq (tgt := 59) hx hb dX7_many_45 (by decide) (fun c_9 => ?_) (fun c_9 => ?_)
      · have h := if_t h c_9
        refine lv_aload_n hx hb dX7_many_59 rfl (lv_at hl 0 rfl) ?_
        refine zw_getR S hW zC_X7 (i := 0) (by decide) (Or.inl q749) (fun _ h => h) dX7_many_60 h (fun o_10 h => ?_)
        refine zw_castA (o := o_10) (t := 4) S hW q325 dX7_many_63 h (fun h => ?_)
        have h9 := nn_some h
        clear h
        obtain ⟨a_11, rfl, h8⟩ := h9
        have h := h8
        clear h8
        refine zw_len S hW dX7_many_66 h (fun x_12 h => ?_)
        cases h
        exact d_iret S hr hlk hW (Nat.le_of_ble_eq_true rfl) (Nat.le_of_ble_eq_true rfl) dX7_many_67
      · have h := if_f h c_9
        refine lv_aload_n hx hb dX7_many_48 rfl (lv_at hl 0 rfl) ?_
        refine zw_getR S hW zC_X7 (i := 0) (by decide) (Or.inl q749) (fun _ h => h) dX7_many_49 h (fun o_13 h => ?_)
        refine zw_castA (o := o_13) (t := 0) S hW q324 dX7_many_52 h (fun h => ?_)
        have h9 := nn_some h
        clear h
        obtain ⟨a_14, rfl, h8⟩ := h9
        have h := h8
        clear h8
        refine zw_len S hW dX7_many_55 h (fun x_15 h => ?_)
        refine lv_goto (tgt := 67) hx hb dX7_many_56 (by decide) ?_
        cases h
        exact d_iret S hr hlk hW (Nat.le_of_ble_eq_true rfl) (Nat.le_of_ble_eq_true rfl) dX7_many_67
    · have h := if_f h c_6
      refine lv_aload_n hx hb dX7_many_29 rfl (lv_at hl 0 rfl) ?_
      refine zw_getR S hW zC_X7 (i := 0) (by decide) (Or.inl q749) (fun _ h => h) dX7_many_30 h (fun o_16 h => ?_)
      refine zw_castA (o := o_16) (t := 3) S hW q305 dX7_many_33 h (fun h => ?_)
      have h9 := nn_some h
      clear h
      obtain ⟨a_17, rfl, h8⟩ := h9
      have h := h8
      clear h8
      refine zw_len S hW dX7_many_36 h (fun x_18 h => ?_)
      cases h
      exact d_iret S hr hlk hW (Nat.le_of_ble_eq_true rfl) (Nat.le_of_ble_eq_true rfl) dX7_many_37
  · have h := if_f h c_3
    refine lv_aload_n hx hb dX7_many_10 rfl (lv_at hl 0 rfl) ?_
    refine zw_getR S hW zC_X7 (i := 0) (by decide) (Or.inl q749) (fun _ h => h) dX7_many_11 h (fun o_19 h => ?_)
    refine zw_castA (o := o_19) (t := 1) S hW q304 dX7_many_14 h (fun h => ?_)
    have h9 := nn_some h
    clear h
    obtain ⟨a_20, rfl, h8⟩ := h9
    have h := h8
    clear h8
    refine zw_len S hW dX7_many_17 h (fun x_21 h => ?_)
    cases h
    exact d_iret S hr hlk hW (Nat.le_of_ble_eq_true rfl) (Nat.le_of_ble_eq_true rfl) dX7_many_18
def cm_X7_number (Z0 : c_S) (a0 : Nat) (a1 : Int32) : Option (Int64) :=
  cR Z0.Sh a0 7 1 0 fun o_1 => zIs Z0 o_1 1 fun x_2 => if x_2 = 0 then (cR Z0.Sh a0 7 1 0 fun o_4 => zIs Z0 o_4 3 fun x_5 => if x_5 = 0 then (cR Z0.Sh a0 7 1 0 fun o_7 => zIs Z0 o_7 0 fun x_8 => if x_8 = 0 then (cR Z0.Sh a0 7 1 0 fun o_10 => zCa Z0 o_10 4 <| nn o_10 fun a_11 => caL Z0.Sh Z0.L 4 a_11 a1 fun x_12 => some x_12) else (cR Z0.Sh a0 7 1 0 fun o_13 => zCa Z0 o_13 0 <| nn o_13 fun a_14 => caI Z0.Sh Z0.V 0 a_14 a1 fun x_15 => some x_15.toInt64)) else (cR Z0.Sh a0 7 1 0 fun o_16 => zCa Z0 o_16 3 <| nn o_16 fun a_17 => caI Z0.Sh Z0.V 3 a_17 a1 fun x_18 => some x_18.toInt64)) else (cR Z0.Sh a0 7 1 0 fun o_19 => zCa Z0 o_19 1 <| nn o_19 fun a_20 => caI Z0.Sh Z0.V 1 a_20 a1 fun x_21 => some x_21.toInt64)
abbrev rmX7_number : Room := rmD 0 0 0 0
set_option maxHeartbeats 4000000 in
theorem metX7_number {l : Launch} {gp : Nat → Nat} {D : va_G} {K : Nat → ClassId} {Z0 : c_S} {a0 : Nat} {a1 : Int32} {r : Int64} (h : cm_X7_number Z0 a0 a1 = some r) : Met l yX7_number (ws_ yX7_number cX7_number 2 (some .long)) rmX7_number (z_Pc gp [.ref a0, .int a1] D K Z0) (z_Q (.returned (some (.long r))) D K (z_A Z0) Z0) 0 0 (z_A Z0) := by
  refine d_met rfl (Nat.le_of_ble_eq_true rfl) ?_
  intro p e s m below meth c ls S hr hlk hnm hl hW hsz
  have S : CallFix p m c cX7_number 2 s ([.ref a0, .int a1] : List Value).toArray lw_all RX7 := S
  have hx := S.1
  have hb := S.2.1
  have hl : lv_has ls 2 [(0, .ref a0), (1, .int a1)] := hl
  have hnm : meth.name = "number" := hnm
  unfold cm_X7_number at h
  refine lv_aload_n hx hb dX7_number_0 rfl (lv_at hl 0 rfl) ?_
  refine zw_getR S hW zC_X7 (i := 0) (by decide) (Or.inl q749) (fun _ h => h) dX7_number_1 h (fun o_1 h => ?_)
  refine zw_inst (o := o_1) (t := 1) S hW (by decide) q304 dX7_number_4 h (fun x_2 h => ?_)
  refine lv_if_eq (tgt := 21) hx hb dX7_number_7 (by decide) (fun c_3 => ?_) (fun c_3 => ?_)
  · have h := if_t h c_3
    refine lv_aload_n hx hb dX7_number_21 rfl (lv_at hl 0 rfl) ?_
    refine zw_getR S hW zC_X7 (i := 0) (by decide) (Or.inl q749) (fun _ h => h) dX7_number_22 h (fun o_4 h => ?_)
    refine zw_inst (o := o_4) (t := 3) S hW (by decide) q305 dX7_number_25 h (fun x_5 h => ?_)
    refine lv_if_eq (tgt := 42) hx hb dX7_number_28 (by decide) (fun c_6 => ?_) (fun c_6 => ?_)
    · have h := if_t h c_6
      refine lv_aload_n hx hb dX7_number_42 rfl (lv_at hl 0 rfl) ?_
      refine zw_getR S hW zC_X7 (i := 0) (by decide) (Or.inl q749) (fun _ h => h) dX7_number_43 h (fun o_7 h => ?_)
      refine zw_inst (o := o_7) (t := 0) S hW (by decide) q324 dX7_number_46 h (fun x_8 h => ?_)
      refine lv_if_eq (tgt := 65) hx hb dX7_number_49 (by decide) (fun c_9 => ?_) (fun c_9 => ?_)
      · have h := if_t h c_9
        refine lv_aload_n hx hb dX7_number_65 rfl (lv_at hl 0 rfl) ?_
        refine zw_getR S hW zC_X7 (i := 0) (by decide) (Or.inl q749) (fun _ h => h) dX7_number_66 h (fun o_10 h => ?_)
        refine zw_castA (o := o_10) (t := 4) S hW q325 dX7_number_69 h (fun h => ?_)
        refine lv_iload_n hx hb dX7_number_72 rfl (lv_at hl 1 rfl) ?_
        have h9 := nn_some h
        clear h
        obtain ⟨a_11, rfl, h8⟩ := h9
        have h := h8
        clear h8
        refine zw_lald S hW dX7_number_73 h (fun x_12 h => ?_)
        cases h
        exact d_lret S hr hlk hW (Nat.le_of_ble_eq_true rfl) (Nat.le_of_ble_eq_true rfl) dX7_number_74
      · have h := if_f h c_9
        refine lv_aload_n hx hb dX7_number_52 rfl (lv_at hl 0 rfl) ?_
        refine zw_getR S hW zC_X7 (i := 0) (by decide) (Or.inl q749) (fun _ h => h) dX7_number_53 h (fun o_13 h => ?_)
        refine zw_castA (o := o_13) (t := 0) S hW q324 dX7_number_56 h (fun h => ?_)
        refine lv_iload_n hx hb dX7_number_59 rfl (lv_at hl 1 rfl) ?_
        have h9 := nn_some h
        clear h
        obtain ⟨a_14, rfl, h8⟩ := h9
        have h := h8
        clear h8
        refine zw_iald S hW dX7_number_60 h (fun x_15 h => ?_)
        refine lv_i2l (v := x_15.toInt64) hx hb dX7_number_61 rfl ?_
        refine lv_goto (tgt := 74) hx hb dX7_number_62 (by decide) ?_
        cases h
        exact d_lret S hr hlk hW (Nat.le_of_ble_eq_true rfl) (Nat.le_of_ble_eq_true rfl) dX7_number_74
    · have h := if_f h c_6
      refine lv_aload_n hx hb dX7_number_31 rfl (lv_at hl 0 rfl) ?_
      refine zw_getR S hW zC_X7 (i := 0) (by decide) (Or.inl q749) (fun _ h => h) dX7_number_32 h (fun o_16 h => ?_)
      refine zw_castA (o := o_16) (t := 3) S hW q305 dX7_number_35 h (fun h => ?_)
      refine lv_iload_n hx hb dX7_number_38 rfl (lv_at hl 1 rfl) ?_
      have h9 := nn_some h
      clear h
      obtain ⟨a_17, rfl, h8⟩ := h9
      have h := h8
      clear h8
      refine zw_sald S hW dX7_number_39 h (fun x_18 h => ?_)
      refine lv_i2l (v := x_18.toInt64) hx hb dX7_number_40 rfl ?_
      cases h
      exact d_lret S hr hlk hW (Nat.le_of_ble_eq_true rfl) (Nat.le_of_ble_eq_true rfl) dX7_number_41
  · have h := if_f h c_3
    refine lv_aload_n hx hb dX7_number_10 rfl (lv_at hl 0 rfl) ?_
    refine zw_getR S hW zC_X7 (i := 0) (by decide) (Or.inl q749) (fun _ h => h) dX7_number_11 h (fun o_19 h => ?_)
    refine zw_castA (o := o_19) (t := 1) S hW q304 dX7_number_14 h (fun h => ?_)
    refine lv_iload_n hx hb dX7_number_17 rfl (lv_at hl 1 rfl) ?_
    have h9 := nn_some h
    clear h
    obtain ⟨a_20, rfl, h8⟩ := h9
    have h := h8
    clear h8
    refine zw_bald S hW dX7_number_18 h (fun x_21 h => ?_)
    refine lv_i2l (v := x_21.toInt64) hx hb dX7_number_19 rfl ?_
    cases h
    exact d_lret S hr hlk hW (Nat.le_of_ble_eq_true rfl) (Nat.le_of_ble_eq_true rfl) dX7_number_20
