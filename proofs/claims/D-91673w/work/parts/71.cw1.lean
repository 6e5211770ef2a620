/-! walks of the component: X0_isPipe X0_cold X0_gap X0_isAhead X0_chosen X0_gauge X0_lies X0_most X1_wants X1_lift X1_heat -/
set_option maxRecDepth 100000
def cm_X0_isPipe (Z0 : c_S) (a0 : Nat) (a1 : Int32) : Option (Int32) :=
  cA Z0.Sh a0 0 11 1 fun a_1 => cA Z0.Sh a_1 1 20 5 fun a_2 => zK Z0 a_2 14 3 <| bnd (cm_J2_size Z0 a_2) (fun x_6 => bnd (cm_X0_in a1.toInt64 0 ((x_6 - 1).toInt64)) (fun x_9 => okI (isB x_9) <| some x_9))
abbrev rmX0_isPipe : Room := rmD 1 25 0 0
theorem cwJ2_size_F {own : String} {R : Room} {s : State} {args : Array Value} {index : Nat} (hts : ∀ w ∈ lw_all, w.before args s = true) (hl : Cond.methodLink own index ⟨"java/util/List", "size", "()I"⟩ ∈ lw_all) (hF : va_Fw "java/util/ArrayList" ⟨"java/util/List", "size", "()I"⟩ yJ2_size s) (hR : rmJ2_size.frames + 1 ≤ R.frames ∧ 8 + (1 + 11) + rmJ2_size.locals ≤ R.locals) : va_CI R s args own RJ2 index ⟨"java/util/List", "size", "()I"⟩ yJ2_size cJ2_size 1 (some .int) (ws_ yJ2_size cJ2_size 1 (some .int)) rmJ2_size 0 0 0 := va_cwF 0 hts (lw_app (by intro w hw; simp only [List.mem_cons, List.not_mem_nil, or_false] at hw; rcases hw with rfl | rfl | rfl | rfl; exact hl; exact q500; exact q502; exact q110) (lw_meth q504)) rfl rfl rfl hF ⟨by decide, by decide, by decide +kernel⟩ hR
set_option maxHeartbeats 4000000 in
theorem metX0_isPipe {l : Launch} {gp : Nat → Nat} {D : va_G} {K : Nat → ClassId} {Z0 : c_S} {a0 : Nat} {a1 : Int32} {r : Int32} (h : cm_X0_isPipe Z0 a0 a1 = some r) : Met l yX0_isPipe (ws_ yX0_isPipe cX0_isPipe 2 (some .boolean)) rmX0_isPipe (z_Pc gp [.ref a0, .int a1] D K Z0) (z_Q (.returned (some (.int r))) D K (z_A Z0) Z0) 0 0 (z_A Z0) := by
  refine d_met rfl (Nat.le_of_ble_eq_true rfl) ?_
  intro p e s m below meth c ls S hr hlk hnm hl hW hsz
  have S : CallFix p m c cX0_isPipe 2 s ([.ref a0, .int a1] : List Value).toArray lw_all RX0 := S
  have hx := S.1
  have hb := S.2.1
  have hl : lv_has ls 2 [(0, .ref a0), (1, .int a1)] := hl
  have hnm : meth.name = "isPipe" := hnm
  unfold cm_X0_isPipe at h
  refine lv_iload_n hx hb dX0_isPipe_0 rfl (lv_at hl 1 rfl) ?_
  refine lv_i2l (v := a1.toInt64) hx hb dX0_isPipe_1 rfl ?_
  refine lv_lconst (v := 0) hx hb dX0_isPipe_2 (by decide) ?_
  refine lv_aload_n hx hb dX0_isPipe_3 rfl (lv_at hl 0 rfl) ?_
  refine zw_getA S hW zC_X0 (i := 1) (by decide) (Or.inl q756) (fun _ h => h) dX0_isPipe_4 h (fun a_1 h => ?_)
  refine zw_getA S hW zC_X1 (i := 5) (by decide) (Or.inr ⟨_, nestW_in q676 rfl⟩) (fun _ h => h) dX0_isPipe_7 h (fun a_2 h => ?_)
  obtain ⟨⟨_, k_3⟩, h⟩ := zK_some h
  obtain ⟨x_6, h_4, h⟩ := bnd_some h
  refine d_callF (As := []) (rest := [.long 0, .long a1.toInt64]) S hW (metJ2_size h_4) (cwJ2_size_F S.2.2.2.2 q1192 (hW.1.2.2.2.2.1.2.2.2.2.2.2.1 _ (List.mem_of_getElem? (i := 1) rfl)) ⟨Nat.le_of_ble_eq_true rfl, Nat.le_of_ble_eq_true rfl⟩) k_3 rfl rfl hl.1 rfl (Nat.le_of_ble_eq_true rfl) dX0_isPipe_10 ⟨(Nat.le_of_ble_eq_true rfl), (Nat.le_of_ble_eq_true rfl)⟩ rfl (fun H locs hW => ?_)
  refine lv_iconst (v := 1) hx hb dX0_isPipe_15 (by decide) ?_
  refine lv_isub hx hb dX0_isPipe_16 ?_
  refine lv_i2l (v := (x_6 - 1).toInt64) hx hb dX0_isPipe_17 rfl ?_
  obtain ⟨x_9, h_7, h⟩ := bnd_some h
  refine d_callS (As := [.long a1.toInt64, .long 0, .long ((x_6 - 1).toInt64)]) (rest := []) S hW (metX0_in h_7) (cwX0_in_S S.2.2.2.2 q149 ⟨Nat.le_of_ble_eq_true rfl, Nat.le_of_ble_eq_true rfl⟩) rfl hl.1 rfl (Nat.le_of_ble_eq_true rfl) dX0_isPipe_18 ⟨(Nat.le_of_ble_eq_true rfl), (Nat.le_of_ble_eq_true rfl)⟩ rfl (fun H locs hW => ?_)
  obtain ⟨h_10, h⟩ := okI_some h
  cases h
  exact d_zret S hr hlk (isB_narrow h_10) hW (Nat.le_of_ble_eq_true rfl) (Nat.le_of_ble_eq_true rfl) dX0_isPipe_21
def cm_X0_cold (Z0 : c_S) (a0 : Nat) (a1 : Int32) : Option (Int32 × c_S) :=
  bnd (cm_X0_in a1.toInt64 0 99999) (fun x_3 => if x_3 = 0 then (some ((-2), Z0)) else (cA Z0.Sh a0 0 11 1 fun a_5 => cI Z0.Sh Z0.V a_5 1 20 10 fun x_6 => cA Z0.Sh a0 0 11 1 fun a_7 => zPI Z0 a_7 1 20 10 a1 fun Z_8 => some (x_6, Z_8)))
abbrev rmX0_cold : Room := rmD 1 25 0 0
set_option maxHeartbeats 4000000 in
theorem metX0_cold {l : Launch} {gp : Nat → Nat} {D : va_G} {K : Nat → ClassId} {Z0 : c_S} {a0 : Nat} {a1 : Int32} {r : Int32} {Z' : c_S} (h : cm_X0_cold Z0 a0 a1 = some (r, Z')) : Met l yX0_cold (ws_ yX0_cold cX0_cold 3 (some .int)) rmX0_cold (z_Pc gp [.ref a0, .int a1] D K Z0) (z_Q (.returned (some (.int r))) D K (z_A Z0) Z') 0 0 (z_A Z0) := by
  refine d_met rfl (Nat.le_of_ble_eq_true rfl) ?_
  intro p e s m below meth c ls S hr hlk hnm hl hW hsz
  have S : CallFix p m c cX0_cold 3 s ([.ref a0, .int a1] : List Value).toArray lw_all RX0 := S
  have hx := S.1
  have hb := S.2.1
  have hl : lv_has ls 3 [(0, .ref a0), (1, .int a1)] := hl
  have hnm : meth.name = "cold" := hnm
  unfold cm_X0_cold at h
  refine lv_iload_n hx hb dX0_cold_0 rfl (lv_at hl 1 rfl) ?_
  refine lv_i2l (v := a1.toInt64) hx hb dX0_cold_1 rfl ?_
  refine lv_lconst (v := 0) hx hb dX0_cold_2 (by decide) ?_
  refine lv_ldc2 (v := 99999) hx hb S.2.2.2.1 (S.2.2.2.2 _ q1221) dX0_cold_3 ?_
  obtain ⟨x_3, h_1, h⟩ := bnd_some h
  refine d_callS (As := [.long a1.toInt64, .long 0, .long 99999]) (rest := []) S hW (metX0_in h_1) (cwX0_in_S S.2.2.2.2 q149 ⟨Nat.le_of_ble_eq_true rfl, Nat.le_of_ble_eq_true rfl⟩) rfl hl.1 rfl (Nat.le_of_ble_eq_true rfl) dX0_cold_6 ⟨(Nat.le_of_ble_eq_true rfl), (Nat.le_of_ble_eq_true rfl)⟩ rfl (fun H locs hW => ?_)
  refine lv_if_ne (tgt := 15) hx hb dX0_cold_9 (by decide) (fun c_4 => ?_) (fun c_4 => ?_)
  · have h := if_f h c_4
    refine lv_aload_n hx hb dX0_cold_15 rfl (lv_at hl 0 rfl) ?_
    refine zw_getA S hW zC_X0 (i := 1) (by decide) (Or.inl q756) (fun _ h => h) dX0_cold_16 h (fun a_5 h => ?_)
    refine zw_getI S hW zC_X1 (i := 10) (by decide) (Or.inr ⟨_, nestW_in q686 rfl⟩) (fun _ h => h) dX0_cold_19 h (fun x_6 h => ?_)
    refine lv_istore_n (lv' := [(2, .int x_6), (0, .ref a0), (1, .int a1)]) hx hb dX0_cold_22 rfl hl (by decide) rfl (fun ls hl => ?_)
    refine lv_aload_n hx hb dX0_cold_23 rfl (lv_at hl 1 rfl) ?_
    refine zw_getA S hW zC_X0 (i := 1) (by decide) (Or.inl q756) (fun _ h => h) dX0_cold_24 h (fun a_7 h => ?_)
    refine lv_iload_n hx hb dX0_cold_27 rfl (lv_at hl 2 rfl) ?_
    refine zw_putI S hW zC_X1 (i := 10) (by decide) (Or.inl rfl) rfl rfl rfl (Or.inr ⟨_, nestW_in q686 rfl⟩) (fun _ h => h) dX0_cold_28 h (fun Z_8 h H locs hW => ?_)
    refine lv_iload_n hx hb dX0_cold_31 rfl (lv_at hl 0 rfl) ?_
    cases h
    exact d_iret S hr hlk hW (Nat.le_of_ble_eq_true rfl) (Nat.le_of_ble_eq_true rfl) dX0_cold_32
  · have h := if_t h c_4
    refine lv_bipush (v := (-2)) hx hb dX0_cold_12 (by decide) ?_
    cases h
    exact d_iret S hr hlk hW (Nat.le_of_ble_eq_true rfl) (Nat.le_of_ble_eq_true rfl) dX0_cold_14
def cm_X0_gap (Z0 : c_S) (a0 : Nat) (a1 : Int32) : Option (Int32) :=
  cI Z0.Sh Z0.V a0 0 11 9 fun x_1 => bnd (cm_X0_in a1.toInt64 0 ((x_1 - 1).toInt64)) (fun x_4 => if x_4 = 0 then (some (-1)) else (cA Z0.Sh a0 0 11 8 fun a_6 => caI Z0.Sh Z0.V 0 a_6 a1 fun x_7 => some x_7))
abbrev rmX0_gap : Room := rmD 1 25 0 0
set_option maxHeartbeats 4000000 in
theorem metX0_gap {l : Launch} {gp : Nat → Nat} {D : va_G} {K : Nat → ClassId} {Z0 : c_S} {a0 : Nat} {a1 : Int32} {r : Int32} (h : cm_X0_gap Z0 a0 a1 = some r) : Met l yX0_gap (ws_ yX0_gap cX0_gap 2 (some .int)) rmX0_gap (z_Pc gp [.ref a0, .int a1] D K Z0) (z_Q (.returned (some (.int r))) D K (z_A Z0) Z0) 0 0 (z_A Z0) := by
  refine d_met rfl (Nat.le_of_ble_eq_true rfl) ?_
  intro p e s m below meth c ls S hr hlk hnm hl hW hsz
  have S : CallFix p m c cX0_gap 2 s ([.ref a0, .int a1] : List Value).toArray lw_all RX0 := S
  have hx := S.1
  have hb := S.2.1
  have hl : lv_has ls 2 [(0, .ref a0), (1, .int a1)] := hl
  have hnm : meth.name = "gap" := hnm
  unfold cm_X0_gap at h
  refine lv_iload_n hx hb dX0_gap_0 rfl (lv_at hl 1 rfl) ?_
  refine lv_i2l (v := a1.toInt64) hx hb dX0_gap_1 rfl ?_
  refine lv_lconst (v := 0) hx hb dX0_gap_2 (by decide) ?_
  refine lv_aload_n hx hb dX0_gap_3 rfl (lv_at hl 0 rfl) ?_
  refine zw_getI S hW zC_X0 (i := 9) (by decide) (Or.inl q764) (fun _ h => h) dX0_gap_4 h (fun x_1 h => ?_)
  refine lv_iconst (v := 1) hx hb dX0_gap_7 (by decide) ?_
  refine lv_isub hx hb dX0_gap_8 ?_
  refine lv_i2l (v := (x_1 - 1).toInt64) hx hb dX0_gap_9 rfl ?_
  obtain ⟨x_4, h_2, h⟩ := bnd_some h
  refine d_callS (As := [.long a1.toInt64, .long 0, .long ((x_1 - 1).toInt64)]) (rest := []) S hW (metX0_in h_2) (cwX0_in_S S.2.2.2.2 q149 ⟨Nat.le_of_ble_eq_true rfl, Nat.le_of_ble_eq_true rfl⟩) rfl hl.1 rfl (Nat.le_of_ble_eq_true rfl) dX0_gap_10 ⟨(Nat.le_of_ble_eq_true rfl), (Nat.le_of_ble_eq_true rfl)⟩ rfl (fun H locs hW => ?_)
  refine lv_if_eq (tgt := 25) hx hb dX0_gap_13 (by decide) (fun c_5 => ?_) (fun c_5 => ?_)
  · have h := if_t h c_5
    refine lv_iconst (v := (-1)) hx hb dX0_gap_25 (by decide) ?_
    cases h
    exact d_iret S hr hlk hW (Nat.le_of_ble_eq_true rfl) (Nat.le_of_ble_eq_true rfl) dX0_gap_26
  · have h := if_f h c_5
    refine lv_aload_n hx hb dX0_gap_16 rfl (lv_at hl 0 rfl) ?_
    refine zw_getA S hW zC_X0 (i := 8) (by decide) (Or.inl q763) (fun _ h => h) dX0_gap_17 h (fun a_6 h => ?_)
    refine lv_iload_n hx hb dX0_gap_20 rfl (lv_at hl 1 rfl) ?_
    refine zw_iald S hW dX0_gap_21 h (fun x_7 h => ?_)
    refine lv_goto (tgt := 26) hx hb dX0_gap_22 (by decide) ?_
    cases h
    exact d_iret S hr hlk hW (Nat.le_of_ble_eq_true rfl) (Nat.le_of_ble_eq_true rfl) dX0_gap_26
def cm_X0_isAhead (a0 : Int32) (a1 : Int32) : Option (Int32) :=
  nmI (a0 ^^^ a1) fun x_1 => if ((a0 &&& x_1) &&& (-x_1)) = 0 then (some 0) else (some 1)
abbrev rmX0_isAhead : Room := rmD 0 0 0 0
set_option maxHeartbeats 4000000 in
theorem metX0_isAhead {l : Launch} {gp : Nat → Nat} {D : va_G} {K : Nat → ClassId} {Z0 : c_S} {a0 : Int32} {a1 : Int32} {r : Int32} (h : cm_X0_isAhead a0 a1 = some r) : Met l yX0_isAhead (ws_ yX0_isAhead cX0_isAhead 3 (some .boolean)) rmX0_isAhead (z_Pc gp [.int a0, .int a1] D K Z0) (z_Q (.returned (some (.int r))) D K (z_A Z0) Z0) 0 0 (z_A Z0) := by
  refine d_met rfl (Nat.le_of_ble_eq_true rfl) ?_
  intro p e s m below meth c ls S hr hlk hnm hl hW hsz
  have S : CallFix p m c cX0_isAhead 3 s ([.int a0, .int a1] : List Value).toArray lw_all RX0 := S
  have hx := S.1
  have hb := S.2.1
  have hl : lv_has ls 3 [(0, .int a0), (1, .int a1)] := hl
  have hnm : meth.name = "isAhead" := hnm
  unfold cm_X0_isAhead at h
  refine lv_iload_n hx hb dX0_isAhead_0 rfl (lv_at hl 0 rfl) ?_
  refine lv_iload_n hx hb dX0_isAhead_1 rfl (lv_at hl 1 rfl) ?_
  refine lv_ixor hx hb dX0_isAhead_2 ?_
  obtain ⟨x_1, e_2, h⟩ := nmI_some h
  refine g_nmi e_2 ?_
  refine lv_istore_n (lv' := [(2, .int x_1), (0, .int a0), (1, .int a1)]) hx hb dX0_isAhead_3 rfl hl (by decide) rfl (fun ls hl => ?_)
  refine lv_iload_n hx hb dX0_isAhead_4 rfl (lv_at hl 1 rfl) ?_
  refine lv_iload_n hx hb dX0_isAhead_5 rfl (lv_at hl 0 rfl) ?_
  refine lv_iand hx hb dX0_isAhead_6 ?_
  refine lv_iload_n hx hb dX0_isAhead_7 rfl (lv_at hl 0 rfl) ?_
  refine lv_ineg hx hb dX0_isAhead_8 ?_
  refine lv_iand hx hb dX0_isAhead_9 ?_
  refine lv_if_eq (tgt := 17) hx hb dX0_isAhead_10 (by decide) (fun c_3 => ?_) (fun c_3 => ?_)
  · have h := if_t h c_3
    refine lv_iconst (v := 0) hx hb dX0_isAhead_17 (by decide) ?_
    cases h
    exact d_zret S hr hlk rfl hW (Nat.le_of_ble_eq_true rfl) (Nat.le_of_ble_eq_true rfl) dX0_isAhead_18
  · have h := if_f h c_3
    refine lv_iconst (v := 1) hx hb dX0_isAhead_13 (by decide) ?_
    refine lv_goto (tgt := 18) hx hb dX0_isAhead_14 (by decide) ?_
    cases h
    exact d_zret S hr hlk rfl hW (Nat.le_of_ble_eq_true rfl) (Nat.le_of_ble_eq_true rfl) dX0_isAhead_18
def cm_X0_chosen (Z0 : c_S) (a0 : Nat) : Option (Int32) :=
  cI Z0.Sh Z0.V a0 0 11 10 fun x_1 => some x_1
abbrev rmX0_chosen : Room := rmD 0 0 0 0
set_option maxHeartbeats 4000000 in
theorem metX0_chosen {l : Launch} {gp : Nat → Nat} {D : va_G} {K : Nat → ClassId} {Z0 : c_S} {a0 : Nat} {r : Int32} (h : cm_X0_chosen Z0 a0 = some r) : Met l yX0_chosen (ws_ yX0_chosen cX0_chosen 1 (some .int)) rmX0_chosen (z_Pc gp [.ref a0] D K Z0) (z_Q (.returned (some (.int r))) D K (z_A Z0) Z0) 0 0 (z_A Z0) := by
  refine d_met rfl (Nat.le_of_ble_eq_true rfl) ?_
  intro p e s m below meth c ls S hr hlk hnm hl hW hsz
  have S : CallFix p m c cX0_chosen 1 s ([.ref a0] : List Value).toArray lw_all RX0 := S
  have hx := S.1
  have hb := S.2.1
  have hl : lv_has ls 1 [(0, .ref a0)] := hl
  have hnm : meth.name = "chosen" := hnm
  unfold cm_X0_chosen at h
  refine lv_aload_n hx hb dX0_chosen_0 rfl (lv_at hl 0 rfl) ?_
  refine zw_getI S hW zC_X0 (i := 10) (by decide) (Or.inl q765) (fun _ h => h) dX0_chosen_1 h (fun x_1 h => ?_)
  cases h
  exact d_iret S hr hlk hW (Nat.le_of_ble_eq_true rfl) (Nat.le_of_ble_eq_true rfl) dX0_chosen_4
def cm_X0_gauge (Z0 : c_S) (a0 : Nat) (a1 : Int32) (a2 : Int32) (a3 : Int32) (a4 : Int32) : Option (Int32 × c_S) :=
  bnd (cm_X0_in a1.toInt64 0 9) (fun x_3 => if x_3 = 0 then (some ((-2), Z0)) else (bnd (cm_X0_isCell a2 a3) (fun x_7 => if x_7 = 0 then (some ((-2), Z0)) else (bnd (cm_X0_in a4.toInt64 (-500) 500) (fun x_11 => if x_11 = 0 then (some ((-2), Z0)) else (cA Z0.Sh a0 0 11 1 fun a_13 => cA Z0.Sh a_13 1 20 7 fun a_14 => zsI Z0 0 a_14 a1 ((12 * a3) + a2) fun Z_15 => cA Z_15.Sh a0 0 11 1 fun a_16 => cA Z_15.Sh a_16 1 20 8 fun a_17 => zsI Z_15 0 a_17 a1 a4 fun Z_18 => some (0, Z_18)))))))
abbrev rmX0_gauge : Room := rmD 2 46 0 0
theorem cwX0_isCell_S {own : String} {R : Room} {s : State} {args : Array Value} {index : Nat} (hts : ∀ w ∈ lw_all, w.before args s = true) (hl : Cond.methodLink own index yX0_isCell ∈ lw_all) (hR : rmX0_isCell.frames + 1 ≤ R.frames ∧ 8 + (2 + 11) + rmX0_isCell.locals ≤ R.locals) : CallB R s args own index yX0_isCell cX0_isCell 2 (some .boolean) (ws_ yX0_isCell cX0_isCell 2 (some .boolean)) rmX0_isCell 0 0 2 ∧ (Cond.static yX0_isCell).before args s = true := va_cwS 2 hts (lw_S hl q1182 q105 q1183) rfl rfl rfl (by decide +kernel) hR
set_option maxHeartbeats 4000000 in
theorem metX0_gauge {l : Launch} {gp : Nat → Nat} {D : va_G} {K : Nat → ClassId} {Z0 : c_S} {a0 : Nat} {a1 : Int32} {a2 : Int32} {a3 : Int32} {a4 : Int32} {r : Int32} {Z' : c_S} (h : cm_X0_gauge Z0 a0 a1 a2 a3 a4 = some (r, Z')) : Met l yX0_gauge (ws_ yX0_gauge cX0_gauge 5 (some .int)) rmX0_gauge (z_Pc gp [.ref a0, .int a1, .int a2, .int a3, .int a4] D K Z0) (z_Q (.returned (some (.int r))) D K (z_A Z0) Z') 0 0 (z_A Z0) := by
  refine d_met rfl (Nat.le_of_ble_eq_true rfl) ?_
  intro p e s m below meth c ls S hr hlk hnm hl hW hsz
  have S : CallFix p m c cX0_gauge 5 s ([.ref a0, .int a1, .int a2, .int a3, .int a4] : List Value).toArray lw_all RX0 := S
  have hx := S.1
  have hb := S.2.1
  have hl : lv_has ls 5 [(0, .ref a0), (1, .int a1), (2, .int a2), (3, .int a3), (4, .int a4)] := hl
  have hnm : meth.name = "gauge" := hnm
  unfold cm_X0_gauge at h
  refine lv_iload_n hx hb dX0_gauge_0 rfl (lv_at hl 1 rfl) ?_
  refine lv_i2l (v := a1.toInt64) hx hb dX0_gauge_1 rfl ?_
  refine lv_lconst (v := 0) hx hb dX0_gauge_2 (by decide) ?_
  refine lv_ldc2 (v := 9) hx hb S.2.2.2.1 (S.2.2.2.2 _ q1449) dX0_gauge_3 ?_
  obtain ⟨x_3, h_1, h⟩ := bnd_some h
  refine d_callS (As := [.long a1.toInt64, .long 0, .long 9]) (rest := []) S hW (metX0_in h_1) (cwX0_in_S S.2.2.2.2 q149 ⟨Nat.le_of_ble_eq_true rfl, Nat.le_of_ble_eq_true rfl⟩) rfl hl.1 rfl (Nat.le_of_ble_eq_true rfl) dX0_gauge_6 ⟨(Nat.le_of_ble_eq_true rfl), (Nat.le_of_ble_eq_true rfl)⟩ rfl (fun H locs hW => ?_)
  refine lv_if_eq (tgt := 35) hx hb dX0_gauge_9 (by decide) (fun c_4 => ?_) (fun c_4 => ?_)
  · have h := if_t h c_4
    refine lv_bipush (v := (-2)) hx hb dX0_gauge_35 (by decide) ?_
    cases h
    exact d_iret S hr hlk hW (Nat.le_of_ble_eq_true rfl) (Nat.le_of_ble_eq_true rfl) dX0_gauge_37
  · have h := if_f h c_4
    refine lv_iload_n hx hb dX0_gauge_12 rfl (lv_at hl 2 rfl) ?_
    refine lv_iload_n hx hb dX0_gauge_13 rfl (lv_at hl 3 rfl) ?_
    obtain ⟨x_7, h_5, h⟩ := bnd_some h
    refine d_callS (As := [.int a2, .int a3]) (rest := []) S hW (metX0_isCell h_5) (cwX0_isCell_S S.2.2.2.2 q1181 ⟨Nat.le_of_ble_eq_true rfl, Nat.le_of_ble_eq_true rfl⟩) rfl hl.1 rfl (Nat.le_of_ble_eq_true rfl) dX0_gauge_14 ⟨(Nat.le_of_ble_eq_true rfl), (Nat.le_of_ble_eq_true rfl)⟩ rfl (fun H locs hW => ?_)
    refine lv_if_eq (tgt := 35) hx hb dX0_gauge_17 (by decide) (fun c_8 => ?_) (fun c_8 => ?_)
    · have h := if_t h c_8
      refine lv_bipush (v := (-2)) hx hb dX0_gauge_35 (by decide) ?_
      cases h
      exact d_iret S hr hlk hW (Nat.le_of_ble_eq_true rfl) (Nat.le_of_ble_eq_true rfl) dX0_gauge_37
    · have h := if_f h c_8
      refine lv_iload hx hb dX0_gauge_20 (lv_at hl 4 rfl) ?_
      refine lv_i2l (v := a4.toInt64) hx hb dX0_gauge_22 rfl ?_
      refine lv_ldc2 (v := (-500)) hx hb S.2.2.2.1 (S.2.2.2.2 _ q1450) dX0_gauge_23 ?_
      refine lv_ldc2 (v := 500) hx hb S.2.2.2.1 (S.2.2.2.2 _ q1451) dX0_gauge_26 ?_
      obtain ⟨x_11, h_9, h⟩ := bnd_some h
      refine d_callS (As := [.long a4.toInt64, .long (-500), .long 500]) (rest := []) S hW (metX0_in h_9) (cwX0_in_S S.2.2.2.2 q149 ⟨Nat.le_of_ble_eq_true rfl, Nat.le_of_ble_eq_true rfl⟩) rfl hl.1 rfl (Nat.le_of_ble_eq_true rfl) dX0_gauge_29 ⟨(Nat.le_of_ble_eq_true rfl), (Nat.le_of_ble_eq_true rfl)⟩ rfl (fun H locs hW => ?_)
      refine lv_if_ne (tgt := 38) hx hb dX0_gauge_32 (by decide) (fun c_12 => ?_) (fun c_12 => ?_)
      · have h := if_f h c_12
        refine lv_aload_n hx hb dX0_gauge_38 rfl (lv_at hl 0 rfl) ?_
        refine zw_getA S hW zC_X0 (i := 1) (by decide) (Or.inl q756) (fun _ h => h) dX0_gauge_39 h (fun a_13 h => ?_)
        refine zw_getA S hW zC_X1 (i := 7) (by decide) (Or.inr ⟨_, nestW_in q680 rfl⟩) (fun _ h => h) dX0_gauge_42 h (fun a_14 h => ?_)
        refine lv_iload_n hx hb dX0_gauge_45 rfl (lv_at hl 1 rfl) ?_
        refine lv_bipush (v := 12) hx hb dX0_gauge_46 (by decide) ?_
        refine lv_iload_n hx hb dX0_gauge_48 rfl (lv_at hl 3 rfl) ?_
        refine lv_imul hx hb dX0_gauge_49 ?_
        refine lv_iload_n hx hb dX0_gauge_50 rfl (lv_at hl 2 rfl) ?_
        refine lv_iadd hx hb dX0_gauge_51 ?_
        refine zw_iast S hW dX0_gauge_52 h (fun Z_15 h H locs hW => ?_)
        refine lv_aload_n hx hb dX0_gauge_53 rfl (lv_at hl 0 rfl) ?_
        refine zw_getA S hW zC_X0 (i := 1) (by decide) (Or.inl q756) (fun _ h => h) dX0_gauge_54 h (fun a_16 h => ?_)
        refine zw_getA S hW zC_X1 (i := 8) (by decide) (Or.inr ⟨_, nestW_in q682 rfl⟩) (fun _ h => h) dX0_gauge_57 h (fun a_17 h => ?_)
        refine lv_iload_n hx hb dX0_gauge_60 rfl (lv_at hl 1 rfl) ?_
        refine lv_iload hx hb dX0_gauge_61 (lv_at hl 4 rfl) ?_
        refine zw_iast S hW dX0_gauge_63 h (fun Z_18 h H locs hW => ?_)
        refine lv_iconst (v := 0) hx hb dX0_gauge_64 (by decide) ?_
        cases h
        exact d_iret S hr hlk hW (Nat.le_of_ble_eq_true rfl) (Nat.le_of_ble_eq_true rfl) dX0_gauge_65
      · have h := if_t h c_12
        refine lv_bipush (v := (-2)) hx hb dX0_gauge_35 (by decide) ?_
        cases h
        exact d_iret S hr hlk hW (Nat.le_of_ble_eq_true rfl) (Nat.le_of_ble_eq_true rfl) dX0_gauge_37
def cm_X0_lies_B19 (x0 : Nat) (x1 : Int32) (Z : c_S) (rec : Int32 → Int32 → Option (Int32)) (x2 : Int32) (x3 : Int32) : Option (Int32) :=
  if 10 ≤ x3 then (some x2) else (cA Z.Sh x0 0 11 1 fun a_6 => cA Z.Sh a_6 1 20 7 fun a_7 => caI Z.Sh Z.V 0 a_7 x3 fun x_8 => if x_8 = (-1) then (nmI (x3 + 1) fun x_10 => rec x2 x_10) else (cA Z.Sh x0 0 11 1 fun a_12 => cA Z.Sh a_12 1 20 4 fun a_13 => caI Z.Sh Z.V 2 a_13 x_8 fun x_14 => if x_14 = 0 then (cA Z.Sh x0 0 11 1 fun a_20 => cA Z.Sh a_20 1 20 1 fun a_21 => caI Z.Sh Z.V 0 a_21 x_8 fun x_22 => cA Z.Sh x0 0 11 1 fun a_23 => cA Z.Sh a_23 1 20 8 fun a_24 => caI Z.Sh Z.V 0 a_24 x3 fun x_25 => nmI (if 0 ≤ (x_22 - x_25) then (x_22 - x_25) else 0 - (x_22 - x_25)) fun x_26 => if x_26 ≤ x1 then (nmI (x3 + 1) fun x_29 => rec x2 x_29) else (nmI (x2 ||| ((1 : Int32) <<< (x3 &&& 31))) fun x_31 => nmI (x3 + 1) fun x_33 => rec x_31 x_33)) else (nmI (x2 ||| ((1 : Int32) <<< (x3 &&& 31))) fun x_16 => nmI (x3 + 1) fun x_18 => rec x_16 x_18)))
abbrev cm_X0_lies_F19 (x0 : Nat) (x1 : Int32) (Z : c_S) : (((Int32) × (Int32)) → Option (Int32)) → ((Int32) × (Int32)) → Option (Int32) := fun rec s => cm_X0_lies_B19 x0 x1 Z (fun x2 x3 => rec (x2, x3)) s.1 s.2
def cm_X0_lies_L19 (x0 : Nat) (x1 : Int32) (Z : c_S) (n : Nat) (x2 : Int32) (x3 : Int32) : Option (Int32) := lp (cm_X0_lies_F19 x0 x1 Z) n (x2, x3)
theorem cm_X0_lies_L19_s (x0 : Nat) (x1 : Int32) (Z : c_S) (n : Nat) (x2 : Int32) (x3 : Int32) : cm_X0_lies_L19 x0 x1 Z (n + 1) x2 x3 = cm_X0_lies_B19 x0 x1 Z (fun x2 x3 => cm_X0_lies_L19 x0 x1 Z n x2 x3) x2 x3 := lp_s (cm_X0_lies_F19 x0 x1 Z) n (x2, x3)
def cm_X0_lies (Z0 : c_S) (a0 : Nat) (a1 : Int32) : Option (Int32) :=
  bnd (cm_X0_in a1.toInt64 0 99) (fun x_3 => if x_3 = 0 then (some (-2)) else (bnd (cm_X0_lies_L19 a0 a1 Z0 1000 0 0) (fun x_37 => some x_37)))
abbrev rmX0_lies : Room := rmD 1 25 0 0
set_option maxHeartbeats 4000000 in
theorem metX0_lies {l : Launch} {gp : Nat → Nat} {D : va_G} {K : Nat → ClassId} {Z0 : c_S} {a0 : Nat} {a1 : Int32} {r : Int32} (h : cm_X0_lies Z0 a0 a1 = some r) : Met l yX0_lies (ws_ yX0_lies cX0_lies 5 (some .int)) rmX0_lies (z_Pc gp [.ref a0, .int a1] D K Z0) (z_Q (.returned (some (.int r))) D K (z_A Z0) Z0) 0 0 (z_A Z0) := by
  refine d_met rfl (Nat.le_of_ble_eq_true rfl) ?_
  intro p e s m below meth c ls S hr hlk hnm hl hW hsz
  have S : CallFix p m c cX0_lies 5 s ([.ref a0, .int a1] : List Value).toArray lw_all RX0 := S
  have hx := S.1
  have hb := S.2.1
  have hl : lv_has ls 5 [(0, .ref a0), (1, .int a1)] := hl
  have hnm : meth.name = "lies" := hnm
  have Lp19 : ∀ (x0 : Nat) (x1 : Int32) (Z : c_S) (n : Nat) (x2 : Int32) (x3 : Int32) (out : (Int32)) (H : Heap) (locs : List Loc) (ls : Array Slot), cm_X0_lies_L19 x0 x1 Z n x2 x3 = some out → z_W gp D K (z_A Z0) s Z H locs → lv_has ls 5 [(0, .ref x0), (1, .int x1), (2, .int x2), (3, .int x3)] → (∀ (o2 : Int32), out = o2 → ∀ (H : Heap) (locs : List Loc) (ls : Array Slot), z_W gp D K (z_A Z0) s Z H locs → lv_has ls 5 [(2, .int o2)] → W p l e rmX0_lies s m ([.ref a0, .int a1] : List Value).toArray below meth c H locs 0 0 (MQ below (z_Q (.returned (some (.int r))) D K (z_A Z0) Z0) ([.ref a0, .int a1] : List Value).toArray s 0 0 (z_A Z0)) (F0 m 94 ls [])) → W p l e rmX0_lies s m ([.ref a0, .int a1] : List Value).toArray below meth c H locs 0 0 (MQ below (z_Q (.returned (some (.int r))) D K (z_A Z0) Z0) ([.ref a0, .int a1] : List Value).toArray s 0 0 (z_A Z0)) (F0 m 19 ls []) := by
    intro x0 x1 Z n
    induction n with
    | zero =>
      intro x2 x3 out H locs ls h
      exact (lp_0 h).elim
    | succ n ih =>
      intro x2 x3 out H locs ls h hW hl k1
      rw [cm_X0_lies_L19_s] at h
      unfold cm_X0_lies_B19 at h
      refine lv_iload_n hx hb dX0_lies_19 rfl (lv_at hl 3 rfl) ?_
      refine lv_bipush (v := 10) hx hb dX0_lies_20 (by decide) ?_
      refine lv_icmp_ge (tgt := 94) hx hb dX0_lies_22 (by decide) (fun c_5 => ?_) (fun c_5 => ?_)
      · have h := if_t h c_5
        exact k1 _ (Option.some.inj h).symm _ _ _ hW (lv_sub hl [2] rfl)
      · have h := if_f h c_5
        refine lv_aload_n hx hb dX0_lies_25 rfl (lv_at hl 0 rfl) ?_
        refine zw_getA S hW zC_X0 (i := 1) (by decide) (Or.inl q756) (fun _ h => h) dX0_lies_26 h (fun a_6 h => ?_)
        refine zw_getA S hW zC_X1 (i := 7) (by decide) (Or.inr ⟨_, nestW_in q680 rfl⟩) (fun _ h => h) dX0_lies_29 h (fun a_7 h => ?_)
        refine lv_iload_n hx hb dX0_lies_32 rfl (lv_at hl 3 rfl) ?_
        refine zw_iald S hW dX0_lies_33 h (fun x_8 h => ?_)
        refine lv_istore (lv' := [(4, .int x_8), (0, .ref x0), (1, .int x1), (2, .int x2), (3, .int x3)]) hx hb dX0_lies_34 hl (by decide) rfl (fun ls hl => ?_)
        refine lv_iload hx hb dX0_lies_36 (lv_at hl 0 rfl) ?_
        refine lv_iconst (v := (-1)) hx hb dX0_lies_38 (by decide) ?_
        refine lv_icmp_eq (tgt := 88) hx hb dX0_lies_39 (by decide) (fun c_9 => ?_) (fun c_9 => ?_)
        · have h := if_t h c_9
          obtain ⟨x_10, e_11, h⟩ := nmI_some h
          refine lv_iinc (v := x_10) (lv' := [(3, .int x_10), (4, .int x_8), (0, .ref x0), (1, .int x1), (2, .int x2)]) hx hb dX0_lies_88 hl (k := 4) rfl (by rw [e_11]; rfl) (by decide) rfl (fun ls hl => ?_)
          refine lv_goto (tgt := 19) hx hb dX0_lies_91 (by decide) ?_
          exact ih x2 x_10 out _ _ _ h hW (lv_sub hl [2, 3, 4, 0] rfl) k1
        · have h := if_f h c_9
          refine lv_aload_n hx hb dX0_lies_42 rfl (lv_at hl 1 rfl) ?_
          refine zw_getA S hW zC_X0 (i := 1) (by decide) (Or.inl q756) (fun _ h => h) dX0_lies_43 h (fun a_12 h => ?_)
          refine zw_getA S hW zC_X1 (i := 4) (by decide) (Or.inr ⟨_, nestW_in q674 rfl⟩) (fun _ h => h) dX0_lies_46 h (fun a_13 h => ?_)
          refine lv_iload hx hb dX0_lies_49 (lv_at hl 0 rfl) ?_
          refine zw_zald S hW dX0_lies_51 h (fun x_14 h => ?_)
          refine lv_if_ne (tgt := 82) hx hb dX0_lies_52 (by decide) (fun c_15 => ?_) (fun c_15 => ?_)
          · have h := if_f h c_15
            refine lv_iload_n hx hb dX0_lies_82 rfl (lv_at hl 3 rfl) ?_
            refine lv_iconst (v := 1) hx hb dX0_lies_83 (by decide) ?_
            refine lv_iload_n hx hb dX0_lies_84 rfl (lv_at hl 4 rfl) ?_
            refine lv_ishl hx hb dX0_lies_85 ?_
            refine lv_ior hx hb dX0_lies_86 ?_
            obtain ⟨x_16, e_17, h⟩ := nmI_some h
            refine g_nmi e_17 ?_
            refine lv_istore_n (lv' := [(2, .int x_16), (4, .int x_8), (0, .ref x0), (1, .int x1), (3, .int x3)]) hx hb dX0_lies_87 rfl hl (by decide) rfl (fun ls hl => ?_)
            obtain ⟨x_18, e_19, h⟩ := nmI_some h
            refine lv_iinc (v := x_18) (lv' := [(3, .int x_18), (2, .int x_16), (4, .int x_8), (0, .ref x0), (1, .int x1)]) hx hb dX0_lies_88 hl (k := 4) rfl (by rw [e_19]; rfl) (by decide) rfl (fun ls hl => ?_)
            refine lv_goto (tgt := 19) hx hb dX0_lies_91 (by decide) ?_
            exact ih x_16 x_18 out _ _ _ h hW (lv_sub hl [3, 4, 1, 0] rfl) k1
          · have h := if_t h c_15
            refine lv_aload_n hx hb dX0_lies_55 rfl (lv_at hl 1 rfl) ?_
            refine zw_getA S hW zC_X0 (i := 1) (by decide) (Or.inl q756) (fun _ h => h) dX0_lies_56 h (fun a_20 h => ?_)
            refine zw_getA S hW zC_X1 (i := 1) (by decide) (Or.inr ⟨_, nestW_in q669 rfl⟩) (fun _ h => h) dX0_lies_59 h (fun a_21 h => ?_)
            refine lv_iload hx hb dX0_lies_62 (lv_at hl 0 rfl) ?_
            refine zw_iald S hW dX0_lies_64 h (fun x_22 h => ?_)
            refine lv_aload_n hx hb dX0_lies_65 rfl (lv_at hl 1 rfl) ?_
            refine zw_getA S hW zC_X0 (i := 1) (by decide) (Or.inl q756) (fun _ h => h) dX0_lies_66 h (fun a_23 h => ?_)
            refine zw_getA S hW zC_X1 (i := 8) (by decide) (Or.inr ⟨_, nestW_in q682 rfl⟩) (fun _ h => h) dX0_lies_69 h (fun a_24 h => ?_)
            refine lv_iload_n hx hb dX0_lies_72 rfl (lv_at hl 4 rfl) ?_
            refine zw_iald S hW dX0_lies_73 h (fun x_25 h => ?_)
            refine lv_isub hx hb dX0_lies_74 ?_
            refine va_mabs hx hb (S.2.2.1.trans hl.1.symm) S.2.2.2.1 (S.2.2.2.2 _ q1457) (S.2.2.2.2 _ q1150) (S.2.2.2.2 _ q117) (S.2.2.2.2 _ mc_abs) (Nat.le_of_ble_eq_true rfl) (zm_lo (z_ro (Nat.le_of_ble_eq_true rfl)) (Nat.le_of_ble_eq_true rfl)) (Nat.le_of_ble_eq_true rfl) (Nat.le_of_ble_eq_true rfl) dX0_lies_75 ?_
            obtain ⟨x_26, e_27, h⟩ := nmI_some h
            refine g_nmi e_27 ?_
            refine lv_iload_n hx hb dX0_lies_78 rfl (lv_at hl 2 rfl) ?_
            refine lv_icmp_le (tgt := 88) hx hb dX0_lies_79 (by decide) (fun c_28 => ?_) (fun c_28 => ?_)
            · have h := if_t h c_28
              obtain ⟨x_29, e_30, h⟩ := nmI_some h
              refine lv_iinc (v := x_29) (lv' := [(3, .int x_29), (4, .int x_8), (0, .ref x0), (1, .int x1), (2, .int x2)]) hx hb dX0_lies_88 hl (k := 4) rfl (by rw [e_30]; rfl) (by decide) rfl (fun ls hl => ?_)
              refine lv_goto (tgt := 19) hx hb dX0_lies_91 (by decide) ?_
              exact ih x2 x_29 out _ _ _ h hW (lv_sub hl [2, 3, 4, 0] rfl) k1
            · have h := if_f h c_28
              refine lv_iload_n hx hb dX0_lies_82 rfl (lv_at hl 3 rfl) ?_
              refine lv_iconst (v := 1) hx hb dX0_lies_83 (by decide) ?_
              refine lv_iload_n hx hb dX0_lies_84 rfl (lv_at hl 4 rfl) ?_
              refine lv_ishl hx hb dX0_lies_85 ?_
              refine lv_ior hx hb dX0_lies_86 ?_
              obtain ⟨x_31, e_32, h⟩ := nmI_some h
              refine g_nmi e_32 ?_
              refine lv_istore_n (lv' := [(2, .int x_31), (4, .int x_8), (0, .ref x0), (1, .int x1), (3, .int x3)]) hx hb dX0_lies_87 rfl hl (by decide) rfl (fun ls hl => ?_)
              obtain ⟨x_33, e_34, h⟩ := nmI_some h
              refine lv_iinc (v := x_33) (lv' := [(3, .int x_33), (2, .int x_31), (4, .int x_8), (0, .ref x0), (1, .int x1)]) hx hb dX0_lies_88 hl (k := 4) rfl (by rw [e_34]; rfl) (by decide) rfl (fun ls hl => ?_)
              refine lv_goto (tgt := 19) hx hb dX0_lies_91 (by decide) ?_
              exact ih x_31 x_33 out _ _ _ h hW (lv_sub hl [3, 4, 1, 0] rfl) k1
  unfold cm_X0_lies at h
  refine lv_iload_n hx hb dX0_lies_0 rfl (lv_at hl 1 rfl) ?_
  refine lv_i2l (v := a1.toInt64) hx hb dX0_lies_1 rfl ?_
  refine lv_lconst (v := 0) hx hb dX0_lies_2 (by decide) ?_
  refine lv_ldc2 (v := 99) hx hb S.2.2.2.1 (S.2.2.2.2 _ q1456) dX0_lies_3 ?_
  obtain ⟨x_3, h_1, h⟩ := bnd_some h
  refine d_callS (As := [.long a1.toInt64, .long 0, .long 99]) (rest := []) S hW (metX0_in h_1) (cwX0_in_S S.2.2.2.2 q149 ⟨Nat.le_of_ble_eq_true rfl, Nat.le_of_ble_eq_true rfl⟩) rfl hl.1 rfl (Nat.le_of_ble_eq_true rfl) dX0_lies_6 ⟨(Nat.le_of_ble_eq_true rfl), (Nat.le_of_ble_eq_true rfl)⟩ rfl (fun H locs hW => ?_)
  refine lv_if_ne (tgt := 15) hx hb dX0_lies_9 (by decide) (fun c_4 => ?_) (fun c_4 => ?_)
  · have h := if_f h c_4
    refine lv_iconst (v := 0) hx hb dX0_lies_15 (by decide) ?_
    refine lv_istore_n (lv' := [(2, .int 0), (0, .ref a0), (1, .int a1)]) hx hb dX0_lies_16 rfl hl (by decide) rfl (fun ls hl => ?_)
    refine lv_iconst (v := 0) hx hb dX0_lies_17 (by decide) ?_
    refine lv_istore_n (lv' := [(3, .int 0), (2, .int 0), (0, .ref a0), (1, .int a1)]) hx hb dX0_lies_18 rfl hl (by decide) rfl (fun ls hl => ?_)
    obtain ⟨x_37, h_36, h⟩ := bnd_some h
    refine Lp19 a0 a1 Z0 1000 0 0  _ _ _ _ h_36 hW (lv_sub hl [2, 3, 1, 0] rfl) ?_
    intro w0 eo H locs ls hW hl
    subst eo
    refine lv_iload_n hx hb dX0_lies_94 rfl (lv_at hl 0 rfl) ?_
    cases h
    exact d_iret S hr hlk hW (Nat.le_of_ble_eq_true rfl) (Nat.le_of_ble_eq_true rfl) dX0_lies_95
  · have h := if_t h c_4
    refine lv_bipush (v := (-2)) hx hb dX0_lies_12 (by decide) ?_
    cases h
    exact d_iret S hr hlk hW (Nat.le_of_ble_eq_true rfl) (Nat.le_of_ble_eq_true rfl) dX0_lies_14
def cm_X0_most_B16 (x0 : Nat) (x1 : Int32) (Z : c_S) (rec : Int32 → Int32 → Option (Int32)) (x2 : Int32) (x3 : Int32) : Option (Int32) :=
  if 144 ≤ x3 then (some x2) else (cA Z.Sh x0 0 11 1 fun a_6 => cA Z.Sh a_6 1 20 4 fun a_7 => caI Z.Sh Z.V 2 a_7 x3 fun x_8 => if x_8 = 0 then (if x2 = (-1) then (nmI (x3 + 1) fun x_11 => rec x3 x_11) else (if x1 = 0 then (cA Z.Sh x0 0 11 1 fun a_25 => cA Z.Sh a_25 1 20 1 fun a_26 => caI Z.Sh Z.V 0 a_26 x3 fun x_27 => cA Z.Sh x0 0 11 1 fun a_28 => cA Z.Sh a_28 1 20 1 fun a_29 => caI Z.Sh Z.V 0 a_29 x2 fun x_30 => if x_30 ≤ x_27 then (nmI (x3 + 1) fun x_32 => rec x2 x_32) else (nmI (x3 + 1) fun x_34 => rec x3 x_34)) else (cA Z.Sh x0 0 11 1 fun a_14 => cA Z.Sh a_14 1 20 1 fun a_15 => caI Z.Sh Z.V 0 a_15 x3 fun x_16 => cA Z.Sh x0 0 11 1 fun a_17 => cA Z.Sh a_17 1 20 1 fun a_18 => caI Z.Sh Z.V 0 a_18 x2 fun x_19 => if x_16 ≤ x_19 then (nmI (x3 + 1) fun x_21 => rec x2 x_21) else (nmI (x3 + 1) fun x_23 => rec x3 x_23)))) else (nmI (x3 + 1) fun x_36 => rec x2 x_36))
abbrev cm_X0_most_F16 (x0 : Nat) (x1 : Int32) (Z : c_S) : (((Int32) × (Int32)) → Option (Int32)) → ((Int32) × (Int32)) → Option (Int32) := fun rec s => cm_X0_most_B16 x0 x1 Z (fun x2 x3 => rec (x2, x3)) s.1 s.2
def cm_X0_most_L16 (x0 : Nat) (x1 : Int32) (Z : c_S) (n : Nat) (x2 : Int32) (x3 : Int32) : Option (Int32) := lp (cm_X0_most_F16 x0 x1 Z) n (x2, x3)
theorem cm_X0_most_L16_s (x0 : Nat) (x1 : Int32) (Z : c_S) (n : Nat) (x2 : Int32) (x3 : Int32) : cm_X0_most_L16 x0 x1 Z (n + 1) x2 x3 = cm_X0_most_B16 x0 x1 Z (fun x2 x3 => cm_X0_most_L16 x0 x1 Z n x2 x3) x2 x3 := lp_s (cm_X0_most_F16 x0 x1 Z) n (x2, x3)
def cm_X0_most (Z0 : c_S) (a0 : Nat) (a1 : Int32) : Option (Int32) :=
  bnd (cm_X0_in a1.toInt64 0 1) (fun x_3 => if x_3 = 0 then (some (-1)) else (bnd (cm_X0_most_L16 a0 a1 Z0 1000 (-1) 0) (fun x_40 => some x_40)))
abbrev rmX0_most : Room := rmD 1 25 0 0
set_option maxHeartbeats 4000000 in
theorem metX0_most {l : Launch} {gp : Nat → Nat} {D : va_G} {K : Nat → ClassId} {Z0 : c_S} {a0 : Nat} {a1 : Int32} {r : Int32} (h : cm_X0_most Z0 a0 a1 = some r) : Met l yX0_most (ws_ yX0_most cX0_most 4 (some .int)) rmX0_most (z_Pc gp [.ref a0, .int a1] D K Z0) (z_Q (.returned (some (.int r))) D K (z_A Z0) Z0) 0 0 (z_A Z0) := by
  refine d_met rfl (Nat.le_of_ble_eq_true rfl) ?_
  intro p e s m below meth c ls S hr hlk hnm hl hW hsz
  have S : CallFix p m c cX0_most 4 s ([.ref a0, .int a1] : List Value).toArray lw_all RX0 := S
  have hx := S.1
  have hb := S.2.1
  have hl : lv_has ls 4 [(0, .ref a0), (1, .int a1)] := hl
  have hnm : meth.name = "most" := hnm
  have Lp16 : ∀ (x0 : Nat) (x1 : Int32) (Z : c_S) (n : Nat) (x2 : Int32) (x3 : Int32) (out : (Int32)) (H : Heap) (locs : List Loc) (ls : Array Slot), cm_X0_most_L16 x0 x1 Z n x2 x3 = some out → z_W gp D K (z_A Z0) s Z H locs → lv_has ls 4 [(0, .ref x0), (1, .int x1), (2, .int x2), (3, .int x3)] → (∀ (o2 : Int32), out = o2 → ∀ (H : Heap) (locs : List Loc) (ls : Array Slot), z_W gp D K (z_A Z0) s Z H locs → lv_has ls 4 [(2, .int o2)] → W p l e rmX0_most s m ([.ref a0, .int a1] : List Value).toArray below meth c H locs 0 0 (MQ below (z_Q (.returned (some (.int r))) D K (z_A Z0) Z0) ([.ref a0, .int a1] : List Value).toArray s 0 0 (z_A Z0)) (F0 m 100 ls [])) → W p l e rmX0_most s m ([.ref a0, .int a1] : List Value).toArray below meth c H locs 0 0 (MQ below (z_Q (.returned (some (.int r))) D K (z_A Z0) Z0) ([.ref a0, .int a1] : List Value).toArray s 0 0 (z_A Z0)) (F0 m 16 ls []) := by
    intro x0 x1 Z n
    induction n with
    | zero =>
      intro x2 x3 out H locs ls h
      exact (lp_0 h).elim
    | succ n ih =>
      intro x2 x3 out H locs ls h hW hl k1
      rw [cm_X0_most_L16_s] at h
      unfold cm_X0_most_B16 at h
      refine lv_iload_n hx hb dX0_most_16 rfl (lv_at hl 3 rfl) ?_
      refine lv_sipush (v := 144) hx hb dX0_most_17 (by decide) ?_
      refine lv_icmp_ge (tgt := 100) hx hb dX0_most_20 (by decide) (fun c_5 => ?_) (fun c_5 => ?_)
      · have h := if_t h c_5
        exact k1 _ (Option.some.inj h).symm _ _ _ hW (lv_sub hl [2] rfl)
      · have h := if_f h c_5
        refine lv_aload_n hx hb dX0_most_23 rfl (lv_at hl 0 rfl) ?_
        refine zw_getA S hW zC_X0 (i := 1) (by decide) (Or.inl q756) (fun _ h => h) dX0_most_24 h (fun a_6 h => ?_)
        refine zw_getA S hW zC_X1 (i := 4) (by decide) (Or.inr ⟨_, nestW_in q674 rfl⟩) (fun _ h => h) dX0_most_27 h (fun a_7 h => ?_)
        refine lv_iload_n hx hb dX0_most_30 rfl (lv_at hl 3 rfl) ?_
        refine zw_zald S hW dX0_most_31 h (fun x_8 h => ?_)
        refine lv_if_eq (tgt := 38) hx hb dX0_most_32 (by decide) (fun c_9 => ?_) (fun c_9 => ?_)
        · have h := if_t h c_9
          refine lv_iload_n hx hb dX0_most_38 rfl (lv_at hl 2 rfl) ?_
          refine lv_iconst (v := (-1)) hx hb dX0_most_39 (by decide) ?_
          refine lv_icmp_eq (tgt := 92) hx hb dX0_most_40 (by decide) (fun c_10 => ?_) (fun c_10 => ?_)
          · have h := if_t h c_10
            refine lv_iload_n hx hb dX0_most_92 rfl (lv_at hl 3 rfl) ?_
            refine lv_istore_n (lv' := [(2, .int x3), (0, .ref x0), (1, .int x1), (3, .int x3)]) hx hb dX0_most_93 rfl hl (by decide) rfl (fun ls hl => ?_)
            obtain ⟨x_11, e_12, h⟩ := nmI_some h
            refine lv_iinc (v := x_11) (lv' := [(3, .int x_11), (2, .int x3), (0, .ref x0), (1, .int x1)]) hx hb dX0_most_94 hl (k := 3) rfl (by rw [e_12]; rfl) (by decide) rfl (fun ls hl => ?_)
            refine lv_goto (tgt := 16) hx hb dX0_most_97 (by decide) ?_
            exact ih x3 x_11 out _ _ _ h hW (lv_sub hl [2, 3, 1, 0] rfl) k1
          · have h := if_f h c_10
            refine lv_iload_n hx hb dX0_most_43 rfl (lv_at hl 1 rfl) ?_
            refine lv_if_ne (tgt := 71) hx hb dX0_most_44 (by decide) (fun c_13 => ?_) (fun c_13 => ?_)
            · have h := if_f h c_13
              refine lv_aload_n hx hb dX0_most_71 rfl (lv_at hl 0 rfl) ?_
              refine zw_getA S hW zC_X0 (i := 1) (by decide) (Or.inl q756) (fun _ h => h) dX0_most_72 h (fun a_14 h => ?_)
              refine zw_getA S hW zC_X1 (i := 1) (by decide) (Or.inr ⟨_, nestW_in q669 rfl⟩) (fun _ h => h) dX0_most_75 h (fun a_15 h => ?_)
              refine lv_iload_n hx hb dX0_most_78 rfl (lv_at hl 3 rfl) ?_
              refine zw_iald S hW dX0_most_79 h (fun x_16 h => ?_)
              refine lv_aload_n hx hb dX0_most_80 rfl (lv_at hl 0 rfl) ?_
              refine zw_getA S hW zC_X0 (i := 1) (by decide) (Or.inl q756) (fun _ h => h) dX0_most_81 h (fun a_17 h => ?_)
              refine zw_getA S hW zC_X1 (i := 1) (by decide) (Or.inr ⟨_, nestW_in q669 rfl⟩) (fun _ h => h) dX0_most_84 h (fun a_18 h => ?_)
              refine lv_iload_n hx hb dX0_most_87 rfl (lv_at hl 2 rfl) ?_
              refine zw_iald S hW dX0_most_88 h (fun x_19 h => ?_)
              refine lv_icmp_le (tgt := 94) hx hb dX0_most_89 (by decide) (fun c_20 => ?_) (fun c_20 => ?_)
              · have h := if_t h c_20
                obtain ⟨x_21, e_22, h⟩ := nmI_some h
                refine lv_iinc (v := x_21) (lv' := [(3, .int x_21), (0, .ref x0), (1, .int x1), (2, .int x2)]) hx hb dX0_most_94 hl (k := 3) rfl (by rw [e_22]; rfl) (by decide) rfl (fun ls hl => ?_)
                refine lv_goto (tgt := 16) hx hb dX0_most_97 (by decide) ?_
                exact ih x2 x_21 out _ _ _ h hW (lv_sub hl [1, 2, 3, 0] rfl) k1
              · have h := if_f h c_20
                refine lv_iload_n hx hb dX0_most_92 rfl (lv_at hl 3 rfl) ?_
                refine lv_istore_n (lv' := [(2, .int x3), (0, .ref x0), (1, .int x1), (3, .int x3)]) hx hb dX0_most_93 rfl hl (by decide) rfl (fun ls hl => ?_)
                obtain ⟨x_23, e_24, h⟩ := nmI_some h
                refine lv_iinc (v := x_23) (lv' := [(3, .int x_23), (2, .int x3), (0, .ref x0), (1, .int x1)]) hx hb dX0_most_94 hl (k := 3) rfl (by rw [e_24]; rfl) (by decide) rfl (fun ls hl => ?_)
                refine lv_goto (tgt := 16) hx hb dX0_most_97 (by decide) ?_
                exact ih x3 x_23 out _ _ _ h hW (lv_sub hl [2, 3, 1, 0] rfl) k1
            · have h := if_t h c_13
              refine lv_aload_n hx hb dX0_most_47 rfl (lv_at hl 0 rfl) ?_
              refine zw_getA S hW zC_X0 (i := 1) (by decide) (Or.inl q756) (fun _ h => h) dX0_most_48 h (fun a_25 h => ?_)
              refine zw_getA S hW zC_X1 (i := 1) (by decide) (Or.inr ⟨_, nestW_in q669 rfl⟩) (fun _ h => h) dX0_most_51 h (fun a_26 h => ?_)
              refine lv_iload_n hx hb dX0_most_54 rfl (lv_at hl 3 rfl) ?_
              refine zw_iald S hW dX0_most_55 h (fun x_27 h => ?_)
              refine lv_aload_n hx hb dX0_most_56 rfl (lv_at hl 0 rfl) ?_
              refine zw_getA S hW zC_X0 (i := 1) (by decide) (Or.inl q756) (fun _ h => h) dX0_most_57 h (fun a_28 h => ?_)
              refine zw_getA S hW zC_X1 (i := 1) (by decide) (Or.inr ⟨_, nestW_in q669 rfl⟩) (fun _ h => h) dX0_most_60 h (fun a_29 h => ?_)
              refine lv_iload_n hx hb dX0_most_63 rfl (lv_at hl 2 rfl) ?_
              refine zw_iald S hW dX0_most_64 h (fun x_30 h => ?_)
              refine lv_icmp_ge (tgt := 94) hx hb dX0_most_65 (by decide) (fun c_31 => ?_) (fun c_31 => ?_)
              · have h := if_t h c_31
                obtain ⟨x_32, e_33, h⟩ := nmI_some h
                refine lv_iinc (v := x_32) (lv' := [(3, .int x_32), (0, .ref x0), (1, .int x1), (2, .int x2)]) hx hb dX0_most_94 hl (k := 3) rfl (by rw [e_33]; rfl) (by decide) rfl (fun ls hl => ?_)
                refine lv_goto (tgt := 16) hx hb dX0_most_97 (by decide) ?_
                exact ih x2 x_32 out _ _ _ h hW (lv_sub hl [1, 2, 3, 0] rfl) k1
              · have h := if_f h c_31
                refine lv_goto (tgt := 92) hx hb dX0_most_68 (by decide) ?_
                refine lv_iload_n hx hb dX0_most_92 rfl (lv_at hl 3 rfl) ?_
                refine lv_istore_n (lv' := [(2, .int x3), (0, .ref x0), (1, .int x1), (3, .int x3)]) hx hb dX0_most_93 rfl hl (by decide) rfl (fun ls hl => ?_)
                obtain ⟨x_34, e_35, h⟩ := nmI_some h
                refine lv_iinc (v := x_34) (lv' := [(3, .int x_34), (2, .int x3), (0, .ref x0), (1, .int x1)]) hx hb dX0_most_94 hl (k := 3) rfl (by rw [e_35]; rfl) (by decide) rfl (fun ls hl => ?_)
                refine lv_goto (tgt := 16) hx hb dX0_most_97 (by decide) ?_
                exact ih x3 x_34 out _ _ _ h hW (lv_sub hl [2, 3, 1, 0] rfl) k1
        · have h := if_f h c_9
          refine lv_goto (tgt := 94) hx hb dX0_most_35 (by decide) ?_
          obtain ⟨x_36, e_37, h⟩ := nmI_some h
          refine lv_iinc (v := x_36) (lv' := [(3, .int x_36), (0, .ref x0), (1, .int x1), (2, .int x2)]) hx hb dX0_most_94 hl (k := 3) rfl (by rw [e_37]; rfl) (by decide) rfl (fun ls hl => ?_)
          refine lv_goto (tgt := 16) hx hb dX0_most_97 (by decide) ?_
          exact ih x2 x_36 out _ _ _ h hW (lv_sub hl [1, 2, 3, 0] rfl) k1
  unfold cm_X0_most at h
  refine lv_iload_n hx hb dX0_most_0 rfl (lv_at hl 1 rfl) ?_
  refine lv_i2l (v := a1.toInt64) hx hb dX0_most_1 rfl ?_
  refine lv_lconst (v := 0) hx hb dX0_most_2 (by decide) ?_
  refine lv_lconst (v := 1) hx hb dX0_most_3 (by decide) ?_
  obtain ⟨x_3, h_1, h⟩ := bnd_some h
  refine d_callS (As := [.long a1.toInt64, .long 0, .long 1]) (rest := []) S hW (metX0_in h_1) (cwX0_in_S S.2.2.2.2 q149 ⟨Nat.le_of_ble_eq_true rfl, Nat.le_of_ble_eq_true rfl⟩) rfl hl.1 rfl (Nat.le_of_ble_eq_true rfl) dX0_most_4 ⟨(Nat.le_of_ble_eq_true rfl), (Nat.le_of_ble_eq_true rfl)⟩ rfl (fun H locs hW => ?_)
  refine lv_if_ne (tgt := 12) hx hb dX0_most_7 (by decide) (fun c_4 => ?_) (fun c_4 => ?_)
  · have h := if_f h c_4
    refine lv_iconst (v := (-1)) hx hb dX0_most_12 (by decide) ?_
    refine lv_istore_n (lv' := [(2, .int (-1)), (0, .ref a0), (1, .int a1)]) hx hb dX0_most_13 rfl hl (by decide) rfl (fun ls hl => ?_)
    refine lv_iconst (v := 0) hx hb dX0_most_14 (by decide) ?_
    refine lv_istore_n (lv' := [(3, .int 0), (2, .int (-1)), (0, .ref a0), (1, .int a1)]) hx hb dX0_most_15 rfl hl (by decide) rfl (fun ls hl => ?_)
    obtain ⟨x_40, h_39, h⟩ := bnd_some h
    refine Lp16 a0 a1 Z0 1000 (-1) 0  _ _ _ _ h_39 hW (lv_sub hl [2, 3, 1, 0] rfl) ?_
    intro w0 eo H locs ls hW hl
    subst eo
    refine lv_iload_n hx hb dX0_most_100 rfl (lv_at hl 0 rfl) ?_
    cases h
    exact d_iret S hr hlk hW (Nat.le_of_ble_eq_true rfl) (Nat.le_of_ble_eq_true rfl) dX0_most_101
  · have h := if_t h c_4
    refine lv_iconst (v := (-1)) hx hb dX0_most_10 (by decide) ?_
    cases h
    exact d_iret S hr hlk hW (Nat.le_of_ble_eq_true rfl) (Nat.le_of_ble_eq_true rfl) dX0_most_11
def cm_X1_wants (Z0 : c_S) (a0 : Nat) (a1 : Nat) : Option (Int32) :=
  cI Z0.Sh Z0.V a1 5 6 3 fun x_1 => if x_1 = 0 then (some 0) else (cA Z0.Sh a0 1 20 4 fun a_3 => cI Z0.Sh Z0.V a1 5 6 0 fun x_4 => caI Z0.Sh Z0.V 2 a_3 x_4 fun x_5 => if x_5 = 0 then (cA Z0.Sh a0 1 20 1 fun a_7 => cI Z0.Sh Z0.V a1 5 6 0 fun x_8 => caI Z0.Sh Z0.V 0 a_7 x_8 fun x_9 => cI Z0.Sh Z0.V a1 5 6 1 fun x_10 => nmI (if 0 < (x_9 - x_10) then (x_9 - x_10) else 0) fun x_11 => cI Z0.Sh Z0.V a1 5 6 2 fun x_13 => some ((x_11 * x_13) / 100)) else (some 0))
abbrev rmX1_wants : Room := rmD 1 21 0 0
set_option maxHeartbeats 4000000 in
theorem metX1_wants {l : Launch} {gp : Nat → Nat} {D : va_G} {K : Nat → ClassId} {Z0 : c_S} {a0 : Nat} {a1 : Nat} {r : Int32} (h : cm_X1_wants Z0 a0 a1 = some r) : Met l yX1_wants (ws_ yX1_wants cX1_wants 2 (some .int)) rmX1_wants (z_Pc gp [.ref a0, .ref a1] D K Z0) (z_Q (.returned (some (.int r))) D K (z_A Z0) Z0) 0 0 (z_A Z0) := by
  refine d_met rfl (Nat.le_of_ble_eq_true rfl) ?_
  intro p e s m below meth c ls S hr hlk hnm hl hW hsz
  have S : CallFix p m c cX1_wants 2 s ([.ref a0, .ref a1] : List Value).toArray lw_all RX1 := S
  have hx := S.1
  have hb := S.2.1
  have hl : lv_has ls 2 [(0, .ref a0), (1, .ref a1)] := hl
  have hnm : meth.name = "wants" := hnm
  unfold cm_X1_wants at h
  refine lv_aload_n hx hb dX1_wants_0 rfl (lv_at hl 1 rfl) ?_
  refine zw_getI S hW zC_X5 (i := 3) (by decide) (Or.inr ⟨_, nestW_in q546 rfl⟩) (fun _ h => h) dX1_wants_1 h (fun x_1 h => ?_)
  refine lv_if_eq (tgt := 19) hx hb dX1_wants_4 (by decide) (fun c_2 => ?_) (fun c_2 => ?_)
  · have h := if_t h c_2
    refine lv_iconst (v := 0) hx hb dX1_wants_19 (by decide) ?_
    refine lv_goto (tgt := 49) hx hb dX1_wants_20 (by decide) ?_
    cases h
    exact d_iret S hr hlk hW (Nat.le_of_ble_eq_true rfl) (Nat.le_of_ble_eq_true rfl) dX1_wants_49
  · have h := if_f h c_2
    refine lv_aload_n hx hb dX1_wants_7 rfl (lv_at hl 0 rfl) ?_
    refine zw_getA S hW zC_X1 (i := 4) (by decide) (Or.inl q673) (fun _ h => h) dX1_wants_8 h (fun a_3 h => ?_)
    refine lv_aload_n hx hb dX1_wants_11 rfl (lv_at hl 1 rfl) ?_
    refine zw_getI S hW zC_X5 (i := 0) (by decide) (Or.inr ⟨_, nestW_in q536 rfl⟩) (fun _ h => h) dX1_wants_12 h (fun x_4 h => ?_)
    refine zw_zald S hW dX1_wants_15 h (fun x_5 h => ?_)
    refine lv_if_eq (tgt := 23) hx hb dX1_wants_16 (by decide) (fun c_6 => ?_) (fun c_6 => ?_)
    · have h := if_t h c_6
      refine lv_iconst (v := 0) hx hb dX1_wants_23 (by decide) ?_
      refine lv_aload_n hx hb dX1_wants_24 rfl (lv_at hl 0 rfl) ?_
      refine zw_getA S hW zC_X1 (i := 1) (by decide) (Or.inl q668) (fun _ h => h) dX1_wants_25 h (fun a_7 h => ?_)
      refine lv_aload_n hx hb dX1_wants_28 rfl (lv_at hl 1 rfl) ?_
      refine zw_getI S hW zC_X5 (i := 0) (by decide) (Or.inr ⟨_, nestW_in q536 rfl⟩) (fun _ h => h) dX1_wants_29 h (fun x_8 h => ?_)
      refine zw_iald S hW dX1_wants_32 h (fun x_9 h => ?_)
      refine lv_aload_n hx hb dX1_wants_33 rfl (lv_at hl 1 rfl) ?_
      refine zw_getI S hW zC_X5 (i := 1) (by decide) (Or.inr ⟨_, nestW_in q540 rfl⟩) (fun _ h => h) dX1_wants_34 h (fun x_10 h => ?_)
      refine lv_isub hx hb dX1_wants_37 ?_
      refine va_mmax hx hb (S.2.2.1.trans hl.1.symm) S.2.2.2.1 (S.2.2.2.2 _ q1140) (S.2.2.2.2 _ q595) (S.2.2.2.2 _ q117) (S.2.2.2.2 _ mc_max) (Nat.le_of_ble_eq_true rfl) (zm_lo (z_ro (Nat.le_of_ble_eq_true rfl)) (Nat.le_of_ble_eq_true rfl)) (Nat.le_of_ble_eq_true rfl) (Nat.le_of_ble_eq_true rfl) dX1_wants_38 ?_
      obtain ⟨x_11, e_12, h⟩ := nmI_some h
      refine g_nmi e_12 ?_
      refine lv_aload_n hx hb dX1_wants_41 rfl (lv_at hl 1 rfl) ?_
      refine zw_getI S hW zC_X5 (i := 2) (by decide) (Or.inr ⟨_, nestW_in q543 rfl⟩) (fun _ h => h) dX1_wants_42 h (fun x_13 h => ?_)
      refine lv_imul hx hb dX1_wants_45 ?_
      refine lv_bipush (v := 100) hx hb dX1_wants_46 (by decide) ?_
      refine lv_idiv hx hb dX1_wants_48 (by decide) ?_
      cases h
      exact d_iret S hr hlk hW (Nat.le_of_ble_eq_true rfl) (Nat.le_of_ble_eq_true rfl) dX1_wants_49
    · have h := if_f h c_6
      refine lv_iconst (v := 0) hx hb dX1_wants_19 (by decide) ?_
      refine lv_goto (tgt := 49) hx hb dX1_wants_20 (by decide) ?_
      cases h
      exact d_iret S hr hlk hW (Nat.le_of_ble_eq_true rfl) (Nat.le_of_ble_eq_true rfl) dX1_wants_49
def cm_X1_lift_B4 (x0 : Nat) (Z : c_S) (rec : Int32 → Int32 → Option (Int32)) (x2 : Int32) (x3 : Int32) : Option (Int32) :=
  if 144 ≤ x3 then (some x2) else (cA Z.Sh x0 1 20 4 fun a_2 => caI Z.Sh Z.V 2 a_2 x3 fun x_3 => if x_3 = 0 then (cA Z.Sh x0 1 20 2 fun a_5 => caI Z.Sh Z.V 0 a_5 x3 fun x_6 => nmI (x2 + (x_6 / 10)) fun x_7 => nmI (x3 + 12) fun x_9 => rec x_7 x_9) else (nmI (x2 + 0) fun x_11 => nmI (x3 + 12) fun x_13 => rec x_11 x_13))
abbrev cm_X1_lift_F4 (x0 : Nat) (Z : c_S) : (((Int32) × (Int32)) → Option (Int32)) → ((Int32) × (Int32)) → Option (Int32) := fun rec s => cm_X1_lift_B4 x0 Z (fun x2 x3 => rec (x2, x3)) s.1 s.2
def cm_X1_lift_L4 (x0 : Nat) (Z : c_S) (n : Nat) (x2 : Int32) (x3 : Int32) : Option (Int32) := lp (cm_X1_lift_F4 x0 Z) n (x2, x3)
theorem cm_X1_lift_L4_s (x0 : Nat) (Z : c_S) (n : Nat) (x2 : Int32) (x3 : Int32) : cm_X1_lift_L4 x0 Z (n + 1) x2 x3 = cm_X1_lift_B4 x0 Z (fun x2 x3 => cm_X1_lift_L4 x0 Z n x2 x3) x2 x3 := lp_s (cm_X1_lift_F4 x0 Z) n (x2, x3)
def cm_X1_lift (Z0 : c_S) (a0 : Nat) (a1 : Int32) : Option (Int32) :=
  bnd (cm_X1_lift_L4 a0 Z0 1000 0 a1) (fun x_17 => some x_17)
abbrev rmX1_lift : Room := rmD 0 0 0 0
set_option maxHeartbeats 4000000 in
theorem metX1_lift {l : Launch} {gp : Nat → Nat} {D : va_G} {K : Nat → ClassId} {Z0 : c_S} {a0 : Nat} {a1 : Int32} {r : Int32} (h : cm_X1_lift Z0 a0 a1 = some r) : Met l yX1_lift (ws_ yX1_lift cX1_lift 4 (some .int)) rmX1_lift (z_Pc gp [.ref a0, .int a1] D K Z0) (z_Q (.returned (some (.int r))) D K (z_A Z0) Z0) 0 0 (z_A Z0) := by
  refine d_met rfl (Nat.le_of_ble_eq_true rfl) ?_
  intro p e s m below meth c ls S hr hlk hnm hl hW hsz
  have S : CallFix p m c cX1_lift 4 s ([.ref a0, .int a1] : List Value).toArray lw_all RX1 := S
  have hx := S.1
  have hb := S.2.1
  have hl : lv_has ls 4 [(0, .ref a0), (1, .int a1)] := hl
  have hnm : meth.name = "lift" := hnm
  have Lp4 : ∀ (x0 : Nat) (Z : c_S) (n : Nat) (x2 : Int32) (x3 : Int32) (out : (Int32)) (H : Heap) (locs : List Loc) (ls : Array Slot), cm_X1_lift_L4 x0 Z n x2 x3 = some out → z_W gp D K (z_A Z0) s Z H locs → lv_has ls 4 [(0, .ref x0), (2, .int x2), (3, .int x3)] → (∀ (o2 : Int32), out = o2 → ∀ (H : Heap) (locs : List Loc) (ls : Array Slot), z_W gp D K (z_A Z0) s Z H locs → lv_has ls 4 [(2, .int o2)] → W p l e rmX1_lift s m ([.ref a0, .int a1] : List Value).toArray below meth c H locs 0 0 (MQ below (z_Q (.returned (some (.int r))) D K (z_A Z0) Z0) ([.ref a0, .int a1] : List Value).toArray s 0 0 (z_A Z0)) (F0 m 42 ls [])) → W p l e rmX1_lift s m ([.ref a0, .int a1] : List Value).toArray below meth c H locs 0 0 (MQ below (z_Q (.returned (some (.int r))) D K (z_A Z0) Z0) ([.ref a0, .int a1] : List Value).toArray s 0 0 (z_A Z0)) (F0 m 4 ls []) := by
    intro x0 Z n
    induction n with
    | zero =>
      intro x2 x3 out H locs ls h
      exact (lp_0 h).elim
    | succ n ih =>
      intro x2 x3 out H locs ls h hW hl k1
      rw [cm_X1_lift_L4_s] at h
      unfold cm_X1_lift_B4 at h
      refine lv_iload_n hx hb dX1_lift_4 rfl (lv_at hl 2 rfl) ?_
      refine lv_sipush (v := 144) hx hb dX1_lift_5 (by decide) ?_
      refine lv_icmp_ge (tgt := 42) hx hb dX1_lift_8 (by decide) (fun c_1 => ?_) (fun c_1 => ?_)
      · have h := if_t h c_1
        exact k1 _ (Option.some.inj h).symm _ _ _ hW (lv_sub hl [1] rfl)
      · have h := if_f h c_1
        refine lv_iload_n hx hb dX1_lift_11 rfl (lv_at hl 1 rfl) ?_
        refine lv_aload_n hx hb dX1_lift_12 rfl (lv_at hl 0 rfl) ?_
        refine zw_getA S hW zC_X1 (i := 4) (by decide) (Or.inl q673) (fun _ h => h) dX1_lift_13 h (fun a_2 h => ?_)
        refine lv_iload_n hx hb dX1_lift_16 rfl (lv_at hl 2 rfl) ?_
        refine zw_zald S hW dX1_lift_17 h (fun x_3 h => ?_)
        refine lv_if_eq (tgt := 25) hx hb dX1_lift_18 (by decide) (fun c_4 => ?_) (fun c_4 => ?_)
        · have h := if_t h c_4
          refine lv_aload_n hx hb dX1_lift_25 rfl (lv_at hl 0 rfl) ?_
          refine zw_getA S hW zC_X1 (i := 2) (by decide) (Or.inl q670) (fun _ h => h) dX1_lift_26 h (fun a_5 h => ?_)
          refine lv_iload_n hx hb dX1_lift_29 rfl (lv_at hl 2 rfl) ?_
          refine zw_iald S hW dX1_lift_30 h (fun x_6 h => ?_)
          refine lv_bipush (v := 10) hx hb dX1_lift_31 (by decide) ?_
          refine lv_idiv hx hb dX1_lift_33 (by decide) ?_
          refine lv_iadd hx hb dX1_lift_34 ?_
          obtain ⟨x_7, e_8, h⟩ := nmI_some h
          refine g_nmi e_8 ?_
          refine lv_istore_n (lv' := [(2, .int x_7), (0, .ref x0), (3, .int x3)]) hx hb dX1_lift_35 rfl hl (by decide) rfl (fun ls hl => ?_)
          obtain ⟨x_9, e_10, h⟩ := nmI_some h
          refine lv_iinc (v := x_9) (lv' := [(3, .int x_9), (2, .int x_7), (0, .ref x0)]) hx hb dX1_lift_36 hl (k := 2) rfl (by rw [e_10]; rfl) (by decide) rfl (fun ls hl => ?_)
          refine lv_goto (tgt := 4) hx hb dX1_lift_39 (by decide) ?_
          exact ih x_7 x_9 out _ _ _ h hW (lv_sub hl [2, 1, 0] rfl) k1
        · have h := if_f h c_4
          refine lv_iconst (v := 0) hx hb dX1_lift_21 (by decide) ?_
          refine lv_goto (tgt := 34) hx hb dX1_lift_22 (by decide) ?_
          refine lv_iadd hx hb dX1_lift_34 ?_
          obtain ⟨x_11, e_12, h⟩ := nmI_some h
          refine g_nmi e_12 ?_
          refine lv_istore_n (lv' := [(2, .int x_11), (0, .ref x0), (3, .int x3)]) hx hb dX1_lift_35 rfl hl (by decide) rfl (fun ls hl => ?_)
          obtain ⟨x_13, e_14, h⟩ := nmI_some h
          refine lv_iinc (v := x_13) (lv' := [(3, .int x_13), (2, .int x_11), (0, .ref x0)]) hx hb dX1_lift_36 hl (k := 2) rfl (by rw [e_14]; rfl) (by decide) rfl (fun ls hl => ?_)
          refine lv_goto (tgt := 4) hx hb dX1_lift_39 (by decide) ?_
          exact ih x_11 x_13 out _ _ _ h hW (lv_sub hl [2, 1, 0] rfl) k1
  unfold cm_X1_lift at h
  refine lv_iconst (v := 0) hx hb dX1_lift_0 (by decide) ?_
  refine lv_istore_n (lv' := [(2, .int 0), (0, .ref a0), (1, .int a1)]) hx hb dX1_lift_1 rfl hl (by decide) rfl (fun ls hl => ?_)
  refine lv_iload_n hx hb dX1_lift_2 rfl (lv_at hl 2 rfl) ?_
  refine lv_istore_n (lv' := [(3, .int a1), (2, .int 0), (0, .ref a0), (1, .int a1)]) hx hb dX1_lift_3 rfl hl (by decide) rfl (fun ls hl => ?_)
  obtain ⟨x_17, h_16, h⟩ := bnd_some h
  refine Lp4 a0 Z0 1000 0 a1  _ _ _ _ h_16 hW (lv_sub hl [2, 1, 0] rfl) ?_
  intro w0 eo H locs ls hW hl
  subst eo
  refine lv_iload_n hx hb dX1_lift_42 rfl (lv_at hl 0 rfl) ?_
  cases h
  exact d_iret S hr hlk hW (Nat.le_of_ble_eq_true rfl) (Nat.le_of_ble_eq_true rfl) dX1_lift_43
def cm_X1_heat_B4 (x0 : Nat) (Z : c_S) (rec : Int32 → Int32 → Option (Int32)) (x1 : Int32) (x2 : Int32) : Option (Int32) :=
  if 144 ≤ x2 then (some x1) else (cA Z.Sh x0 1 20 4 fun a_2 => caI Z.Sh Z.V 2 a_2 x2 fun x_3 => if x_3 = 0 then (cA Z.Sh x0 1 20 1 fun a_5 => caI Z.Sh Z.V 0 a_5 x2 fun x_6 => cA Z.Sh x0 1 20 2 fun a_7 => caI Z.Sh Z.V 0 a_7 x2 fun x_8 => nmI (x1 + (x_6 - x_8)) fun x_9 => nmI (x2 + 1) fun x_11 => rec x_9 x_11) else (nmI (x1 + 0) fun x_13 => nmI (x2 + 1) fun x_15 => rec x_13 x_15))
abbrev cm_X1_heat_F4 (x0 : Nat) (Z : c_S) : (((Int32) × (Int32)) → Option (Int32)) → ((Int32) × (Int32)) → Option (Int32) := fun rec s => cm_X1_heat_B4 x0 Z (fun x1 x2 => rec (x1, x2)) s.1 s.2
def cm_X1_heat_L4 (x0 : Nat) (Z : c_S) (n : Nat) (x1 : Int32) (x2 : Int32) : Option (Int32) := lp (cm_X1_heat_F4 x0 Z) n (x1, x2)
theorem cm_X1_heat_L4_s (x0 : Nat) (Z : c_S) (n : Nat) (x1 : Int32) (x2 : Int32) : cm_X1_heat_L4 x0 Z (n + 1) x1 x2 = cm_X1_heat_B4 x0 Z (fun x1 x2 => cm_X1_heat_L4 x0 Z n x1 x2) x1 x2 := lp_s (cm_X1_heat_F4 x0 Z) n (x1, x2)
def cm_X1_heat (Z0 : c_S) (a0 : Nat) : Option (Int32) :=
  bnd (cm_X1_heat_L4 a0 Z0 1000 0 0) (fun x_19 => some x_19)
abbrev rmX1_heat : Room := rmD 0 0 0 0
set_option maxHeartbeats 4000000 in
theorem metX1_heat {l : Launch} {gp : Nat → Nat} {D : va_G} {K : Nat → ClassId} {Z0 : c_S} {a0 : Nat} {r : Int32} (h : cm_X1_heat Z0 a0 = some r) : Met l yX1_heat (ws_ yX1_heat cX1_heat 3 (some .int)) rmX1_heat (z_Pc gp [.ref a0] D K Z0) (z_Q (.returned (some (.int r))) D K (z_A Z0) Z0) 0 0 (z_A Z0) := by
  refine d_met rfl (Nat.le_of_ble_eq_true rfl) ?_
  intro p e s m below meth c ls S hr hlk hnm hl hW hsz
  have S : CallFix p m c cX1_heat 3 s ([.ref a0] : List Value).toArray lw_all RX1 := S
  have hx := S.1
  have hb := S.2.1
  have hl : lv_has ls 3 [(0, .ref a0)] := hl
  have hnm : meth.name = "heat" := hnm
  have Lp4 : ∀ (x0 : Nat) (Z : c_S) (n : Nat) (x1 : Int32) (x2 : Int32) (out : (Int32)) (H : Heap) (locs : List Loc) (ls : Array Slot), cm_X1_heat_L4 x0 Z n x1 x2 = some out → z_W gp D K (z_A Z0) s Z H locs → lv_has ls 3 [(0, .ref x0), (1, .int x1), (2, .int x2)] → (∀ (o1 : Int32), out = o1 → ∀ (H : Heap) (locs : List Loc) (ls : Array Slot), z_W gp D K (z_A Z0) s Z H locs → lv_has ls 3 [(1, .int o1)] → W p l e rmX1_heat s m ([.ref a0] : List Value).toArray below meth c H locs 0 0 (MQ below (z_Q (.returned (some (.int r))) D K (z_A Z0) Z0) ([.ref a0] : List Value).toArray s 0 0 (z_A Z0)) (F0 m 46 ls [])) → W p l e rmX1_heat s m ([.ref a0] : List Value).toArray below meth c H locs 0 0 (MQ below (z_Q (.returned (some (.int r))) D K (z_A Z0) Z0) ([.ref a0] : List Value).toArray s 0 0 (z_A Z0)) (F0 m 4 ls []) := by
    intro x0 Z n
    induction n with
    | zero =>
      intro x1 x2 out H locs ls h
      exact (lp_0 h).elim
    | succ n ih =>
      intro x1 x2 out H locs ls h hW hl k1
      rw [cm_X1_heat_L4_s] at h
      unfold cm_X1_heat_B4 at h
      refine lv_iload_n hx hb dX1_heat_4 rfl (lv_at hl 2 rfl) ?_
      refine lv_sipush (v := 144) hx hb dX1_heat_5 (by decide) ?_
      refine lv_icmp_ge (tgt := 46) hx hb dX1_heat_8 (by decide) (fun c_1 => ?_) (fun c_1 => ?_)
      · have h := if_t h c_1
        exact k1 _ (Option.some.inj h).symm _ _ _ hW (lv_sub hl [1] rfl)
      · have h := if_f h c_1
        refine lv_iload_n hx hb dX1_heat_11 rfl (lv_at hl 1 rfl) ?_
        refine lv_aload_n hx hb dX1_heat_12 rfl (lv_at hl 0 rfl) ?_
        refine zw_getA S hW zC_X1 (i := 4) (by decide) (Or.inl q673) (fun _ h => h) dX1_heat_13 h (fun a_2 h => ?_)
        refine lv_iload_n hx hb dX1_heat_16 rfl (lv_at hl 2 rfl) ?_
        refine zw_zald S hW dX1_heat_17 h (fun x_3 h => ?_)
        refine lv_if_eq (tgt := 25) hx hb dX1_heat_18 (by decide) (fun c_4 => ?_) (fun c_4 => ?_)
        · have h := if_t h c_4
          refine lv_aload_n hx hb dX1_heat_25 rfl (lv_at hl 0 rfl) ?_
          refine zw_getA S hW zC_X1 (i := 1) (by decide) (Or.inl q668) (fun _ h => h) dX1_heat_26 h (fun a_5 h => ?_)
          refine lv_iload_n hx hb dX1_heat_29 rfl (lv_at hl 2 rfl) ?_
          refine zw_iald S hW dX1_heat_30 h (fun x_6 h => ?_)
          refine lv_aload_n hx hb dX1_heat_31 rfl (lv_at hl 0 rfl) ?_
          refine zw_getA S hW zC_X1 (i := 2) (by decide) (Or.inl q670) (fun _ h => h) dX1_heat_32 h (fun a_7 h => ?_)
          refine lv_iload_n hx hb dX1_heat_35 rfl (lv_at hl 2 rfl) ?_
          refine zw_iald S hW dX1_heat_36 h (fun x_8 h => ?_)
          refine lv_isub hx hb dX1_heat_37 ?_
          refine lv_iadd hx hb dX1_heat_38 ?_
          obtain ⟨x_9, e_10, h⟩ := nmI_some h
          refine g_nmi e_10 ?_
          refine lv_istore_n (lv' := [(1, .int x_9), (0, .ref x0), (2, .int x2)]) hx hb dX1_heat_39 rfl hl (by decide) rfl (fun ls hl => ?_)
          obtain ⟨x_11, e_12, h⟩ := nmI_some h
          refine lv_iinc (v := x_11) (lv' := [(2, .int x_11), (1, .int x_9), (0, .ref x0)]) hx hb dX1_heat_40 hl (k := 2) rfl (by rw [e_12]; rfl) (by decide) rfl (fun ls hl => ?_)
          refine lv_goto (tgt := 4) hx hb dX1_heat_43 (by decide) ?_
          exact ih x_9 x_11 out _ _ _ h hW (lv_sub hl [2, 1, 0] rfl) k1
        · have h := if_f h c_4
          refine lv_iconst (v := 0) hx hb dX1_heat_21 (by decide) ?_
          refine lv_goto (tgt := 38) hx hb dX1_heat_22 (by decide) ?_
          refine lv_iadd hx hb dX1_heat_38 ?_
          obtain ⟨x_13, e_14, h⟩ := nmI_some h
          refine g_nmi e_14 ?_
          refine lv_istore_n (lv' := [(1, .int x_13), (0, .ref x0), (2, .int x2)]) hx hb dX1_heat_39 rfl hl (by decide) rfl (fun ls hl => ?_)
          obtain ⟨x_15, e_16, h⟩ := nmI_some h
          refine lv_iinc (v := x_15) (lv' := [(2, .int x_15), (1, .int x_13), (0, .ref x0)]) hx hb dX1_heat_40 hl (k := 2) rfl (by rw [e_16]; rfl) (by decide) rfl (fun ls hl => ?_)
          refine lv_goto (tgt := 4) hx hb dX1_heat_43 (by decide) ?_
          exact ih x_13 x_15 out _ _ _ h hW (lv_sub hl [2, 1, 0] rfl) k1
  unfold cm_X1_heat at h
  refine lv_iconst (v := 0) hx hb dX1_heat_0 (by decide) ?_
  refine lv_istore_n (lv' := [(1, .int 0), (0, .ref a0)]) hx hb dX1_heat_1 rfl hl (by decide) rfl (fun ls hl => ?_)
  refine lv_iconst (v := 0) hx hb dX1_heat_2 (by decide) ?_
  refine lv_istore_n (lv' := [(2, .int 0), (1, .int 0), (0, .ref a0)]) hx hb dX1_heat_3 rfl hl (by decide) rfl (fun ls hl => ?_)
  obtain ⟨x_19, h_18, h⟩ := bnd_some h
  refine Lp4 a0 Z0 1000 0 0  _ _ _ _ h_18 hW (lv_sub hl [2, 1, 0] rfl) ?_
  intro w0 eo H locs ls hW hl
  subst eo
  refine lv_iload_n hx hb dX1_heat_46 rfl (lv_at hl 0 rfl) ?_
  cases h
  exact d_iret S hr hlk hW (Nat.le_of_ble_eq_true rfl) (Nat.le_of_ble_eq_true rfl) dX1_heat_47
