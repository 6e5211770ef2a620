/-! walks of the component: X10_init X11_init X12_init X13_init X14_come X14_back X14_goesOut X14_turns X14_isGap X2_init X2_hasShaft X2_of X2_isShaft -/
set_option maxRecDepth 100000
def cm_X10_init (Z0 : c_S) (a0 : Nat) : Option (c_S) :=
  zNewR Z0 10 3 3 fun Z_1 a_2 => zPR Z_1 a0 10 2 0 (some a_2) fun Z_3 => some Z_3
abbrev rmX10_init : Room := rmD 1 20 1 3
set_option maxHeartbeats 4000000 in
theorem metX10_init {l : Launch} {gp : Nat → Nat} {D : va_G} {K : Nat → ClassId} {Z0 : c_S} {a0 : Nat} {Z' : c_S} (h : cm_X10_init Z0 a0 = some Z') : Met l yX10_init (ws_ yX10_init cX10_init 1 (none)) rmX10_init (z_Pc gp [.ref a0] D K Z0) (z_Q (.returned (none)) D K (z_A Z0) Z') 1 3 (z_A Z0) := by
  refine d_met rfl (Nat.le_of_ble_eq_true rfl) ?_
  intro p e s m below meth c ls S hr hlk hnm hl hW hsz
  have S : CallFix p m c cX10_init 1 s ([.ref a0] : List Value).toArray lw_all RX10 := S
  have hx := S.1
  have hb := S.2.1
  have hl : lv_has ls 1 [(0, .ref a0)] := hl
  have hnm : meth.name = "<init>" := hnm
  unfold cm_X10_init at h
  refine lv_aload_n hx hb dX10_init_0 rfl (lv_at hl 0 rfl) ?_
  refine zw_oinit S q1049 hl.1 (Nat.le_of_ble_eq_true rfl) (z_ro (Nat.le_of_ble_eq_true rfl)) (Nat.le_of_ble_eq_true rfl) dX10_init_1 ?_
  refine lv_aload_n hx hb dX10_init_4 rfl (lv_at hl 0 rfl) ?_
  refine lv_iconst (v := 3) hx hb dX10_init_5 (by decide) ?_
  refine zw_newr (t := 10) (B := 3) S hW q1050 (by decide) rfl (by decide) (Nat.le_of_ble_eq_true rfl) (Nat.le_of_ble_eq_true rfl) dX10_init_6 h (fun Z_1 a_2 h H hW => ?_)
  refine zw_putR (o := some a_2) S hW zC_X10 (i := 0) (by decide) (Or.inr ⟨rfl, hnm, rfl, q1052⟩) rfl (Or.inl q1052) (fun _ h => h) dX10_init_9 h (fun Z_3 h H locs hW => ?_)
  cases h
  exact d_vret S hr hlk hW (Nat.le_of_ble_eq_true rfl) (Nat.le_of_ble_eq_true rfl) dX10_init_12
def cm_X11_init (a0 : Nat) : Option (Unit) :=
  some ()
abbrev rmX11_init : Room := rmD 1 20 0 0
set_option maxHeartbeats 4000000 in
theorem metX11_init {l : Launch} {gp : Nat → Nat} {D : va_G} {K : Nat → ClassId} {Z0 : c_S} {a0 : Nat} (h : cm_X11_init a0 = some ()) : Met l yX11_init (ws_ yX11_init cX11_init 1 (none)) rmX11_init (z_Pc gp [.ref a0] D K Z0) (z_Q (.returned (none)) D K (z_A Z0) Z0) 0 0 (z_A Z0) := by
  refine d_met rfl (Nat.le_of_ble_eq_true rfl) ?_
  intro p e s m below meth c ls S hr hlk hnm hl hW hsz
  have S : CallFix p m c cX11_init 1 s ([.ref a0] : List Value).toArray lw_all RX11 := S
  have hx := S.1
  have hb := S.2.1
  have hl : lv_has ls 1 [(0, .ref a0)] := hl
  have hnm : meth.name = "<init>" := hnm
  unfold cm_X11_init at h
  refine lv_aload_n hx hb dX11_init_0 rfl (lv_at hl 0 rfl) ?_
  refine zw_oinit S q1070 hl.1 (Nat.le_of_ble_eq_true rfl) (z_ro (Nat.le_of_ble_eq_true rfl)) (Nat.le_of_ble_eq_true rfl) dX11_init_1 ?_
  exact d_vret S hr hlk hW (Nat.le_of_ble_eq_true rfl) (Nat.le_of_ble_eq_true rfl) dX11_init_4
def cm_X12_init (a0 : Nat) : Option (Unit) :=
  bnd (cm_X11_init a0) (fun _ => some ())
abbrev rmX12_init : Room := rmD 2 40 0 0
theorem cwX11_init_IN {own : String} {R : Room} {s : State} {args : Array Value} {index : Nat} (hts : ∀ w ∈ lw_all, w.before args s = true) {host : String} (hn : va_Nw (.methodLinkNest own index yX11_init host) s) (hR : rmX11_init.frames + 1 ≤ R.frames ∧ 8 + (1 + 11) + rmX11_init.locals ≤ R.locals) : va_CN R s args own index yX11_init host cX11_init 1 (none) (ws_ yX11_init cX11_init 1 (none)) rmX11_init 0 0 0 ∧ yX11_init.name = "<init>" ∧ (Cond.instanceMethod yX11_init).before args s = true := ⟨va_cnB 0 hts (lw_meth q1069) rfl rfl rfl hn (hts _ q130) ⟨by decide, by decide, by decide +kernel⟩ hR, rfl, hts _ q1068⟩
set_option maxHeartbeats 4000000 in
theorem metX12_init {l : Launch} {gp : Nat → Nat} {D : va_G} {K : Nat → ClassId} {Z0 : c_S} {a0 : Nat} (h : cm_X12_init a0 = some ()) : Met l yX12_init (ws_ yX12_init cX12_init 1 (none)) rmX12_init (z_Pc gp [.ref a0] D K Z0) (z_Q (.returned (none)) D K (z_A Z0) Z0) 0 0 (z_A Z0) := by
  refine d_met rfl (Nat.le_of_ble_eq_true rfl) ?_
  intro p e s m below meth c ls S hr hlk hnm hl hW hsz
  have S : CallFix p m c cX12_init 1 s ([.ref a0] : List Value).toArray lw_all RX12 := S
  have hx := S.1
  have hb := S.2.1
  have hl : lv_has ls 1 [(0, .ref a0)] := hl
  have hnm : meth.name = "<init>" := hnm
  unfold cm_X12_init at h
  refine lv_aload_n hx hb dX12_init_0 rfl (lv_at hl 0 rfl) ?_
  obtain ⟨o_2, h_1, h⟩ := bnd_some h
  refine d_callIN (As := []) (rest := []) S hW (metX11_init h_1) (cwX11_init_IN S.2.2.2.2 (hW.1.2.2.2.2.1.2.2.2.2.1 _ (nestW_in q1067 rfl)) ⟨Nat.le_of_ble_eq_true rfl, Nat.le_of_ble_eq_true rfl⟩) rfl hl.1 rfl (Nat.le_of_ble_eq_true rfl) dX12_init_1 ⟨(Nat.le_of_ble_eq_true rfl), (Nat.le_of_ble_eq_true rfl)⟩ rfl (fun H locs hW => ?_)
  exact d_vret S hr hlk hW (Nat.le_of_ble_eq_true rfl) (Nat.le_of_ble_eq_true rfl) dX12_init_4
def cm_X13_init (Z0 : c_S) (a0 : Nat) (a1 : Int32) (a2 : Int32) (a3 : Int32) : Option (c_S) :=
  bnd (cm_X11_init a0) (fun _ => zPI Z0 a0 12 3 0 a1 fun Z_3 => okI (isB a2) <| zPI Z_3 a0 12 3 2 a2 fun Z_4 => zPI Z_4 a0 12 3 1 a3 fun Z_6 => some Z_6)
abbrev rmX13_init : Room := rmD 2 40 0 0
set_option maxHeartbeats 4000000 in
theorem metX13_init {l : Launch} {gp : Nat → Nat} {D : va_G} {K : Nat → ClassId} {Z0 : c_S} {a0 : Nat} {a1 : Int32} {a2 : Int32} {a3 : Int32} {Z' : c_S} (h : cm_X13_init Z0 a0 a1 a2 a3 = some Z') : Met l yX13_init (ws_ yX13_init cX13_init 4 (none)) rmX13_init (z_Pc gp [.ref a0, .int a1, .int a2, .int a3] D K Z0) (z_Q (.returned (none)) D K (z_A Z0) Z') 0 0 (z_A Z0) := by
  refine d_met rfl (Nat.le_of_ble_eq_true rfl) ?_
  intro p e s m below meth c ls S hr hlk hnm hl hW hsz
  have S : CallFix p m c cX13_init 4 s ([.ref a0, .int a1, .int a2, .int a3] : List Value).toArray lw_all RX13 := S
  have hx := S.1
  have hb := S.2.1
  have hl : lv_has ls 4 [(0, .ref a0), (1, .int a1), (2, .int a2), (3, .int a3)] := hl
  have hnm : meth.name = "<init>" := hnm
  unfold cm_X13_init at h
  refine lv_aload_n hx hb dX13_init_0 rfl (lv_at hl 0 rfl) ?_
  obtain ⟨o_2, h_1, h⟩ := bnd_some h
  refine d_callIN (As := []) (rest := []) S hW (metX11_init h_1) (cwX11_init_IN S.2.2.2.2 (hW.1.2.2.2.2.1.2.2.2.2.1 _ (nestW_in q1081 rfl)) ⟨Nat.le_of_ble_eq_true rfl, Nat.le_of_ble_eq_true rfl⟩) rfl hl.1 rfl (Nat.le_of_ble_eq_true rfl) dX13_init_1 ⟨(Nat.le_of_ble_eq_true rfl), (Nat.le_of_ble_eq_true rfl)⟩ rfl (fun H locs hW => ?_)
  refine lv_aload_n hx hb dX13_init_4 rfl (lv_at hl 0 rfl) ?_
  refine lv_iload_n hx hb dX13_init_5 rfl (lv_at hl 1 rfl) ?_
  refine zw_putI S hW zC_X13 (i := 0) (by decide) (Or.inr ⟨rfl, hnm, rfl, q1082⟩) rfl rfl rfl (Or.inl q1082) (fun _ h => h) dX13_init_6 h (fun Z_3 h H locs hW => ?_)
  refine lv_aload_n hx hb dX13_init_9 rfl (lv_at hl 0 rfl) ?_
  refine lv_iload_n hx hb dX13_init_10 rfl (lv_at hl 2 rfl) ?_
  obtain ⟨h_5, h⟩ := okI_some h
  refine zw_putI S hW zC_X13 (i := 2) (by decide) (Or.inr ⟨rfl, hnm, rfl, q1084⟩) rfl (isB_narrow h_5) (isB_fits h_5) (Or.inl q1084) (fun _ h => h) dX13_init_11 h (fun Z_4 h H locs hW => ?_)
  refine lv_aload_n hx hb dX13_init_14 rfl (lv_at hl 0 rfl) ?_
  refine lv_iload_n hx hb dX13_init_15 rfl (lv_at hl 3 rfl) ?_
  refine zw_putI S hW zC_X13 (i := 1) (by decide) (Or.inr ⟨rfl, hnm, rfl, q1083⟩) rfl rfl rfl (Or.inl q1083) (fun _ h => h) dX13_init_16 h (fun Z_6 h H locs hW => ?_)
  cases h
  exact d_vret S hr hlk hW (Nat.le_of_ble_eq_true rfl) (Nat.le_of_ble_eq_true rfl) dX13_init_19
def cm_X14_come (Z0 : c_S) (a0 : Nat) (a1 : Int32) (a2 : Int32) : Option (c_S) :=
  cA Z0.Sh a0 13 9 5 fun a_1 => caI Z0.Sh Z0.V 0 a_1 a1 fun x_2 => if x_2 = (-1) then (cA Z0.Sh a0 13 9 5 fun a_4 => zsI Z0 0 a_4 a1 a2 fun Z_5 => cA Z_5.Sh a0 13 9 6 fun a_6 => cI Z_5.Sh Z_5.V a0 13 9 7 fun x_7 => zsI Z_5 0 a_6 x_7 a1 fun Z_8 => cI Z_8.Sh Z_8.V a0 13 9 7 fun x_9 => zPI Z_8 a0 13 9 7 (x_9 + 1) fun Z_10 => some Z_10) else (some Z0)
abbrev rmX14_come : Room := rmD 0 0 0 0
set_option maxHeartbeats 4000000 in
theorem metX14_come {l : Launch} {gp : Nat → Nat} {D : va_G} {K : Nat → ClassId} {Z0 : c_S} {a0 : Nat} {a1 : Int32} {a2 : Int32} {Z' : c_S} (h : cm_X14_come Z0 a0 a1 a2 = some Z') : Met l yX14_come (ws_ yX14_come cX14_come 3 (none)) rmX14_come (z_Pc gp [.ref a0, .int a1, .int a2] D K Z0) (z_Q (.returned (none)) D K (z_A Z0) Z') 0 0 (z_A Z0) := by
  refine d_met rfl (Nat.le_of_ble_eq_true rfl) ?_
  intro p e s m below meth c ls S hr hlk hnm hl hW hsz
  have S : CallFix p m c cX14_come 3 s ([.ref a0, .int a1, .int a2] : List Value).toArray lw_all RX14 := S
  have hx := S.1
  have hb := S.2.1
  have hl : lv_has ls 3 [(0, .ref a0), (1, .int a1), (2, .int a2)] := hl
  have hnm : meth.name = "come" := hnm
  unfold cm_X14_come at h
  refine lv_aload_n hx hb dX14_come_0 rfl (lv_at hl 0 rfl) ?_
  refine zw_getA S hW zC_X14 (i := 5) (by decide) (Or.inl q1286) (fun _ h => h) dX14_come_1 h (fun a_1 h => ?_)
  refine lv_iload_n hx hb dX14_come_4 rfl (lv_at hl 1 rfl) ?_
  refine zw_iald S hW dX14_come_5 h (fun x_2 h => ?_)
  refine lv_iconst (v := (-1)) hx hb dX14_come_6 (by decide) ?_
  refine lv_icmp_eq (tgt := 11) hx hb dX14_come_7 (by decide) (fun c_3 => ?_) (fun c_3 => ?_)
  · have h := if_t h c_3
    refine lv_aload_n hx hb dX14_come_11 rfl (lv_at hl 0 rfl) ?_
    refine zw_getA S hW zC_X14 (i := 5) (by decide) (Or.inl q1286) (fun _ h => h) dX14_come_12 h (fun a_4 h => ?_)
    refine lv_iload_n hx hb dX14_come_15 rfl (lv_at hl 1 rfl) ?_
    refine lv_iload_n hx hb dX14_come_16 rfl (lv_at hl 2 rfl) ?_
    refine zw_iast S hW dX14_come_17 h (fun Z_5 h H locs hW => ?_)
    refine lv_aload_n hx hb dX14_come_18 rfl (lv_at hl 0 rfl) ?_
    refine zw_getA S hW zC_X14 (i := 6) (by decide) (Or.inl q1287) (fun _ h => h) dX14_come_19 h (fun a_6 h => ?_)
    refine lv_aload_n hx hb dX14_come_22 rfl (lv_at hl 0 rfl) ?_
    refine zw_getI S hW zC_X14 (i := 7) (by decide) (Or.inl q1288) (fun _ h => h) dX14_come_23 h (fun x_7 h => ?_)
    refine lv_iload_n hx hb dX14_come_26 rfl (lv_at hl 1 rfl) ?_
    refine zw_iast S hW dX14_come_27 h (fun Z_8 h H locs hW => ?_)
    refine lv_aload_n hx hb dX14_come_28 rfl (lv_at hl 0 rfl) ?_
    refine lv_dup hx hb dX14_come_29 rfl ?_
    refine zw_getI S hW zC_X14 (i := 7) (by decide) (Or.inl q1288) (fun _ h => h) dX14_come_30 h (fun x_9 h => ?_)
    refine lv_iconst (v := 1) hx hb dX14_come_33 (by decide) ?_
    refine lv_iadd hx hb dX14_come_34 ?_
    refine zw_putI S hW zC_X14 (i := 7) (by decide) (Or.inl rfl) rfl rfl rfl (Or.inl q1288) (fun _ h => h) dX14_come_35 h (fun Z_10 h H locs hW => ?_)
    cases h
    exact d_vret S hr hlk hW (Nat.le_of_ble_eq_true rfl) (Nat.le_of_ble_eq_true rfl) dX14_come_38
  · have h := if_f h c_3
    cases h
    exact d_vret S hr hlk hW (Nat.le_of_ble_eq_true rfl) (Nat.le_of_ble_eq_true rfl) dX14_come_10
def cm_X14_back (a0 : Int32) : Option (Int32) :=
  some (a0 ^^^ 1)
abbrev rmX14_back : Room := rmD 0 0 0 0
set_option maxHeartbeats 4000000 in
theorem metX14_back {l : Launch} {gp : Nat → Nat} {D : va_G} {K : Nat → ClassId} {Z0 : c_S} {a0 : Int32} {r : Int32} (h : cm_X14_back a0 = some r) : Met l yX14_back (ws_ yX14_back cX14_back 1 (some .int)) rmX14_back (z_Pc gp [.int a0] D K Z0) (z_Q (.returned (some (.int r))) D K (z_A Z0) Z0) 0 0 (z_A Z0) := by
  refine d_met rfl (Nat.le_of_ble_eq_true rfl) ?_
  intro p e s m below meth c ls S hr hlk hnm hl hW hsz
  have S : CallFix p m c cX14_back 1 s ([.int a0] : List Value).toArray lw_all RX14 := S
  have hx := S.1
  have hb := S.2.1
  have hl : lv_has ls 1 [(0, .int a0)] := hl
  have hnm : meth.name = "back" := hnm
  unfold cm_X14_back at h
  refine lv_iload_n hx hb dX14_back_0 rfl (lv_at hl 0 rfl) ?_
  refine lv_iconst (v := 1) hx hb dX14_back_1 (by decide) ?_
  refine lv_ixor hx hb dX14_back_2 ?_
  cases h
  exact d_iret S hr hlk hW (Nat.le_of_ble_eq_true rfl) (Nat.le_of_ble_eq_true rfl) dX14_back_3
def cm_X14_goesOut_B42 (x0 : Nat) (x1 : Int32) (rec : Int32 → c_S → Option (c_S)) (x2 : Int32) (Z : c_S) : Option (c_S) :=
  if 4 ≤ x2 then (some Z) else (bnd (cm_X0_beside x1 x2) (fun x_11 => if x_11 = (-1) then (nmI (x2 + 1) fun x_13 => rec x_13 Z) else (cA Z.Sh x0 13 9 2 fun a_15 => caI Z.Sh Z.V 2 a_15 x_11 fun x_16 => if x_16 = 0 then (nmI (x2 + 1) fun x_18 => rec x_18 Z) else (zK Z x0 13 9 <| bnd (cm_X14_come Z x0 (2 * x_11) ((2 * x1) + 1)) (fun Z_23 => nmI (x2 + 1) fun x_24 => rec x_24 Z_23)))))
abbrev cm_X14_goesOut_F42 (x0 : Nat) (x1 : Int32) : (((Int32) × (c_S)) → Option (c_S)) → ((Int32) × (c_S)) → Option (c_S) := fun rec s => cm_X14_goesOut_B42 x0 x1 (fun x2 Z => rec (x2, Z)) s.1 s.2
def cm_X14_goesOut_L42 (x0 : Nat) (x1 : Int32) (n : Nat) (x2 : Int32) (Z : c_S) : Option (c_S) := lp (cm_X14_goesOut_F42 x0 x1) n (x2, Z)
theorem cm_X14_goesOut_L42_s (x0 : Nat) (x1 : Int32) (n : Nat) (x2 : Int32) (Z : c_S) : cm_X14_goesOut_L42 x0 x1 (n + 1) x2 Z = cm_X14_goesOut_B42 x0 x1 (fun x2 Z => cm_X14_goesOut_L42 x0 x1 n x2 Z) x2 Z := lp_s (cm_X14_goesOut_F42 x0 x1) n (x2, Z)
def cm_X14_goesOut_J40 (y0 : Nat) (y1 : Int32) (Z : c_S) : Option (c_S) :=
  bnd (cm_X14_goesOut_L42 y0 y1 1000 0 Z) (fun Z_28 => some Z_28)
def cm_X14_goesOut_J21 (y0 : Nat) (y1 : Int32) (Z : c_S) : Option (c_S) :=
  bnd (cm_X0_isRim y1) (fun x_6 => if x_6 = 0 then (cm_X14_goesOut_J40 y0 y1 Z) else (zK Z y0 13 9 <| bnd (cm_X14_come Z y0 289 ((2 * y1) + 1)) (fun Z_32 => cm_X14_goesOut_J40 y0 y1 Z_32)))
def cm_X14_goesOut (Z0 : c_S) (a0 : Nat) (a1 : Int32) : Option (c_S) :=
  cA Z0.Sh a0 13 9 1 fun a_1 => caI Z0.Sh Z0.V 2 a_1 a1 fun x_2 => if x_2 = 0 then (cm_X14_goesOut_J21 a0 a1 Z0) else (zK Z0 a0 13 9 <| bnd (cm_X14_come Z0 a0 (2 * a1) ((2 * a1) + 1)) (fun Z_36 => cm_X14_goesOut_J21 a0 a1 Z_36))
abbrev rmX14_goesOut : Room := rmD 1 22 0 0
theorem cwX0_isRim_SN {own : String} {R : Room} {s : State} {args : Array Value} {index : Nat} (hts : ∀ w ∈ lw_all, w.before args s = true) {host : String} (hn : va_Nw (.methodLinkNest own index yX0_isRim host) s) (hR : rmX0_isRim.frames + 1 ≤ R.frames ∧ 8 + (1 + 11) + rmX0_isRim.locals ≤ R.locals) : va_CN R s args own index yX0_isRim host cX0_isRim 1 (some .boolean) (ws_ yX0_isRim cX0_isRim 1 (some .boolean)) rmX0_isRim 0 0 1 ∧ (Cond.static yX0_isRim).before args s = true ∧ True := ⟨va_cnB 1 hts (lw_meth q1176) rfl rfl rfl hn (hts _ q105) ⟨by decide, by decide, by decide +kernel⟩ hR, hts _ q1175, trivial⟩
theorem cwX0_beside_SN {own : String} {R : Room} {s : State} {args : Array Value} {index : Nat} (hts : ∀ w ∈ lw_all, w.before args s = true) {host : String} (hn : va_Nw (.methodLinkNest own index yX0_beside host) s) (hR : rmX0_beside.frames + 1 ≤ R.frames ∧ 8 + (2 + 11) + rmX0_beside.locals ≤ R.locals) : va_CN R s args own index yX0_beside host cX0_beside 2 (some .int) (ws_ yX0_beside cX0_beside 2 (some .int)) rmX0_beside 0 0 2 ∧ (Cond.static yX0_beside).before args s = true ∧ True := ⟨va_cnB 2 hts (lw_meth q1114) rfl rfl rfl hn (hts _ q105) ⟨by decide, by decide, by decide +kernel⟩ hR, hts _ q1113, trivial⟩
theorem cwX14_come_V {own : String} {R : Room} {s : State} {args : Array Value} {index : Nat} (hts : ∀ w ∈ lw_all, w.before args s = true) (hl : Cond.methodLink own index yX14_come ∈ lw_all) (hR : rmX14_come.frames + 1 ≤ R.frames ∧ 8 + (3 + 11) + rmX14_come.locals ≤ R.locals) : CallW R s args own RX14 index yX14_come cX14_come 3 (none) (ws_ yX14_come cX14_come 3 (none)) rmX14_come 0 0 2 := cwV 2 hts (lw_V hl q1258 qs41 q133 q1259) rfl rfl rfl (by decide +kernel) hR
set_option maxHeartbeats 4000000 in
theorem metX14_goesOut {l : Launch} {gp : Nat → Nat} {D : va_G} {K : Nat → ClassId} {Z0 : c_S} {a0 : Nat} {a1 : Int32} {Z' : c_S} (h : cm_X14_goesOut Z0 a0 a1 = some Z') : Met l yX14_goesOut (ws_ yX14_goesOut cX14_goesOut 4 (none)) rmX14_goesOut (z_Pc gp [.ref a0, .int a1] D K Z0) (z_Q (.returned (none)) D K (z_A Z0) Z') 0 0 (z_A Z0) := by
  refine d_met rfl (Nat.le_of_ble_eq_true rfl) ?_
  intro p e s m below meth c ls S hr hlk hnm hl hW hsz
  have S : CallFix p m c cX14_goesOut 4 s ([.ref a0, .int a1] : List Value).toArray lw_all RX14 := S
  have hx := S.1
  have hb := S.2.1
  have hl : lv_has ls 4 [(0, .ref a0), (1, .int a1)] := hl
  have hnm : meth.name = "goesOut" := hnm
  have Lp42 : ∀ (x0 : Nat) (x1 : Int32) (n : Nat) (x2 : Int32) (Z : c_S) (out : (c_S)) (H : Heap) (locs : List Loc) (ls : Array Slot), cm_X14_goesOut_L42 x0 x1 n x2 Z = some out → z_W gp D K (z_A Z0) s Z H locs → lv_has ls 4 [(0, .ref x0), (1, .int x1), (2, .int x2)] → (∀ (oZ : c_S), out = oZ → ∀ (H : Heap) (locs : List Loc) (ls : Array Slot), z_W gp D K (z_A Z0) s oZ H locs → lv_has ls 4 [] → W p l e rmX14_goesOut s m ([.ref a0, .int a1] : List Value).toArray below meth c H locs 0 0 (MQ below (z_Q (.returned (none)) D K (z_A Z0) Z') ([.ref a0, .int a1] : List Value).toArray s 0 0 (z_A Z0)) (F0 m 85 ls [])) → W p l e rmX14_goesOut s m ([.ref a0, .int a1] : List Value).toArray below meth c H locs 0 0 (MQ below (z_Q (.returned (none)) D K (z_A Z0) Z') ([.ref a0, .int a1] : List Value).toArray s 0 0 (z_A Z0)) (F0 m 42 ls []) := by
    intro x0 x1 n
    induction n with
    | zero =>
      intro x2 Z out H locs ls h
      exact (lp_0 h).elim
    | succ n ih =>
      intro x2 Z out H locs ls h hW hl k1
      rw [cm_X14_goesOut_L42_s] at h
      unfold cm_X14_goesOut_B42 at h
      refine lv_iload_n hx hb dX14_goesOut_42 rfl (lv_at hl 2 rfl) ?_
      refine lv_iconst (v := 4) hx hb dX14_goesOut_43 (by decide) ?_
      refine lv_icmp_ge (tgt := 85) hx hb dX14_goesOut_44 (by decide) (fun c_8 => ?_) (fun c_8 => ?_)
      · have h := if_t h c_8
        exact k1 _ (Option.some.inj h).symm _ _ _ hW (lv_sub hl [] rfl)
      · have h := if_f h c_8
        refine lv_iload_n hx hb dX14_goesOut_47 rfl (lv_at hl 1 rfl) ?_
        refine lv_iload_n hx hb dX14_goesOut_48 rfl (lv_at hl 2 rfl) ?_
        obtain ⟨x_11, h_9, h⟩ := bnd_some h
        refine d_callSN (As := [.int x1, .int x2]) (rest := []) S hW (metX0_beside h_9) (cwX0_beside_SN S.2.2.2.2 (hW.1.2.2.2.2.1.2.2.2.2.1 _ (nestW_in q1264 rfl)) ⟨Nat.le_of_ble_eq_true rfl, Nat.le_of_ble_eq_true rfl⟩) rfl hl.1 rfl (Nat.le_of_ble_eq_true rfl) dX14_goesOut_49 ⟨(Nat.le_of_ble_eq_true rfl), (Nat.le_of_ble_eq_true rfl)⟩ rfl (fun H locs hW => ?_)
        refine lv_istore_n (lv' := [(3, .int x_11), (0, .ref x0), (1, .int x1), (2, .int x2)]) hx hb dX14_goesOut_52 rfl hl (by decide) rfl (fun ls hl => ?_)
        refine lv_iload_n hx hb dX14_goesOut_53 rfl (lv_at hl 0 rfl) ?_
        refine lv_iconst (v := (-1)) hx hb dX14_goesOut_54 (by decide) ?_
        refine lv_icmp_eq (tgt := 79) hx hb dX14_goesOut_55 (by decide) (fun c_12 => ?_) (fun c_12 => ?_)
        · have h := if_t h c_12
          obtain ⟨x_13, e_14, h⟩ := nmI_some h
          refine lv_iinc (v := x_13) (lv' := [(2, .int x_13), (3, .int x_11), (0, .ref x0), (1, .int x1)]) hx hb dX14_goesOut_79 hl (k := 3) rfl (by rw [e_14]; rfl) (by decide) rfl (fun ls hl => ?_)
          refine lv_goto (tgt := 42) hx hb dX14_goesOut_82 (by decide) ?_
          exact ih x_13 Z out _ _ _ h hW (lv_sub hl [2, 3, 0] rfl) k1
        · have h := if_f h c_12
          refine lv_aload_n hx hb dX14_goesOut_58 rfl (lv_at hl 1 rfl) ?_
          refine zw_getA S hW zC_X14 (i := 2) (by decide) (Or.inl q1283) (fun _ h => h) dX14_goesOut_59 h (fun a_15 h => ?_)
          refine lv_iload_n hx hb dX14_goesOut_62 rfl (lv_at hl 0 rfl) ?_
          refine zw_zald S hW dX14_goesOut_63 h (fun x_16 h => ?_)
          refine lv_if_eq (tgt := 79) hx hb dX14_goesOut_64 (by decide) (fun c_17 => ?_) (fun c_17 => ?_)
          · have h := if_t h c_17
            obtain ⟨x_18, e_19, h⟩ := nmI_some h
            refine lv_iinc (v := x_18) (lv' := [(2, .int x_18), (3, .int x_11), (0, .ref x0), (1, .int x1)]) hx hb dX14_goesOut_79 hl (k := 3) rfl (by rw [e_19]; rfl) (by decide) rfl (fun ls hl => ?_)
            refine lv_goto (tgt := 42) hx hb dX14_goesOut_82 (by decide) ?_
            exact ih x_18 Z out _ _ _ h hW (lv_sub hl [2, 3, 0] rfl) k1
          · have h := if_f h c_17
            refine lv_aload_n hx hb dX14_goesOut_67 rfl (lv_at hl 1 rfl) ?_
            refine lv_iconst (v := 2) hx hb dX14_goesOut_68 (by decide) ?_
            refine lv_iload_n hx hb dX14_goesOut_69 rfl (lv_at hl 0 rfl) ?_
            refine lv_imul hx hb dX14_goesOut_70 ?_
            refine lv_iconst (v := 2) hx hb dX14_goesOut_71 (by decide) ?_
            refine lv_iload_n hx hb dX14_goesOut_72 rfl (lv_at hl 2 rfl) ?_
            refine lv_imul hx hb dX14_goesOut_73 ?_
            refine lv_iconst (v := 1) hx hb dX14_goesOut_74 (by decide) ?_
            refine lv_iadd hx hb dX14_goesOut_75 ?_
            obtain ⟨⟨_, k_20⟩, h⟩ := zK_some h
            obtain ⟨Z_23, h_21, h⟩ := bnd_some h
            refine d_callV (As := [.int (2 * x_11), .int ((2 * x1) + 1)]) (rest := []) S hW (metX14_come h_21) (cwX14_come_V S.2.2.2.2 q1256 ⟨Nat.le_of_ble_eq_true rfl, Nat.le_of_ble_eq_true rfl⟩) k_20 rfl rfl hl.1 rfl (Nat.le_of_ble_eq_true rfl) dX14_goesOut_76 ⟨(Nat.le_of_ble_eq_true rfl), (Nat.le_of_ble_eq_true rfl)⟩ rfl (fun H locs hW => ?_)
            obtain ⟨x_24, e_25, h⟩ := nmI_some h
            refine lv_iinc (v := x_24) (lv' := [(2, .int x_24), (3, .int x_11), (0, .ref x0), (1, .int x1)]) hx hb dX14_goesOut_79 hl (k := 3) rfl (by rw [e_25]; rfl) (by decide) rfl (fun ls hl => ?_)
            refine lv_goto (tgt := 42) hx hb dX14_goesOut_82 (by decide) ?_
            exact ih x_24 Z_23 out _ _ _ h hW (lv_sub hl [2, 3, 0] rfl) k1
  have J40 : ∀ (y0 : Nat) (y1 : Int32) (Z : c_S) (H : Heap) (locs : List Loc) (ls : Array Slot), cm_X14_goesOut_J40 y0 y1 Z = some Z' → z_W gp D K (z_A Z0) s Z H locs → lv_has ls 4 [(0, .ref y0), (1, .int y1)] → W p l e rmX14_goesOut s m ([.ref a0, .int a1] : List Value).toArray below meth c H locs 0 0 (MQ below (z_Q (.returned (none)) D K (z_A Z0) Z') ([.ref a0, .int a1] : List Value).toArray s 0 0 (z_A Z0)) (F0 m 40 ls []) := by
    intro y0 y1 Z H locs ls h hW hl
    unfold cm_X14_goesOut_J40 at h
    refine lv_iconst (v := 0) hx hb dX14_goesOut_40 (by decide) ?_
    refine lv_istore_n (lv' := [(2, .int 0), (0, .ref y0), (1, .int y1)]) hx hb dX14_goesOut_41 rfl hl (by decide) rfl (fun ls hl => ?_)
    obtain ⟨Z_28, h_27, h⟩ := bnd_some h
    refine Lp42 y0 y1 1000 0 Z  _ _ _ _ h_27 hW (lv_sub hl [1, 2, 0] rfl) ?_
    intro w0 eo H locs ls hW hl
    subst eo
    cases h
    exact d_vret S hr hlk hW (Nat.le_of_ble_eq_true rfl) (Nat.le_of_ble_eq_true rfl) dX14_goesOut_85
  have J21 : ∀ (y0 : Nat) (y1 : Int32) (Z : c_S) (H : Heap) (locs : List Loc) (ls : Array Slot), cm_X14_goesOut_J21 y0 y1 Z = some Z' → z_W gp D K (z_A Z0) s Z H locs → lv_has ls 4 [(0, .ref y0), (1, .int y1)] → W p l e rmX14_goesOut s m ([.ref a0, .int a1] : List Value).toArray below meth c H locs 0 0 (MQ below (z_Q (.returned (none)) D K (z_A Z0) Z') ([.ref a0, .int a1] : List Value).toArray s 0 0 (z_A Z0)) (F0 m 21 ls []) := by
    intro y0 y1 Z H locs ls h hW hl
    unfold cm_X14_goesOut_J21 at h
    refine lv_iload_n hx hb dX14_goesOut_21 rfl (lv_at hl 1 rfl) ?_
    obtain ⟨x_6, h_4, h⟩ := bnd_some h
    refine d_callSN (As := [.int y1]) (rest := []) S hW (metX0_isRim h_4) (cwX0_isRim_SN S.2.2.2.2 (hW.1.2.2.2.2.1.2.2.2.2.1 _ (nestW_in q1272 rfl)) ⟨Nat.le_of_ble_eq_true rfl, Nat.le_of_ble_eq_true rfl⟩) rfl hl.1 rfl (Nat.le_of_ble_eq_true rfl) dX14_goesOut_22 ⟨(Nat.le_of_ble_eq_true rfl), (Nat.le_of_ble_eq_true rfl)⟩ rfl (fun H locs hW => ?_)
    refine lv_if_eq (tgt := 40) hx hb dX14_goesOut_25 (by decide) (fun c_7 => ?_) (fun c_7 => ?_)
    · have h := if_t h c_7
      exact J40 y0 y1 Z _ _ _ h hW hl
    · have h := if_f h c_7
      refine lv_aload_n hx hb dX14_goesOut_28 rfl (lv_at hl 0 rfl) ?_
      refine lv_sipush (v := 289) hx hb dX14_goesOut_29 (by decide) ?_
      refine lv_iconst (v := 2) hx hb dX14_goesOut_32 (by decide) ?_
      refine lv_iload_n hx hb dX14_goesOut_33 rfl (lv_at hl 1 rfl) ?_
      refine lv_imul hx hb dX14_goesOut_34 ?_
      refine lv_iconst (v := 1) hx hb dX14_goesOut_35 (by decide) ?_
      refine lv_iadd hx hb dX14_goesOut_36 ?_
      obtain ⟨⟨_, k_29⟩, h⟩ := zK_some h
      obtain ⟨Z_32, h_30, h⟩ := bnd_some h
      refine d_callV (As := [.int 289, .int ((2 * y1) + 1)]) (rest := []) S hW (metX14_come h_30) (cwX14_come_V S.2.2.2.2 q1256 ⟨Nat.le_of_ble_eq_true rfl, Nat.le_of_ble_eq_true rfl⟩) k_29 rfl rfl hl.1 rfl (Nat.le_of_ble_eq_true rfl) dX14_goesOut_37 ⟨(Nat.le_of_ble_eq_true rfl), (Nat.le_of_ble_eq_true rfl)⟩ rfl (fun H locs hW => ?_)
      exact J40 y0 y1 Z_32 _ _ _ h hW hl
  unfold cm_X14_goesOut at h
  refine lv_aload_n hx hb dX14_goesOut_0 rfl (lv_at hl 0 rfl) ?_
  refine zw_getA S hW zC_X14 (i := 1) (by decide) (Or.inl q1282) (fun _ h => h) dX14_goesOut_1 h (fun a_1 h => ?_)
  refine lv_iload_n hx hb dX14_goesOut_4 rfl (lv_at hl 1 rfl) ?_
  refine zw_zald S hW dX14_goesOut_5 h (fun x_2 h => ?_)
  refine lv_if_eq (tgt := 21) hx hb dX14_goesOut_6 (by decide) (fun c_3 => ?_) (fun c_3 => ?_)
  · have h := if_t h c_3
    exact J21 a0 a1 Z0 _ _ _ h hW hl
  · have h := if_f h c_3
    refine lv_aload_n hx hb dX14_goesOut_9 rfl (lv_at hl 0 rfl) ?_
    refine lv_iconst (v := 2) hx hb dX14_goesOut_10 (by decide) ?_
    refine lv_iload_n hx hb dX14_goesOut_11 rfl (lv_at hl 1 rfl) ?_
    refine lv_imul hx hb dX14_goesOut_12 ?_
    refine lv_iconst (v := 2) hx hb dX14_goesOut_13 (by decide) ?_
    refine lv_iload_n hx hb dX14_goesOut_14 rfl (lv_at hl 1 rfl) ?_
    refine lv_imul hx hb dX14_goesOut_15 ?_
    refine lv_iconst (v := 1) hx hb dX14_goesOut_16 (by decide) ?_
    refine lv_iadd hx hb dX14_goesOut_17 ?_
    obtain ⟨⟨_, k_33⟩, h⟩ := zK_some h
    obtain ⟨Z_36, h_34, h⟩ := bnd_some h
    refine d_callV (As := [.int (2 * a1), .int ((2 * a1) + 1)]) (rest := []) S hW (metX14_come h_34) (cwX14_come_V S.2.2.2.2 q1256 ⟨Nat.le_of_ble_eq_true rfl, Nat.le_of_ble_eq_true rfl⟩) k_33 rfl rfl hl.1 rfl (Nat.le_of_ble_eq_true rfl) dX14_goesOut_18 ⟨(Nat.le_of_ble_eq_true rfl), (Nat.le_of_ble_eq_true rfl)⟩ rfl (fun H locs hW => ?_)
    exact J21 a0 a1 Z_36 _ _ _ h hW hl
def cm_X14_turns_B85 (x0 : Nat) (x4 : Int32) (x5 : Int32) (x6 : Int32) (Z : c_S) (rec : Int32 → Option (Int32)) (x3 : Int32) : Option (Int32) :=
  bnd (cm_X0_beside x5 x3) (fun x_8 => if x_8 = x6 then (some x3) else (nmI (x3 + 1) fun x_10 => rec x_10))
abbrev cm_X14_turns_F85 (x0 : Nat) (x4 : Int32) (x5 : Int32) (x6 : Int32) (Z : c_S) : (((Int32)) → Option (Int32)) → ((Int32)) → Option (Int32) := fun rec s => cm_X14_turns_B85 x0 x4 x5 x6 Z (fun x3 => rec x3) s
def cm_X14_turns_L85 (x0 : Nat) (x4 : Int32) (x5 : Int32) (x6 : Int32) (Z : c_S) (n : Nat) (x3 : Int32) : Option (Int32) := lp (cm_X14_turns_F85 x0 x4 x5 x6 Z) n x3
theorem cm_X14_turns_L85_s (x0 : Nat) (x4 : Int32) (x5 : Int32) (x6 : Int32) (Z : c_S) (n : Nat) (x3 : Int32) : cm_X14_turns_L85 x0 x4 x5 x6 Z (n + 1) x3 = cm_X14_turns_B85 x0 x4 x5 x6 Z (fun x3 => cm_X14_turns_L85 x0 x4 x5 x6 Z n x3) x3 := lp_s (cm_X14_turns_F85 x0 x4 x5 x6 Z) n x3
def cm_X14_turns_J83 (y0 : Nat) (y3 : Int32) (y4 : Int32) (y5 : Int32) (z0 : Int32) (Z : c_S) : Option (c_S) :=
  bnd (cm_X14_turns_L85 y0 y4 y5 z0 Z 1000 y3) (fun x_14 => cA Z.Sh y0 13 9 4 fun a_15 => caR Z.Sh 11 a_15 y5 fun o_16 => nn o_16 fun a_17 => okI (isB y4) <| zsI Z 2 a_17 x_14 y4 fun Z_18 => some Z_18)
def cm_X14_turns_J67 (y0 : Nat) (y1 : Int32) (y2 : Int32) (y3 : Int32) (y4 : Int32) (z0 : Int32) (Z : c_S) : Option (c_S) :=
  if y4 = 0 then (cm_X14_turns_J83 y0 y3 y4 z0 (y1 / 2) Z) else (cm_X14_turns_J83 y0 y3 y4 z0 (y2 / 2) Z)
def cm_X14_turns_J51 (y0 : Nat) (y1 : Int32) (y2 : Int32) (y3 : Int32) (z0 : Int32) (Z : c_S) : Option (c_S) :=
  if z0 = 0 then (cm_X14_turns_J67 y0 y1 y2 y3 z0 (y2 / 2) Z) else (cm_X14_turns_J67 y0 y1 y2 y3 z0 (y1 / 2) Z)
def cm_X14_turns (Z0 : c_S) (a0 : Nat) (a1 : Int32) (a2 : Int32) : Option (c_S) :=
  if a2 = 289 then (some Z0) else (if (a1 / 2) = (a2 / 2) then (cA Z0.Sh a0 13 9 1 fun a_20 => if (a1 - a1 / 2 * 2) = 0 then (zsI Z0 2 a_20 (a2 / 2) 1 fun Z_23 => some Z_23) else (zsI Z0 2 a_20 (a2 / 2) 0 fun Z_22 => some Z_22)) else (if (a1 - a1 / 2 * 2) = 1 then (cm_X14_turns_J51 a0 a1 a2 0 1 Z0) else (cm_X14_turns_J51 a0 a1 a2 0 0 Z0)))
abbrev rmX14_turns : Room := rmD 1 21 0 0
set_option maxHeartbeats 4000000 in
theorem metX14_turns {l : Launch} {gp : Nat → Nat} {D : va_G} {K : Nat → ClassId} {Z0 : c_S} {a0 : Nat} {a1 : Int32} {a2 : Int32} {Z' : c_S} (h : cm_X14_turns Z0 a0 a1 a2 = some Z') : Met l yX14_turns (ws_ yX14_turns cX14_turns 7 (none)) rmX14_turns (z_Pc gp [.ref a0, .int a1, .int a2] D K Z0) (z_Q (.returned (none)) D K (z_A Z0) Z') 0 0 (z_A Z0) := by
  refine d_met rfl (Nat.le_of_ble_eq_true rfl) ?_
  intro p e s m below meth c ls S hr hlk hnm hl hW hsz
  have S : CallFix p m c cX14_turns 7 s ([.ref a0, .int a1, .int a2] : List Value).toArray lw_all RX14 := S
  have hx := S.1
  have hb := S.2.1
  have hl : lv_has ls 7 [(0, .ref a0), (1, .int a1), (2, .int a2)] := hl
  have hnm : meth.name = "turns" := hnm
  have Lp85 : ∀ (x0 : Nat) (x4 : Int32) (x5 : Int32) (x6 : Int32) (Z : c_S) (n : Nat) (x3 : Int32) (out : (Int32)) (H : Heap) (locs : List Loc) (ls : Array Slot), cm_X14_turns_L85 x0 x4 x5 x6 Z n x3 = some out → z_W gp D K (z_A Z0) s Z H locs → lv_has ls 7 [(0, .ref x0), (3, .int x3), (4, .int x4), (5, .int x5), (6, .int x6)] → (∀ (o3 : Int32), out = o3 → ∀ (H : Heap) (locs : List Loc) (ls : Array Slot), z_W gp D K (z_A Z0) s Z H locs → lv_has ls 7 [(0, .ref x0), (3, .int o3), (4, .int x4), (5, .int x5)] → W p l e rmX14_turns s m ([.ref a0, .int a1, .int a2] : List Value).toArray below meth c H locs 0 0 (MQ below (z_Q (.returned (none)) D K (z_A Z0) Z') ([.ref a0, .int a1, .int a2] : List Value).toArray s 0 0 (z_A Z0)) (F0 m 102 ls [])) → W p l e rmX14_turns s m ([.ref a0, .int a1, .int a2] : List Value).toArray below meth c H locs 0 0 (MQ below (z_Q (.returned (none)) D K (z_A Z0) Z') ([.ref a0, .int a1, .int a2] : List Value).toArray s 0 0 (z_A Z0)) (F0 m 85 ls []) := by
    intro x0 x4 x5 x6 Z n
    induction n with
    | zero =>
      intro x3 out H locs ls h
      exact (lp_0 h).elim
    | succ n ih =>
      intro x3 out H locs ls h hW hl k1
      rw [cm_X14_turns_L85_s] at h
      unfold cm_X14_turns_B85 at h
      refine lv_iload hx hb dX14_turns_85 (lv_at hl 3 rfl) ?_
      refine lv_iload_n hx hb dX14_turns_87 rfl (lv_at hl 1 rfl) ?_
      obtain ⟨x_8, h_6, h⟩ := bnd_some h
      refine d_callSN (As := [.int x5, .int x3]) (rest := []) S hW (metX0_beside h_6) (cwX0_beside_SN S.2.2.2.2 (hW.1.2.2.2.2.1.2.2.2.2.1 _ (nestW_in q1264 rfl)) ⟨Nat.le_of_ble_eq_true rfl, Nat.le_of_ble_eq_true rfl⟩) rfl hl.1 rfl (Nat.le_of_ble_eq_true rfl) dX14_turns_88 ⟨(Nat.le_of_ble_eq_true rfl), (Nat.le_of_ble_eq_true rfl)⟩ rfl (fun H locs hW => ?_)
      refine lv_iload hx hb dX14_turns_91 (lv_at hl 4 rfl) ?_
      refine lv_icmp_eq (tgt := 102) hx hb dX14_turns_93 (by decide) (fun c_9 => ?_) (fun c_9 => ?_)
      · have h := if_t h c_9
        exact k1 _ (Option.some.inj h).symm _ _ _ hW (lv_sub hl [0, 1, 2, 3] rfl)
      · have h := if_f h c_9
        obtain ⟨x_10, e_11, h⟩ := nmI_some h
        refine lv_iinc (v := x_10) (lv' := [(3, .int x_10), (0, .ref x0), (4, .int x4), (5, .int x5), (6, .int x6)]) hx hb dX14_turns_96 hl (k := 1) rfl (by rw [e_11]; rfl) (by decide) rfl (fun ls hl => ?_)
        refine lv_goto (tgt := 85) hx hb dX14_turns_99 (by decide) ?_
        exact ih x_10 out _ _ _ h hW (lv_sub hl [1, 0, 2, 3, 4] rfl) k1
  have J83 : ∀ (y0 : Nat) (y3 : Int32) (y4 : Int32) (y5 : Int32) (z0 : Int32) (Z : c_S) (H : Heap) (locs : List Loc) (ls : Array Slot), cm_X14_turns_J83 y0 y3 y4 y5 z0 Z = some Z' → z_W gp D K (z_A Z0) s Z H locs → lv_has ls 7 [(0, .ref y0), (3, .int y3), (4, .int y4), (5, .int y5)] → W p l e rmX14_turns s m ([.ref a0, .int a1, .int a2] : List Value).toArray below meth c H locs 0 0 (MQ below (z_Q (.returned (none)) D K (z_A Z0) Z') ([.ref a0, .int a1, .int a2] : List Value).toArray s 0 0 (z_A Z0)) (F0 m 83 ls [.int z0]) := by
    intro y0 y3 y4 y5 z0 Z H locs ls h hW hl
    unfold cm_X14_turns_J83 at h
    refine lv_istore (lv' := [(6, .int z0), (0, .ref y0), (3, .int y3), (4, .int y4), (5, .int y5)]) hx hb dX14_turns_83 hl (by decide) rfl (fun ls hl => ?_)
    obtain ⟨x_14, h_13, h⟩ := bnd_some h
    refine Lp85 y0 y4 y5 z0 Z 1000 y3  _ _ _ _ h_13 hW (lv_sub hl [1, 2, 3, 4, 0] rfl) ?_
    intro w0 eo H locs ls hW hl
    subst eo
    refine lv_aload_n hx hb dX14_turns_102 rfl (lv_at hl 0 rfl) ?_
    refine zw_getA S hW zC_X14 (i := 4) (by decide) (Or.inl q1285) (fun _ h => h) dX14_turns_103 h (fun a_15 h => ?_)
    refine lv_iload hx hb dX14_turns_106 (lv_at hl 3 rfl) ?_
    refine zw_aaldA (t := 11) S hW rfl dX14_turns_108 h (fun o_16 h => ?_)
    refine lv_iload_n hx hb dX14_turns_109 rfl (lv_at hl 1 rfl) ?_
    refine lv_iload hx hb dX14_turns_110 (lv_at hl 2 rfl) ?_
    have h9 := nn_some h
    clear h
    obtain ⟨a_17, rfl, h8⟩ := h9
    have h := h8
    clear h8
    obtain ⟨h_19, h⟩ := okI_some h
    refine zw_zast S hW (isB_nar h_19) dX14_turns_112 h (fun Z_18 h H locs hW => ?_)
    cases h
    exact d_vret S hr hlk hW (Nat.le_of_ble_eq_true rfl) (Nat.le_of_ble_eq_true rfl) dX14_turns_113
  have J67 : ∀ (y0 : Nat) (y1 : Int32) (y2 : Int32) (y3 : Int32) (y4 : Int32) (z0 : Int32) (Z : c_S) (H : Heap) (locs : List Loc) (ls : Array Slot), cm_X14_turns_J67 y0 y1 y2 y3 y4 z0 Z = some Z' → z_W gp D K (z_A Z0) s Z H locs → lv_has ls 7 [(0, .ref y0), (1, .int y1), (2, .int y2), (3, .int y3), (4, .int y4)] → W p l e rmX14_turns s m ([.ref a0, .int a1, .int a2] : List Value).toArray below meth c H locs 0 0 (MQ below (z_Q (.returned (none)) D K (z_A Z0) Z') ([.ref a0, .int a1, .int a2] : List Value).toArray s 0 0 (z_A Z0)) (F0 m 67 ls [.int z0]) := by
    intro y0 y1 y2 y3 y4 z0 Z H locs ls h hW hl
    unfold cm_X14_turns_J67 at h
    refine lv_istore (lv' := [(5, .int z0), (0, .ref y0), (1, .int y1), (2, .int y2), (3, .int y3), (4, .int y4)]) hx hb dX14_turns_67 hl (by decide) rfl (fun ls hl => ?_)
    refine lv_iload hx hb dX14_turns_69 (lv_at hl 5 rfl) ?_
    refine lv_if_eq (tgt := 80) hx hb dX14_turns_71 (by decide) (fun c_5 => ?_) (fun c_5 => ?_)
    · have h := if_t h c_5
      refine lv_iload_n hx hb dX14_turns_80 rfl (lv_at hl 2 rfl) ?_
      refine lv_iconst (v := 2) hx hb dX14_turns_81 (by decide) ?_
      refine lv_idiv hx hb dX14_turns_82 (by decide) ?_
      exact J83 y0 y3 y4 z0 (y1 / 2) Z _ _ _ h hW (lv_sub hl [1, 4, 5, 0] rfl)
    · have h := if_f h c_5
      refine lv_iload_n hx hb dX14_turns_74 rfl (lv_at hl 3 rfl) ?_
      refine lv_iconst (v := 2) hx hb dX14_turns_75 (by decide) ?_
      refine lv_idiv hx hb dX14_turns_76 (by decide) ?_
      refine lv_goto (tgt := 83) hx hb dX14_turns_77 (by decide) ?_
      exact J83 y0 y3 y4 z0 (y2 / 2) Z _ _ _ h hW (lv_sub hl [1, 4, 5, 0] rfl)
  have J51 : ∀ (y0 : Nat) (y1 : Int32) (y2 : Int32) (y3 : Int32) (z0 : Int32) (Z : c_S) (H : Heap) (locs : List Loc) (ls : Array Slot), cm_X14_turns_J51 y0 y1 y2 y3 z0 Z = some Z' → z_W gp D K (z_A Z0) s Z H locs → lv_has ls 7 [(0, .ref y0), (1, .int y1), (2, .int y2), (3, .int y3)] → W p l e rmX14_turns s m ([.ref a0, .int a1, .int a2] : List Value).toArray below meth c H locs 0 0 (MQ below (z_Q (.returned (none)) D K (z_A Z0) Z') ([.ref a0, .int a1, .int a2] : List Value).toArray s 0 0 (z_A Z0)) (F0 m 51 ls [.int z0]) := by
    intro y0 y1 y2 y3 z0 Z H locs ls h hW hl
    unfold cm_X14_turns_J51 at h
    refine lv_istore (lv' := [(4, .int z0), (0, .ref y0), (1, .int y1), (2, .int y2), (3, .int y3)]) hx hb dX14_turns_51 hl (by decide) rfl (fun ls hl => ?_)
    refine lv_iload hx hb dX14_turns_53 (lv_at hl 0 rfl) ?_
    refine lv_if_eq (tgt := 64) hx hb dX14_turns_55 (by decide) (fun c_4 => ?_) (fun c_4 => ?_)
    · have h := if_t h c_4
      refine lv_iload_n hx hb dX14_turns_64 rfl (lv_at hl 3 rfl) ?_
      refine lv_iconst (v := 2) hx hb dX14_turns_65 (by decide) ?_
      refine lv_idiv hx hb dX14_turns_66 (by decide) ?_
      exact J67 y0 y1 y2 y3 z0 (y2 / 2) Z _ _ _ h hW (lv_sub hl [1, 2, 3, 4, 0] rfl)
    · have h := if_f h c_4
      refine lv_iload_n hx hb dX14_turns_58 rfl (lv_at hl 2 rfl) ?_
      refine lv_iconst (v := 2) hx hb dX14_turns_59 (by decide) ?_
      refine lv_idiv hx hb dX14_turns_60 (by decide) ?_
      refine lv_goto (tgt := 67) hx hb dX14_turns_61 (by decide) ?_
      exact J67 y0 y1 y2 y3 z0 (y1 / 2) Z _ _ _ h hW (lv_sub hl [1, 2, 3, 4, 0] rfl)
  unfold cm_X14_turns at h
  refine lv_iload_n hx hb dX14_turns_0 rfl (lv_at hl 2 rfl) ?_
  refine lv_sipush (v := 289) hx hb dX14_turns_1 (by decide) ?_
  refine lv_icmp_ne (tgt := 8) hx hb dX14_turns_4 (by decide) (fun c_1 => ?_) (fun c_1 => ?_)
  · have h := if_f h c_1
    refine lv_iload_n hx hb dX14_turns_8 rfl (lv_at hl 1 rfl) ?_
    refine lv_iconst (v := 2) hx hb dX14_turns_9 (by decide) ?_
    refine lv_idiv hx hb dX14_turns_10 (by decide) ?_
    refine lv_iload_n hx hb dX14_turns_11 rfl (lv_at hl 2 rfl) ?_
    refine lv_iconst (v := 2) hx hb dX14_turns_12 (by decide) ?_
    refine lv_idiv hx hb dX14_turns_13 (by decide) ?_
    refine lv_icmp_ne (tgt := 37) hx hb dX14_turns_14 (by decide) (fun c_2 => ?_) (fun c_2 => ?_)
    · have h := if_f h c_2
      refine lv_iconst (v := 0) hx hb dX14_turns_37 (by decide) ?_
      refine lv_istore_n (lv' := [(3, .int 0), (0, .ref a0), (1, .int a1), (2, .int a2)]) hx hb dX14_turns_38 rfl hl (by decide) rfl (fun ls hl => ?_)
      refine lv_iload_n hx hb dX14_turns_39 rfl (lv_at hl 2 rfl) ?_
      refine lv_iconst (v := 2) hx hb dX14_turns_40 (by decide) ?_
      refine lv_irem hx hb dX14_turns_41 (by decide) ?_
      refine lv_iconst (v := 1) hx hb dX14_turns_42 (by decide) ?_
      refine lv_icmp_ne (tgt := 50) hx hb dX14_turns_43 (by decide) (fun c_3 => ?_) (fun c_3 => ?_)
      · have h := if_f h c_3
        refine lv_iconst (v := 0) hx hb dX14_turns_50 (by decide) ?_
        exact J51 a0 a1 a2 0 0 Z0 _ _ _ h hW (lv_sub hl [1, 2, 3, 0] rfl)
      · have h := if_t h c_3
        refine lv_iconst (v := 1) hx hb dX14_turns_46 (by decide) ?_
        refine lv_goto (tgt := 51) hx hb dX14_turns_47 (by decide) ?_
        exact J51 a0 a1 a2 0 1 Z0 _ _ _ h hW (lv_sub hl [1, 2, 3, 0] rfl)
    · have h := if_t h c_2
      refine lv_aload_n hx hb dX14_turns_17 rfl (lv_at hl 0 rfl) ?_
      refine zw_getA S hW zC_X14 (i := 1) (by decide) (Or.inl q1282) (fun _ h => h) dX14_turns_18 h (fun a_20 h => ?_)
      refine lv_iload_n hx hb dX14_turns_21 rfl (lv_at hl 2 rfl) ?_
      refine lv_iconst (v := 2) hx hb dX14_turns_22 (by decide) ?_
      refine lv_idiv hx hb dX14_turns_23 (by decide) ?_
      refine lv_iload_n hx hb dX14_turns_24 rfl (lv_at hl 1 rfl) ?_
      refine lv_iconst (v := 2) hx hb dX14_turns_25 (by decide) ?_
      refine lv_irem hx hb dX14_turns_26 (by decide) ?_
      refine lv_if_ne (tgt := 34) hx hb dX14_turns_27 (by decide) (fun c_21 => ?_) (fun c_21 => ?_)
      · have h := if_f h c_21
        refine lv_iconst (v := 0) hx hb dX14_turns_34 (by decide) ?_
        refine zw_zast S hW (by decide) dX14_turns_35 h (fun Z_22 h H locs hW => ?_)
        cases h
        exact d_vret S hr hlk hW (Nat.le_of_ble_eq_true rfl) (Nat.le_of_ble_eq_true rfl) dX14_turns_36
      · have h := if_t h c_21
        refine lv_iconst (v := 1) hx hb dX14_turns_30 (by decide) ?_
        refine lv_goto (tgt := 35) hx hb dX14_turns_31 (by decide) ?_
        refine zw_zast S hW (by decide) dX14_turns_35 h (fun Z_23 h H locs hW => ?_)
        cases h
        exact d_vret S hr hlk hW (Nat.le_of_ble_eq_true rfl) (Nat.le_of_ble_eq_true rfl) dX14_turns_36
  · have h := if_t h c_1
    cases h
    exact d_vret S hr hlk hW (Nat.le_of_ble_eq_true rfl) (Nat.le_of_ble_eq_true rfl) dX14_turns_7
def cm_X14_isGap (Z0 : c_S) (a0 : Nat) (a1 : Int32) : Option (Int32) :=
  cA Z0.Sh a0 13 9 5 fun a_1 => caI Z0.Sh Z0.V 0 a_1 (2 * a1) fun x_2 => if x_2 = (-1) then (some 0) else (cA Z0.Sh a0 13 9 5 fun a_4 => caI Z0.Sh Z0.V 0 a_4 ((2 * a1) + 1) fun x_5 => if x_5 = (-1) then (some 1) else (some 0))
abbrev rmX14_isGap : Room := rmD 0 0 0 0
set_option maxHeartbeats 4000000 in
theorem metX14_isGap {l : Launch} {gp : Nat → Nat} {D : va_G} {K : Nat → ClassId} {Z0 : c_S} {a0 : Nat} {a1 : Int32} {r : Int32} (h : cm_X14_isGap Z0 a0 a1 = some r) : Met l yX14_isGap (ws_ yX14_isGap cX14_isGap 2 (some .boolean)) rmX14_isGap (z_Pc gp [.ref a0, .int a1] D K Z0) (z_Q (.returned (some (.int r))) D K (z_A Z0) Z0) 0 0 (z_A Z0) := by
  refine d_met rfl (Nat.le_of_ble_eq_true rfl) ?_
  intro p e s m below meth c ls S hr hlk hnm hl hW hsz
  have S : CallFix p m c cX14_isGap 2 s ([.ref a0, .int a1] : List Value).toArray lw_all RX14 := S
  have hx := S.1
  have hb := S.2.1
  have hl : lv_has ls 2 [(0, .ref a0), (1, .int a1)] := hl
  have hnm : meth.name = "isGap" := hnm
  unfold cm_X14_isGap at h
  refine lv_aload_n hx hb dX14_isGap_0 rfl (lv_at hl 0 rfl) ?_
  refine zw_getA S hW zC_X14 (i := 5) (by decide) (Or.inl q1286) (fun _ h => h) dX14_isGap_1 h (fun a_1 h => ?_)
  refine lv_iconst (v := 2) hx hb dX14_isGap_4 (by decide) ?_
  refine lv_iload_n hx hb dX14_isGap_5 rfl (lv_at hl 1 rfl) ?_
  refine lv_imul hx hb dX14_isGap_6 ?_
  refine zw_iald S hW dX14_isGap_7 h (fun x_2 h => ?_)
  refine lv_iconst (v := (-1)) hx hb dX14_isGap_8 (by decide) ?_
  refine lv_icmp_eq (tgt := 30) hx hb dX14_isGap_9 (by decide) (fun c_3 => ?_) (fun c_3 => ?_)
  · have h := if_t h c_3
    refine lv_iconst (v := 0) hx hb dX14_isGap_30 (by decide) ?_
    cases h
    exact d_zret S hr hlk rfl hW (Nat.le_of_ble_eq_true rfl) (Nat.le_of_ble_eq_true rfl) dX14_isGap_31
  · have h := if_f h c_3
    refine lv_aload_n hx hb dX14_isGap_12 rfl (lv_at hl 0 rfl) ?_
    refine zw_getA S hW zC_X14 (i := 5) (by decide) (Or.inl q1286) (fun _ h => h) dX14_isGap_13 h (fun a_4 h => ?_)
    refine lv_iconst (v := 2) hx hb dX14_isGap_16 (by decide) ?_
    refine lv_iload_n hx hb dX14_isGap_17 rfl (lv_at hl 1 rfl) ?_
    refine lv_imul hx hb dX14_isGap_18 ?_
    refine lv_iconst (v := 1) hx hb dX14_isGap_19 (by decide) ?_
    refine lv_iadd hx hb dX14_isGap_20 ?_
    refine zw_iald S hW dX14_isGap_21 h (fun x_5 h => ?_)
    refine lv_iconst (v := (-1)) hx hb dX14_isGap_22 (by decide) ?_
    refine lv_icmp_ne (tgt := 30) hx hb dX14_isGap_23 (by decide) (fun c_6 => ?_) (fun c_6 => ?_)
    · have h := if_f h c_6
      refine lv_iconst (v := 0) hx hb dX14_isGap_30 (by decide) ?_
      cases h
      exact d_zret S hr hlk rfl hW (Nat.le_of_ble_eq_true rfl) (Nat.le_of_ble_eq_true rfl) dX14_isGap_31
    · have h := if_t h c_6
      refine lv_iconst (v := 1) hx hb dX14_isGap_26 (by decide) ?_
      refine lv_goto (tgt := 31) hx hb dX14_isGap_27 (by decide) ?_
      cases h
      exact d_zret S hr hlk rfl hW (Nat.le_of_ble_eq_true rfl) (Nat.le_of_ble_eq_true rfl) dX14_isGap_31
def cm_X2_init_B84 (x0 : Nat) (rec : Int32 → c_S → Option (c_S)) (x1 : Int32) (Z : c_S) : Option (c_S) :=
  if 12 ≤ x1 then (some Z) else (cA Z.Sh x0 2 13 2 fun a_32 => zsI Z 0 a_32 x1 (-1) fun Z_33 => nmI (x1 + 1) fun x_34 => rec x_34 Z_33)
abbrev cm_X2_init_F84 (x0 : Nat) : (((Int32) × (c_S)) → Option (c_S)) → ((Int32) × (c_S)) → Option (c_S) := fun rec s => cm_X2_init_B84 x0 (fun x1 Z => rec (x1, Z)) s.1 s.2
def cm_X2_init_L84 (x0 : Nat) (n : Nat) (x1 : Int32) (Z : c_S) : Option (c_S) := lp (cm_X2_init_F84 x0) n (x1, Z)
theorem cm_X2_init_L84_s (x0 : Nat) (n : Nat) (x1 : Int32) (Z : c_S) : cm_X2_init_L84 x0 (n + 1) x1 Z = cm_X2_init_B84 x0 (fun x1 Z => cm_X2_init_L84 x0 n x1 Z) x1 Z := lp_s (cm_X2_init_F84 x0) n (x1, Z)
def cm_X2_init (Z0 : c_S) (a0 : Nat) : Option (c_S) :=
  zNewR Z0 8 4 4 fun Z_1 a_2 => zPR Z_1 a0 2 13 0 (some a_2) fun Z_3 => zNewI Z_3 0 144 fun Z_4 a_5 => zPR Z_4 a0 2 13 1 (some a_5) fun Z_6 => zNewI Z_6 0 12 fun Z_7 a_8 => zPR Z_7 a0 2 13 2 (some a_8) fun Z_9 => zNew Z_9 14 3 tyJ2 fun Z_10 a_11 => bnd (cm_J2_init Z_10 a_11 4) (fun Z_14 => zPR Z_14 a0 2 13 3 (some a_11) fun Z_15 => zNew Z_15 14 3 tyJ2 fun Z_16 a_17 => bnd (cm_J2_init Z_16 a_17 4) (fun Z_20 => zPR Z_20 a0 2 13 4 (some a_17) fun Z_21 => zNew Z_21 14 3 tyJ2 fun Z_22 a_23 => bnd (cm_J2_init Z_22 a_23 4) (fun Z_26 => zPR Z_26 a0 2 13 5 (some a_23) fun Z_27 => zPI Z_27 a0 2 13 6 100 fun Z_28 => zPI Z_28 a0 2 13 7 (-1) fun Z_29 => zPI Z_29 a0 2 13 11 99999 fun Z_30 => bnd (cm_X2_init_L84 a0 1000 0 Z_30) (fun Z_38 => some Z_38))))
abbrev rmX2_init : Room := rmD 4 81 9 181
theorem cwJ2_init_I {own : String} {R : Room} {s : State} {args : Array Value} {index : Nat} (hts : ∀ w ∈ lw_all, w.before args s = true) (hl : Cond.methodLink own index yJ2_init ∈ lw_all) (hR : rmJ2_init.frames + 1 ≤ R.frames ∧ 8 + (2 + 11) + rmJ2_init.locals ≤ R.locals) : CallB R s args own index yJ2_init cJ2_init 2 (none) (ws_ yJ2_init cJ2_init 2 (none)) rmJ2_init 1 4 1 ∧ yJ2_init.name = "<init>" ∧ (Cond.instanceMethod yJ2_init).before args s = true := cwI 1 hts (lw_meth q364) rfl rfl rfl (hts _ q110) (hts _ hl) (hts _ q363) rfl ⟨by decide, by decide, by decide +kernel⟩ hR
set_option maxHeartbeats 4000000 in
theorem metX2_init {l : Launch} {gp : Nat → Nat} {D : va_G} {K : Nat → ClassId} {Z0 : c_S} {a0 : Nat} {Z' : c_S} (h : cm_X2_init Z0 a0 = some Z') : Met l yX2_init (ws_ yX2_init cX2_init 2 (none)) rmX2_init (z_Pc gp [.ref a0] D K Z0) (z_Q (.returned (none)) D K (z_A Z0) Z') 9 181 (z_A Z0) := by
  refine d_met rfl (Nat.le_of_ble_eq_true rfl) ?_
  intro p e s m below meth c ls S hr hlk hnm hl hW hsz
  have S : CallFix p m c cX2_init 2 s ([.ref a0] : List Value).toArray lw_all RX2 := S
  have hx := S.1
  have hb := S.2.1
  have hl : lv_has ls 2 [(0, .ref a0)] := hl
  have hnm : meth.name = "<init>" := hnm
  have Lp84 : ∀ (x0 : Nat) (E G : Nat) (n : Nat) (x1 : Int32) (Z : c_S) (out : (c_S)) (cells slots : Nat) (H : Heap) (locs : List Loc) (ls : Array Slot), cm_X2_init_L84 x0 n x1 Z = some out → z_W gp D K (z_A Z0) s Z H locs → lv_has ls 2 [(0, .ref x0), (1, .int x1)] → cells + n * 0 ≤ E → slots + n * 0 ≤ G → E ≤ 9 → G ≤ 181 → (∀ (oZ : c_S), out = oZ → ∀ (H : Heap) (locs : List Loc) (ls : Array Slot), z_W gp D K (z_A Z0) s oZ H locs → lv_has ls 2 [] → W p l e rmX2_init s m ([.ref a0] : List Value).toArray below meth c H locs E G (MQ below (z_Q (.returned (none)) D K (z_A Z0) Z') ([.ref a0] : List Value).toArray s 9 181 (z_A Z0)) (F0 m 103 ls [])) → W p l e rmX2_init s m ([.ref a0] : List Value).toArray below meth c H locs cells slots (MQ below (z_Q (.returned (none)) D K (z_A Z0) Z') ([.ref a0] : List Value).toArray s 9 181 (z_A Z0)) (F0 m 84 ls []) := by
    intro x0 E G n
    induction n with
    | zero =>
      intro x1 Z out cells slots H locs ls h
      exact (lp_0 h).elim
    | succ n ih =>
      intro x1 Z out cells slots H locs ls h hW hl hcl hsl hE hG k1
      rw [cm_X2_init_L84_s] at h
      unfold cm_X2_init_B84 at h
      refine lv_iload_n hx hb dX2_init_84 rfl (lv_at hl 1 rfl) ?_
      refine lv_bipush (v := 12) hx hb dX2_init_85 (by decide) ?_
      refine lv_icmp_ge (tgt := 103) hx hb dX2_init_87 (by decide) (fun c_31 => ?_) (fun c_31 => ?_)
      · have h := if_t h c_31
        exact W.widen (by omega) (by omega) (k1 _ (Option.some.inj h).symm _ _ _ hW (lv_sub hl [] rfl))
      · have h := if_f h c_31
        refine lv_aload_n hx hb dX2_init_90 rfl (lv_at hl 0 rfl) ?_
        refine zw_getA S hW zC_X2 (i := 2) (by decide) (Or.inl q394) (fun _ h => h) dX2_init_91 h (fun a_32 h => ?_)
        refine lv_iload_n hx hb dX2_init_94 rfl (lv_at hl 1 rfl) ?_
        refine lv_iconst (v := (-1)) hx hb dX2_init_95 (by decide) ?_
        refine zw_iast S hW dX2_init_96 h (fun Z_33 h H locs hW => ?_)
        obtain ⟨x_34, e_35, h⟩ := nmI_some h
        refine lv_iinc (v := x_34) (lv' := [(1, .int x_34), (0, .ref x0)]) hx hb dX2_init_97 hl (k := 1) rfl (by rw [e_35]; rfl) (by decide) rfl (fun ls hl => ?_)
        refine lv_goto (tgt := 84) hx hb dX2_init_100 (by decide) ?_
        exact ih x_34 Z_33 out cells slots _ _ _ h hW (lv_sub hl [1, 0] rfl) (by omega) (by omega) hE hG k1
  unfold cm_X2_init at h
  refine lv_aload_n hx hb dX2_init_0 rfl (lv_at hl 0 rfl) ?_
  refine zw_oinit S q357 hl.1 (Nat.le_of_ble_eq_true rfl) (z_ro (Nat.le_of_ble_eq_true rfl)) (Nat.le_of_ble_eq_true rfl) dX2_init_1 ?_
  refine lv_aload_n hx hb dX2_init_4 rfl (lv_at hl 0 rfl) ?_
  refine lv_iconst (v := 4) hx hb dX2_init_5 (by decide) ?_
  refine zw_newr (t := 8) (B := 4) S hW q358 (by decide) rfl (by decide) (Nat.le_of_ble_eq_true rfl) (Nat.le_of_ble_eq_true rfl) dX2_init_6 h (fun Z_1 a_2 h H hW => ?_)
  refine zw_putR (o := some a_2) S hW zC_X2 (i := 0) (by decide) (Or.inr ⟨rfl, hnm, rfl, q389⟩) rfl (Or.inl q389) (fun _ h => h) dX2_init_9 h (fun Z_3 h H locs hW => ?_)
  refine lv_aload_n hx hb dX2_init_12 rfl (lv_at hl 0 rfl) ?_
  refine lv_sipush (v := 144) hx hb dX2_init_13 (by decide) ?_
  refine zw_newi (atype := .int) (t := 0) (N := 144) S hW q245 rfl rfl (fun h => h) (by decide) rfl (by decide) (Nat.le_of_ble_eq_true rfl) (Nat.le_of_ble_eq_true rfl) dX2_init_16 h (fun Z_4 a_5 h H hW => ?_)
  refine zw_putR (o := some a_5) S hW zC_X2 (i := 1) (by decide) (Or.inr ⟨rfl, hnm, rfl, q391⟩) rfl (Or.inl q391) (fun _ h => h) dX2_init_18 h (fun Z_6 h H locs hW => ?_)
  refine lv_aload_n hx hb dX2_init_21 rfl (lv_at hl 0 rfl) ?_
  refine lv_bipush (v := 12) hx hb dX2_init_22 (by decide) ?_
  refine zw_newi (atype := .int) (t := 0) (N := 12) S hW q245 rfl rfl (fun h => h) (by decide) rfl (by decide) (Nat.le_of_ble_eq_true rfl) (Nat.le_of_ble_eq_true rfl) dX2_init_24 h (fun Z_7 a_8 h H hW => ?_)
  refine zw_putR (o := some a_8) S hW zC_X2 (i := 2) (by decide) (Or.inr ⟨rfl, hnm, rfl, q394⟩) rfl (Or.inl q394) (fun _ h => h) dX2_init_26 h (fun Z_9 h H locs hW => ?_)
  refine lv_aload_n hx hb dX2_init_29 rfl (lv_at hl 0 rfl) ?_
  refine zw_new S hW zC_J2 q360 q361 q110 (Nat.le_of_ble_eq_true rfl) (Nat.le_of_ble_eq_true rfl) dX2_init_30 h (fun Z_10 a_11 h H hW => ?_)
  refine lv_dup hx hb dX2_init_33 rfl ?_
  refine lv_iconst (v := 4) hx hb dX2_init_34 (by decide) ?_
  obtain ⟨Z_14, h_12, h⟩ := bnd_some h
  refine d_callI (As := [.int 4]) (rest := [.ref a_11, .ref a0]) S hW (metJ2_init h_12) (cwJ2_init_I S.2.2.2.2 q362 ⟨Nat.le_of_ble_eq_true rfl, Nat.le_of_ble_eq_true rfl⟩) rfl hl.1 rfl (Nat.le_of_ble_eq_true rfl) dX2_init_35 ⟨(Nat.le_of_ble_eq_true rfl), (Nat.le_of_ble_eq_true rfl)⟩ rfl (fun H locs hW => ?_)
  refine zw_putR (o := some a_11) S hW zC_X2 (i := 3) (by decide) (Or.inr ⟨rfl, hnm, rfl, q397⟩) rfl (Or.inl q397) (fun _ h => h) dX2_init_38 h (fun Z_15 h H locs hW => ?_)
  refine lv_aload_n hx hb dX2_init_41 rfl (lv_at hl 0 rfl) ?_
  refine zw_new S hW zC_J2 q360 q361 q110 (Nat.le_of_ble_eq_true rfl) (Nat.le_of_ble_eq_true rfl) dX2_init_42 h (fun Z_16 a_17 h H hW => ?_)
  refine lv_dup hx hb dX2_init_45 rfl ?_
  refine lv_iconst (v := 4) hx hb dX2_init_46 (by decide) ?_
  obtain ⟨Z_20, h_18, h⟩ := bnd_some h
  refine d_callI (As := [.int 4]) (rest := [.ref a_17, .ref a0]) S hW (metJ2_init h_18) (cwJ2_init_I S.2.2.2.2 q362 ⟨Nat.le_of_ble_eq_true rfl, Nat.le_of_ble_eq_true rfl⟩) rfl hl.1 rfl (Nat.le_of_ble_eq_true rfl) dX2_init_47 ⟨(Nat.le_of_ble_eq_true rfl), (Nat.le_of_ble_eq_true rfl)⟩ rfl (fun H locs hW => ?_)
  refine zw_putR (o := some a_17) S hW zC_X2 (i := 4) (by decide) (Or.inr ⟨rfl, hnm, rfl, q400⟩) rfl (Or.inl q400) (fun _ h => h) dX2_init_50 h (fun Z_21 h H locs hW => ?_)
  refine lv_aload_n hx hb dX2_init_53 rfl (lv_at hl 0 rfl) ?_
  refine zw_new S hW zC_J2 q360 q361 q110 (Nat.le_of_ble_eq_true rfl) (Nat.le_of_ble_eq_true rfl) dX2_init_54 h (fun Z_22 a_23 h H hW => ?_)
  refine lv_dup hx hb dX2_init_57 rfl ?_
  refine lv_iconst (v := 4) hx hb dX2_init_58 (by decide) ?_
  obtain ⟨Z_26, h_24, h⟩ := bnd_some h
  refine d_callI (As := [.int 4]) (rest := [.ref a_23, .ref a0]) S hW (metJ2_init h_24) (cwJ2_init_I S.2.2.2.2 q362 ⟨Nat.le_of_ble_eq_true rfl, Nat.le_of_ble_eq_true rfl⟩) rfl hl.1 rfl (Nat.le_of_ble_eq_true rfl) dX2_init_59 ⟨(Nat.le_of_ble_eq_true rfl), (Nat.le_of_ble_eq_true rfl)⟩ rfl (fun H locs hW => ?_)
  refine zw_putR (o := some a_23) S hW zC_X2 (i := 5) (by decide) (Or.inr ⟨rfl, hnm, rfl, q403⟩) rfl (Or.inl q403) (fun _ h => h) dX2_init_62 h (fun Z_27 h H locs hW => ?_)
  refine lv_aload_n hx hb dX2_init_65 rfl (lv_at hl 0 rfl) ?_
  refine lv_bipush (v := 100) hx hb dX2_init_66 (by decide) ?_
  refine zw_putI S hW zC_X2 (i := 6) (by decide) (Or.inl rfl) rfl rfl rfl (Or.inl q406) (fun _ h => h) dX2_init_68 h (fun Z_28 h H locs hW => ?_)
  refine lv_aload_n hx hb dX2_init_71 rfl (lv_at hl 0 rfl) ?_
  refine lv_iconst (v := (-1)) hx hb dX2_init_72 (by decide) ?_
  refine zw_putI S hW zC_X2 (i := 7) (by decide) (Or.inl rfl) rfl rfl rfl (Or.inl q410) (fun _ h => h) dX2_init_73 h (fun Z_29 h H locs hW => ?_)
  refine lv_aload_n hx hb dX2_init_76 rfl (lv_at hl 0 rfl) ?_
  refine lv_ldc (v := 99999) hx hb S.2.2.2.1 (S.2.2.2.2 _ q388) dX2_init_77 ?_
  refine zw_putI S hW zC_X2 (i := 11) (by decide) (Or.inl rfl) rfl rfl rfl (Or.inl q418) (fun _ h => h) dX2_init_79 h (fun Z_30 h H locs hW => ?_)
  refine lv_iconst (v := 0) hx hb dX2_init_82 (by decide) ?_
  refine lv_istore_n (lv' := [(1, .int 0), (0, .ref a0)]) hx hb dX2_init_83 rfl hl (by decide) rfl (fun ls hl => ?_)
  obtain ⟨Z_38, h_37, h⟩ := bnd_some h
  refine Lp84 a0 9 181 1000 0 Z_30  _ 9 181 _ _ _ h_37 hW (lv_sub hl [1, 0] rfl) (by omega) (by omega) (by omega) (by omega) ?_
  intro w0 eo H locs ls hW hl
  subst eo
  cases h
  exact d_vret S hr hlk hW (Nat.le_of_ble_eq_true rfl) (Nat.le_of_ble_eq_true rfl) dX2_init_103
def cm_X2_hasShaft (Z0 : c_S) (a0 : Nat) : Option (Int32) :=
  cI Z0.Sh Z0.V a0 2 13 7 fun x_1 => if x_1 = (-1) then (some 0) else (some 1)
abbrev rmX2_hasShaft : Room := rmD 0 0 0 0
set_option maxHeartbeats 4000000 in
theorem metX2_hasShaft {l : Launch} {gp : Nat → Nat} {D : va_G} {K : Nat → ClassId} {Z0 : c_S} {a0 : Nat} {r : Int32} (h : cm_X2_hasShaft Z0 a0 = some r) : Met l yX2_hasShaft (ws_ yX2_hasShaft cX2_hasShaft 1 (some .boolean)) rmX2_hasShaft (z_Pc gp [.ref a0] D K Z0) (z_Q (.returned (some (.int r))) D K (z_A Z0) Z0) 0 0 (z_A Z0) := by
  refine d_met rfl (Nat.le_of_ble_eq_true rfl) ?_
  intro p e s m below meth c ls S hr hlk hnm hl hW hsz
  have S : CallFix p m c cX2_hasShaft 1 s ([.ref a0] : List Value).toArray lw_all RX2 := S
  have hx := S.1
  have hb := S.2.1
  have hl : lv_has ls 1 [(0, .ref a0)] := hl
  have hnm : meth.name = "hasShaft" := hnm
  unfold cm_X2_hasShaft at h
  refine lv_aload_n hx hb dX2_hasShaft_0 rfl (lv_at hl 0 rfl) ?_
  refine zw_getI S hW zC_X2 (i := 7) (by decide) (Or.inl q410) (fun _ h => h) dX2_hasShaft_1 h (fun x_1 h => ?_)
  refine lv_iconst (v := (-1)) hx hb dX2_hasShaft_4 (by decide) ?_
  refine lv_icmp_eq (tgt := 12) hx hb dX2_hasShaft_5 (by decide) (fun c_2 => ?_) (fun c_2 => ?_)
  · have h := if_t h c_2
    refine lv_iconst (v := 0) hx hb dX2_hasShaft_12 (by decide) ?_
    cases h
    exact d_zret S hr hlk rfl hW (Nat.le_of_ble_eq_true rfl) (Nat.le_of_ble_eq_true rfl) dX2_hasShaft_13
  · have h := if_f h c_2
    refine lv_iconst (v := 1) hx hb dX2_hasShaft_8 (by decide) ?_
    refine lv_goto (tgt := 13) hx hb dX2_hasShaft_9 (by decide) ?_
    cases h
    exact d_zret S hr hlk rfl hW (Nat.le_of_ble_eq_true rfl) (Nat.le_of_ble_eq_true rfl) dX2_hasShaft_13
def cm_X2_of (Z0 : c_S) (a0 : Nat) (a1 : Int32) : Option (Option Nat) :=
  cA Z0.Sh a0 2 13 0 fun a_1 => cA Z0.Sh a0 2 13 1 fun a_2 => caI Z0.Sh Z0.V 0 a_2 a1 fun x_3 => caR Z0.Sh 8 a_1 x_3 fun o_4 => some o_4
abbrev rmX2_of : Room := rmD 0 0 0 0
set_option maxHeartbeats 4000000 in
theorem metX2_of {l : Launch} {gp : Nat → Nat} {D : va_G} {K : Nat → ClassId} {Z0 : c_S} {a0 : Nat} {a1 : Int32} {r : Option Nat} (h : cm_X2_of Z0 a0 a1 = some r) : Met l yX2_of (ws_ yX2_of cX2_of 2 (some (.object "FrostRing$Ground"))) rmX2_of (z_Pc gp [.ref a0, .int a1] D K Z0) (z_Q (.returned (some (va_rf r))) D K (z_A Z0) Z0) 0 0 (z_A Z0) := by
  refine d_met rfl (Nat.le_of_ble_eq_true rfl) ?_
  intro p e s m below meth c ls S hr hlk hnm hl hW hsz
  have S : CallFix p m c cX2_of 2 s ([.ref a0, .int a1] : List Value).toArray lw_all RX2 := S
  have hx := S.1
  have hb := S.2.1
  have hl : lv_has ls 2 [(0, .ref a0), (1, .int a1)] := hl
  have hnm : meth.name = "of" := hnm
  unfold cm_X2_of at h
  refine lv_aload_n hx hb dX2_of_0 rfl (lv_at hl 0 rfl) ?_
  refine zw_getA S hW zC_X2 (i := 0) (by decide) (Or.inl q389) (fun _ h => h) dX2_of_1 h (fun a_1 h => ?_)
  refine lv_aload_n hx hb dX2_of_4 rfl (lv_at hl 0 rfl) ?_
  refine zw_getA S hW zC_X2 (i := 1) (by decide) (Or.inl q391) (fun _ h => h) dX2_of_5 h (fun a_2 h => ?_)
  refine lv_iload_n hx hb dX2_of_8 rfl (lv_at hl 1 rfl) ?_
  refine zw_iald S hW dX2_of_9 h (fun x_3 h => ?_)
  refine zw_aald (t := 8) S hW rfl dX2_of_10 h (fun o_4 h => ?_)
  cases h
  exact d_aret S hr (Or.inl ⟨_, rfl⟩) hlk hW (Nat.le_of_ble_eq_true rfl) (Nat.le_of_ble_eq_true rfl) dX2_of_11
def cm_X2_isShaft (Z0 : c_S) (a0 : Nat) (a1 : Int32) : Option (Int32) :=
  zK Z0 a0 2 13 <| bnd (cm_X2_hasShaft Z0 a0) (fun x_4 => if x_4 = 0 then (some 0) else (cI Z0.Sh Z0.V a0 2 13 7 fun x_6 => cI Z0.Sh Z0.V a0 2 13 9 fun x_7 => bnd (cm_X0_in ((a1 - a1 / 12 * 12).toInt64) x_6.toInt64 x_7.toInt64) (fun x_10 => if x_10 = 0 then (some 0) else (cI Z0.Sh Z0.V a0 2 13 8 fun x_12 => cI Z0.Sh Z0.V a0 2 13 10 fun x_13 => bnd (cm_X0_in ((a1 / 12).toInt64) x_12.toInt64 x_13.toInt64) (fun x_16 => if x_16 = 0 then (some 0) else (some 1))))))
abbrev rmX2_isShaft : Room := rmD 1 25 0 0
theorem cwX2_hasShaft_V {own : String} {R : Room} {s : State} {args : Array Value} {index : Nat} (hts : ∀ w ∈ lw_all, w.before args s = true) (hl : Cond.methodLink own index yX2_hasShaft ∈ lw_all) (hR : rmX2_hasShaft.frames + 1 ≤ R.frames ∧ 8 + (1 + 11) + rmX2_hasShaft.locals ≤ R.locals) : CallW R s args own RX2 index yX2_hasShaft cX2_hasShaft 1 (some .boolean) (ws_ yX2_hasShaft cX2_hasShaft 1 (some .boolean)) rmX2_hasShaft 0 0 0 := cwV 0 hts (lw_V hl q968 q969 q107 q970) rfl rfl rfl (by decide +kernel) hR
theorem cwX0_in_SN {own : String} {R : Room} {s : State} {args : Array Value} {index : Nat} (hts : ∀ w ∈ lw_all, w.before args s = true) {host : String} (hn : va_Nw (.methodLinkNest own index yX0_in host) s) (hR : rmX0_in.frames + 1 ≤ R.frames ∧ 8 + (6 + 11) + rmX0_in.locals ≤ R.locals) : va_CN R s args own index yX0_in host cX0_in 6 (some .boolean) (ws_ yX0_in cX0_in 6 (some .boolean)) rmX0_in 0 0 3 ∧ (Cond.static yX0_in).before args s = true ∧ True := ⟨va_cnB 3 hts (lw_meth q151) rfl rfl rfl hn (hts _ q105) ⟨by decide, by decide, by decide +kernel⟩ hR, hts _ q150, trivial⟩
set_option maxHeartbeats 4000000 in
theorem metX2_isShaft {l : Launch} {gp : Nat → Nat} {D : va_G} {K : Nat → ClassId} {Z0 : c_S} {a0 : Nat} {a1 : Int32} {r : Int32} (h : cm_X2_isShaft Z0 a0 a1 = some r) : Met l yX2_isShaft (ws_ yX2_isShaft cX2_isShaft 2 (some .boolean)) rmX2_isShaft (z_Pc gp [.ref a0, .int a1] D K Z0) (z_Q (.returned (some (.int r))) D K (z_A Z0) Z0) 0 0 (z_A Z0) := by
  refine d_met rfl (Nat.le_of_ble_eq_true rfl) ?_
  intro p e s m below meth c ls S hr hlk hnm hl hW hsz
  have S : CallFix p m c cX2_isShaft 2 s ([.ref a0, .int a1] : List Value).toArray lw_all RX2 := S
  have hx := S.1
  have hb := S.2.1
  have hl : lv_has ls 2 [(0, .ref a0), (1, .int a1)] := hl
  have hnm : meth.name = "isShaft" := hnm
  unfold cm_X2_isShaft at h
  refine lv_aload_n hx hb dX2_isShaft_0 rfl (lv_at hl 0 rfl) ?_
  obtain ⟨⟨_, k_1⟩, h⟩ := zK_some h
  obtain ⟨x_4, h_2, h⟩ := bnd_some h
  refine d_callV (As := []) (rest := []) S hW (metX2_hasShaft h_2) (cwX2_hasShaft_V S.2.2.2.2 q1168 ⟨Nat.le_of_ble_eq_true rfl, Nat.le_of_ble_eq_true rfl⟩) k_1 rfl rfl hl.1 rfl (Nat.le_of_ble_eq_true rfl) dX2_isShaft_1 ⟨(Nat.le_of_ble_eq_true rfl), (Nat.le_of_ble_eq_true rfl)⟩ rfl (fun H locs hW => ?_)
  refine lv_if_eq (tgt := 53) hx hb dX2_isShaft_4 (by decide) (fun c_5 => ?_) (fun c_5 => ?_)
  · have h := if_t h c_5
    refine lv_iconst (v := 0) hx hb dX2_isShaft_53 (by decide) ?_
    cases h
    exact d_zret S hr hlk rfl hW (Nat.le_of_ble_eq_true rfl) (Nat.le_of_ble_eq_true rfl) dX2_isShaft_54
  · have h := if_f h c_5
    refine lv_iload_n hx hb dX2_isShaft_7 rfl (lv_at hl 1 rfl) ?_
    refine lv_bipush (v := 12) hx hb dX2_isShaft_8 (by decide) ?_
    refine lv_irem hx hb dX2_isShaft_10 (by decide) ?_
    refine lv_i2l (v := (a1 - a1 / 12 * 12).toInt64) hx hb dX2_isShaft_11 rfl ?_
    refine lv_aload_n hx hb dX2_isShaft_12 rfl (lv_at hl 0 rfl) ?_
    refine zw_getI S hW zC_X2 (i := 7) (by decide) (Or.inl q410) (fun _ h => h) dX2_isShaft_13 h (fun x_6 h => ?_)
    refine lv_i2l (v := x_6.toInt64) hx hb dX2_isShaft_16 rfl ?_
    refine lv_aload_n hx hb dX2_isShaft_17 rfl (lv_at hl 0 rfl) ?_
    refine zw_getI S hW zC_X2 (i := 9) (by decide) (Or.inl q414) (fun _ h => h) dX2_isShaft_18 h (fun x_7 h => ?_)
    refine lv_i2l (v := x_7.toInt64) hx hb dX2_isShaft_21 rfl ?_
    obtain ⟨x_10, h_8, h⟩ := bnd_some h
    refine d_callSN (As := [.long ((a1 - a1 / 12 * 12).toInt64), .long x_6.toInt64, .long x_7.toInt64]) (rest := []) S hW (metX0_in h_8) (cwX0_in_SN S.2.2.2.2 (hW.1.2.2.2.2.1.2.2.2.2.1 _ (nestW_in q1169 rfl)) ⟨Nat.le_of_ble_eq_true rfl, Nat.le_of_ble_eq_true rfl⟩) rfl hl.1 rfl (Nat.le_of_ble_eq_true rfl) dX2_isShaft_22 ⟨(Nat.le_of_ble_eq_true rfl), (Nat.le_of_ble_eq_true rfl)⟩ rfl (fun H locs hW => ?_)
    refine lv_if_eq (tgt := 53) hx hb dX2_isShaft_25 (by decide) (fun c_11 => ?_) (fun c_11 => ?_)
    · have h := if_t h c_11
      refine lv_iconst (v := 0) hx hb dX2_isShaft_53 (by decide) ?_
      cases h
      exact d_zret S hr hlk rfl hW (Nat.le_of_ble_eq_true rfl) (Nat.le_of_ble_eq_true rfl) dX2_isShaft_54
    · have h := if_f h c_11
      refine lv_iload_n hx hb dX2_isShaft_28 rfl (lv_at hl 1 rfl) ?_
      refine lv_bipush (v := 12) hx hb dX2_isShaft_29 (by decide) ?_
      refine lv_idiv hx hb dX2_isShaft_31 (by decide) ?_
      refine lv_i2l (v := (a1 / 12).toInt64) hx hb dX2_isShaft_32 rfl ?_
      refine lv_aload_n hx hb dX2_isShaft_33 rfl (lv_at hl 0 rfl) ?_
      refine zw_getI S hW zC_X2 (i := 8) (by decide) (Or.inl q412) (fun _ h => h) dX2_isShaft_34 h (fun x_12 h => ?_)
      refine lv_i2l (v := x_12.toInt64) hx hb dX2_isShaft_37 rfl ?_
      refine lv_aload_n hx hb dX2_isShaft_38 rfl (lv_at hl 0 rfl) ?_
      refine zw_getI S hW zC_X2 (i := 10) (by decide) (Or.inl q416) (fun _ h => h) dX2_isShaft_39 h (fun x_13 h => ?_)
      refine lv_i2l (v := x_13.toInt64) hx hb dX2_isShaft_42 rfl ?_
      obtain ⟨x_16, h_14, h⟩ := bnd_some h
      refine d_callSN (As := [.long ((a1 / 12).toInt64), .long x_12.toInt64, .long x_13.toInt64]) (rest := []) S hW (metX0_in h_14) (cwX0_in_SN S.2.2.2.2 (hW.1.2.2.2.2.1.2.2.2.2.1 _ (nestW_in q1169 rfl)) ⟨Nat.le_of_ble_eq_true rfl, Nat.le_of_ble_eq_true rfl⟩) rfl hl.1 rfl (Nat.le_of_ble_eq_true rfl) dX2_isShaft_43 ⟨(Nat.le_of_ble_eq_true rfl), (Nat.le_of_ble_eq_true rfl)⟩ rfl (fun H locs hW => ?_)
      refine lv_if_eq (tgt := 53) hx hb dX2_isShaft_46 (by decide) (fun c_17 => ?_) (fun c_17 => ?_)
      · have h := if_t h c_17
        refine lv_iconst (v := 0) hx hb dX2_isShaft_53 (by decide) ?_
        cases h
        exact d_zret S hr hlk rfl hW (Nat.le_of_ble_eq_true rfl) (Nat.le_of_ble_eq_true rfl) dX2_isShaft_54
      · have h := if_f h c_17
        refine lv_iconst (v := 1) hx hb dX2_isShaft_49 (by decide) ?_
        refine lv_goto (tgt := 54) hx hb dX2_isShaft_50 (by decide) ?_
        cases h
        exact d_zret S hr hlk rfl hW (Nat.le_of_ble_eq_true rfl) (Nat.le_of_ble_eq_true rfl) dX2_isShaft_54
