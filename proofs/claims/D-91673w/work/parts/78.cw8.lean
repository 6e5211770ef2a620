/-! walks of the component: X1_leadOf X1_cools X1_way X1_thick -/
set_option maxRecDepth 100000
def cm_X1_leadOf (Z0 : c_S) (a0 : Nat) (a1 : Int32) : Option (Int32) :=
  zK Z0 a0 1 20 <| bnd (cm_X1_isFrozen Z0 a0 a1) (fun x_4 => if x_4 = 0 then (cA Z0.Sh a0 1 20 0 fun a_6 => zK Z0 a_6 2 13 <| bnd (cm_X2_of Z0 a_6 a1) (fun o_10 => nn o_10 fun a_11 => cI Z0.Sh Z0.V a_11 4 4 0 fun x_12 => some x_12)) else (cA Z0.Sh a0 1 20 0 fun a_13 => zK Z0 a_13 2 13 <| bnd (cm_X2_of Z0 a_13 a1) (fun o_17 => nn o_17 fun a_18 => cI Z0.Sh Z0.V a_18 4 4 1 fun x_19 => some x_19)))
abbrev rmX1_leadOf : Room := rmD 2 42 0 0
set_option maxHeartbeats 4000000 in
theorem metX1_leadOf {l : Launch} {gp : Nat → Nat} {D : va_G} {K : Nat → ClassId} {Z0 : c_S} {a0 : Nat} {a1 : Int32} {r : Int32} (h : cm_X1_leadOf Z0 a0 a1 = some r) : Met l yX1_leadOf (ws_ yX1_leadOf cX1_leadOf 2 (some .int)) rmX1_leadOf (z_Pc gp [.ref a0, .int a1] D K Z0) (z_Q (.returned (some (.int r))) D K (z_A Z0) Z0) 0 0 (z_A Z0) := by
  refine d_met rfl (Nat.le_of_ble_eq_true rfl) ?_
  intro p e s m below meth c ls S hr hlk hnm hl hW hsz
  have S : CallFix p m c cX1_leadOf 2 s ([.ref a0, .int a1] : List Value).toArray lw_all RX1 := S
  have hx := S.1
  have hb := S.2.1
  have hl : lv_has ls 2 [(0, .ref a0), (1, .int a1)] := hl
  have hnm : meth.name = "leadOf" := hnm
  unfold cm_X1_leadOf at h
  refine lv_aload_n hx hb dX1_leadOf_0 rfl (lv_at hl 0 rfl) ?_
  refine lv_iload_n hx hb dX1_leadOf_1 rfl (lv_at hl 1 rfl) ?_
  obtain ⟨⟨_, k_1⟩, h⟩ := zK_some h
  obtain ⟨x_4, h_2, h⟩ := bnd_some h
  refine d_callV (As := [.int a1]) (rest := []) S hW (metX1_isFrozen h_2) (cwX1_isFrozen_V S.2.2.2.2 q1119 ⟨Nat.le_of_ble_eq_true rfl, Nat.le_of_ble_eq_true rfl⟩) k_1 rfl rfl hl.1 rfl (Nat.le_of_ble_eq_true rfl) dX1_leadOf_2 ⟨(Nat.le_of_ble_eq_true rfl), (Nat.le_of_ble_eq_true rfl)⟩ rfl (fun H locs hW => ?_)
  refine lv_if_eq (tgt := 22) hx hb dX1_leadOf_5 (by decide) (fun c_5 => ?_) (fun c_5 => ?_)
  · have h := if_t h c_5
    refine lv_aload_n hx hb dX1_leadOf_22 rfl (lv_at hl 0 rfl) ?_
    refine zw_getA S hW zC_X1 (i := 0) (by decide) (Or.inl q665) (fun _ h => h) dX1_leadOf_23 h (fun a_6 h => ?_)
    refine lv_iload_n hx hb dX1_leadOf_26 rfl (lv_at hl 1 rfl) ?_
    obtain ⟨⟨_, k_7⟩, h⟩ := zK_some h
    obtain ⟨o_10, h_8, h⟩ := bnd_some h
    refine d_callV (As := [.int a1]) (rest := []) S hW (metX2_of h_8) (cwX2_of_V S.2.2.2.2 q1123 ⟨Nat.le_of_ble_eq_true rfl, Nat.le_of_ble_eq_true rfl⟩) k_7 rfl rfl hl.1 rfl (Nat.le_of_ble_eq_true rfl) dX1_leadOf_27 ⟨(Nat.le_of_ble_eq_true rfl), (Nat.le_of_ble_eq_true rfl)⟩ rfl (fun H locs hW => ?_)
    have h9 := nn_some h
    clear h
    obtain ⟨a_11, rfl, h8⟩ := h9
    have h := h8
    clear h8
    refine zw_getI S hW zC_X4 (i := 0) (by decide) (Or.inr ⟨_, nestW_in q460 rfl⟩) (fun _ h => h) dX1_leadOf_30 h (fun x_12 h => ?_)
    cases h
    exact d_iret S hr hlk hW (Nat.le_of_ble_eq_true rfl) (Nat.le_of_ble_eq_true rfl) dX1_leadOf_33
  · have h := if_f h c_5
    refine lv_aload_n hx hb dX1_leadOf_8 rfl (lv_at hl 0 rfl) ?_
    refine zw_getA S hW zC_X1 (i := 0) (by decide) (Or.inl q665) (fun _ h => h) dX1_leadOf_9 h (fun a_13 h => ?_)
    refine lv_iload_n hx hb dX1_leadOf_12 rfl (lv_at hl 1 rfl) ?_
    obtain ⟨⟨_, k_14⟩, h⟩ := zK_some h
    obtain ⟨o_17, h_15, h⟩ := bnd_some h
    refine d_callV (As := [.int a1]) (rest := []) S hW (metX2_of h_15) (cwX2_of_V S.2.2.2.2 q1123 ⟨Nat.le_of_ble_eq_true rfl, Nat.le_of_ble_eq_true rfl⟩) k_14 rfl rfl hl.1 rfl (Nat.le_of_ble_eq_true rfl) dX1_leadOf_13 ⟨(Nat.le_of_ble_eq_true rfl), (Nat.le_of_ble_eq_true rfl)⟩ rfl (fun H locs hW => ?_)
    have h9 := nn_some h
    clear h
    obtain ⟨a_18, rfl, h8⟩ := h9
    have h := h8
    clear h8
    refine zw_getI S hW zC_X4 (i := 1) (by decide) (Or.inr ⟨_, nestW_in q462 rfl⟩) (fun _ h => h) dX1_leadOf_16 h (fun x_19 h => ?_)
    refine lv_goto (tgt := 33) hx hb dX1_leadOf_19 (by decide) ?_
    cases h
    exact d_iret S hr hlk hW (Nat.le_of_ble_eq_true rfl) (Nat.le_of_ble_eq_true rfl) dX1_leadOf_33
def cm_X1_cools_B4 (x0 : Nat) (Z : c_S) (rec : Int64 → Int32 → Option (Int64)) (x1 : Int64) (x3 : Int32) : Option (Int64) :=
  cA Z.Sh x0 1 20 5 fun a_1 => zK Z a_1 14 3 <| bnd (cm_J2_size Z a_1) (fun x_5 => if x_5 ≤ x3 then (some x1) else (cA Z.Sh x0 1 20 5 fun a_7 => zK Z a_7 14 3 <| bnd (cm_J2_get Z a_7 x3) (fun o_11 => zCk Z o_11 5 6 <| nn o_11 fun a_12 => zK Z x0 1 20 <| bnd (cm_X1_wants Z x0 a_12) (fun x_16 => nmL (x1 + x_16.toInt64) fun x_17 => nmI (x3 + 1) fun x_19 => rec x_17 x_19))))
abbrev cm_X1_cools_F4 (x0 : Nat) (Z : c_S) : (((Int64) × (Int32)) → Option (Int64)) → ((Int64) × (Int32)) → Option (Int64) := fun rec s => cm_X1_cools_B4 x0 Z (fun x1 x3 => rec (x1, x3)) s.1 s.2
def cm_X1_cools_L4 (x0 : Nat) (Z : c_S) (n : Nat) (x1 : Int64) (x3 : Int32) : Option (Int64) := lp (cm_X1_cools_F4 x0 Z) n (x1, x3)
theorem cm_X1_cools_L4_s (x0 : Nat) (Z : c_S) (n : Nat) (x1 : Int64) (x3 : Int32) : cm_X1_cools_L4 x0 Z (n + 1) x1 x3 = cm_X1_cools_B4 x0 Z (fun x1 x3 => cm_X1_cools_L4 x0 Z n x1 x3) x1 x3 := lp_s (cm_X1_cools_F4 x0 Z) n (x1, x3)
def cm_X1_cools_J111 (rec : Int32 → c_S → Option (c_S)) (x0 : Nat) (x1 : Int64) (y3 : Int32) (y4 : Nat) (z0 : Nat) (z1 : Int32) (Z : c_S) : Option (c_S) :=
  zPI Z z0 5 6 4 z1 fun Z_42 => cI Z_42.Sh Z_42.V y4 5 6 5 fun x_43 => cI Z_42.Sh Z_42.V y4 5 6 4 fun x_44 => zPI Z_42 y4 5 6 5 (x_43 + x_44) fun Z_45 => cA Z_45.Sh x0 1 20 3 fun a_46 => cI Z_45.Sh Z_45.V y4 5 6 0 fun x_47 => caI Z_45.Sh Z_45.V 0 a_46 x_47 fun x_48 => cI Z_45.Sh Z_45.V y4 5 6 4 fun x_49 => zsI Z_45 0 a_46 x_47 (x_48 - x_49) fun Z_50 => cI Z_50.Sh Z_50.V x0 1 20 11 fun x_51 => cI Z_50.Sh Z_50.V y4 5 6 4 fun x_52 => zPI Z_50 x0 1 20 11 (x_51 + x_52) fun Z_53 => nmI (y3 + 1) fun x_54 => rec x_54 Z_53
def cm_X1_cools_B46 (x0 : Nat) (x1 : Int64) (rec : Int32 → c_S → Option (c_S)) (x3 : Int32) (Z : c_S) : Option (c_S) :=
  cA Z.Sh x0 1 20 5 fun a_24 => zK Z a_24 14 3 <| bnd (cm_J2_size Z a_24) (fun x_28 => if x_28 ≤ x3 then (some Z) else (cA Z.Sh x0 1 20 5 fun a_30 => zK Z a_30 14 3 <| bnd (cm_J2_get Z a_30 x3) (fun o_34 => zCk Z o_34 5 6 <| nn o_34 fun a_35 => zK Z x0 1 20 <| bnd (cm_X1_wants Z x0 a_35) (fun x_39 => cI Z.Sh Z.V x0 1 20 10 fun x_40 => if (lg_cmp x1 x_40.toInt64) ≤ 0 then (cm_X1_cools_J111 rec x0 x1 x3 a_35 a_35 x_39 Z) else (cI Z.Sh Z.V x0 1 20 10 fun x_56 => okI (decide (¬ x1 = 0)) <| cm_X1_cools_J111 rec x0 x1 x3 a_35 a_35 (((x_39.toInt64 * x_56.toInt64) / x1).toInt32) Z)))))
abbrev cm_X1_cools_F46 (x0 : Nat) (x1 : Int64) : (((Int32) × (c_S)) → Option (c_S)) → ((Int32) × (c_S)) → Option (c_S) := fun rec s => cm_X1_cools_B46 x0 x1 (fun x3 Z => rec (x3, Z)) s.1 s.2
def cm_X1_cools_L46 (x0 : Nat) (x1 : Int64) (n : Nat) (x3 : Int32) (Z : c_S) : Option (c_S) := lp (cm_X1_cools_F46 x0 x1) n (x3, Z)
theorem cm_X1_cools_L46_s (x0 : Nat) (x1 : Int64) (n : Nat) (x3 : Int32) (Z : c_S) : cm_X1_cools_L46 x0 x1 (n + 1) x3 Z = cm_X1_cools_B46 x0 x1 (fun x3 Z => cm_X1_cools_L46 x0 x1 n x3 Z) x3 Z := lp_s (cm_X1_cools_F46 x0 x1) n (x3, Z)
def cm_X1_cools (Z0 : c_S) (a0 : Nat) : Option (c_S) :=
  bnd (cm_X1_cools_L4 a0 Z0 1000 0 0) (fun x_23 => bnd (cm_X1_cools_L46 a0 x_23 1000 0 Z0) (fun Z_60 => some Z_60))
abbrev rmX1_cools : Room := rmD 3 64 0 0
theorem cwX1_wants_V {own : String} {R : Room} {s : State} {args : Array Value} {index : Nat} (hts : ∀ w ∈ lw_all, w.before args s = true) (hl : Cond.methodLink own index yX1_wants ∈ lw_all) (hR : rmX1_wants.frames + 1 ≤ R.frames ∧ 8 + (2 + 11) + rmX1_wants.locals ≤ R.locals) : CallW R s args own RX1 index yX1_wants cX1_wants 2 (some .int) (ws_ yX1_wants cX1_wants 2 (some .int)) rmX1_wants 0 0 1 := cwV 1 hts (lw_V hl q1138 qs33 q106 q1139) rfl rfl rfl (by decide +kernel) hR
set_option maxHeartbeats 4000000 in
theorem metX1_cools {l : Launch} {gp : Nat → Nat} {D : va_G} {K : Nat → ClassId} {Z0 : c_S} {a0 : Nat} {Z' : c_S} (h : cm_X1_cools Z0 a0 = some Z') : Met l yX1_cools (ws_ yX1_cools cX1_cools 6 (none)) rmX1_cools (z_Pc gp [.ref a0] D K Z0) (z_Q (.returned (none)) D K (z_A Z0) Z') 0 0 (z_A Z0) := by
  refine d_met rfl (Nat.le_of_ble_eq_true rfl) ?_
  intro p e s m below meth c ls S hr hlk hnm hl hW hsz
  have S : CallFix p m c cX1_cools 6 s ([.ref a0] : List Value).toArray lw_all RX1 := S
  have hx := S.1
  have hb := S.2.1
  have hl : lv_has ls 6 [(0, .ref a0)] := hl
  have hnm : meth.name = "cools" := hnm
  have Lp4 : ∀ (x0 : Nat) (Z : c_S) (n : Nat) (x1 : Int64) (x3 : Int32) (out : (Int64)) (H : Heap) (locs : List Loc) (ls : Array Slot), cm_X1_cools_L4 x0 Z n x1 x3 = some out → z_W gp D K (z_A Z0) s Z H locs → lv_has ls 6 [(0, .ref x0), (1, .long x1), (3, .int x3)] → (∀ (o1 : Int64), out = o1 → ∀ (H : Heap) (locs : List Loc) (ls : Array Slot), z_W gp D K (z_A Z0) s Z H locs → lv_has ls 6 [(0, .ref x0), (1, .long o1)] → W p l e rmX1_cools s m ([.ref a0] : List Value).toArray below meth c H locs 0 0 (MQ below (z_Q (.returned (none)) D K (z_A Z0) Z') ([.ref a0] : List Value).toArray s 0 0 (z_A Z0)) (F0 m 44 ls [])) → W p l e rmX1_cools s m ([.ref a0] : List Value).toArray below meth c H locs 0 0 (MQ below (z_Q (.returned (none)) D K (z_A Z0) Z') ([.ref a0] : List Value).toArray s 0 0 (z_A Z0)) (F0 m 4 ls []) := by
    intro x0 Z n
    induction n with
    | zero =>
      intro x1 x3 out H locs ls h
      exact (lp_0 h).elim
    | succ n ih =>
      intro x1 x3 out H locs ls h hW hl k1
      rw [cm_X1_cools_L4_s] at h
      unfold cm_X1_cools_B4 at h
      refine lv_iload_n hx hb dX1_cools_4 rfl (lv_at hl 2 rfl) ?_
      refine lv_aload_n hx hb dX1_cools_5 rfl (lv_at hl 0 rfl) ?_
      refine zw_getA S hW zC_X1 (i := 5) (by decide) (Or.inl q675) (fun _ h => h) dX1_cools_6 h (fun a_1 h => ?_)
      obtain ⟨⟨_, k_2⟩, h⟩ := zK_some h
      obtain ⟨x_5, h_3, h⟩ := bnd_some h
      refine d_callF (As := []) (rest := [.int x3]) S hW (metJ2_size h_3) (cwJ2_size_F S.2.2.2.2 q497 (hW.1.2.2.2.2.1.2.2.2.2.2.2.1 _ (List.mem_of_getElem? (i := 1) rfl)) ⟨Nat.le_of_ble_eq_true rfl, Nat.le_of_ble_eq_true rfl⟩) k_2 rfl rfl hl.1 rfl (Nat.le_of_ble_eq_true rfl) dX1_cools_9 ⟨(Nat.le_of_ble_eq_true rfl), (Nat.le_of_ble_eq_true rfl)⟩ rfl (fun H locs hW => ?_)
      refine lv_icmp_ge (tgt := 44) hx hb dX1_cools_14 (by decide) (fun c_6 => ?_) (fun c_6 => ?_)
      · have h := if_t h c_6
        exact k1 _ (Option.some.inj h).symm _ _ _ hW (lv_sub hl [0, 1] rfl)
      · have h := if_f h c_6
        refine lv_lload_n hx hb dX1_cools_17 rfl (lv_at hl 1 rfl) ?_
        refine lv_aload_n hx hb dX1_cools_18 rfl (lv_at hl 0 rfl) ?_
        refine lv_aload_n hx hb dX1_cools_19 rfl (lv_at hl 0 rfl) ?_
        refine zw_getA S hW zC_X1 (i := 5) (by decide) (Or.inl q675) (fun _ h => h) dX1_cools_20 h (fun a_7 h => ?_)
        refine lv_iload_n hx hb dX1_cools_23 rfl (lv_at hl 2 rfl) ?_
        obtain ⟨⟨_, k_8⟩, h⟩ := zK_some h
        obtain ⟨o_11, h_9, h⟩ := bnd_some h
        refine d_callF (As := [.int x3]) (rest := [.ref x0, .long x1]) S hW (metJ2_get h_9) (cwJ2_get_F S.2.2.2.2 q506 (hW.1.2.2.2.2.1.2.2.2.2.2.2.1 _ (List.mem_of_getElem? (i := 2) rfl)) ⟨Nat.le_of_ble_eq_true rfl, Nat.le_of_ble_eq_true rfl⟩) k_8 rfl rfl hl.1 rfl (Nat.le_of_ble_eq_true rfl) dX1_cools_24 ⟨(Nat.le_of_ble_eq_true rfl), (Nat.le_of_ble_eq_true rfl)⟩ rfl (fun H locs hW => ?_)
        refine zw_ck (o := o_11) S hW zC_X5 q524 dX1_cools_29 h (fun h => ?_)
        have h9 := nn_some h
        clear h
        obtain ⟨a_12, rfl, h8⟩ := h9
        have h := h8
        clear h8
        obtain ⟨⟨_, k_13⟩, h⟩ := zK_some h
        obtain ⟨x_16, h_14, h⟩ := bnd_some h
        refine d_callV (As := [.ref a_12]) (rest := [.long x1]) S hW (metX1_wants h_14) (cwX1_wants_V S.2.2.2.2 q1136 ⟨Nat.le_of_ble_eq_true rfl, Nat.le_of_ble_eq_true rfl⟩) k_13 rfl rfl hl.1 rfl (Nat.le_of_ble_eq_true rfl) dX1_cools_32 ⟨(Nat.le_of_ble_eq_true rfl), (Nat.le_of_ble_eq_true rfl)⟩ rfl (fun H locs hW => ?_)
        refine lv_i2l (v := x_16.toInt64) hx hb dX1_cools_35 rfl ?_
        refine lv_ladd hx hb dX1_cools_36 ?_
        obtain ⟨x_17, e_18, h⟩ := nmL_some h
        refine g_nml e_18 ?_
        refine lv_lstore_n (lv' := [(1, .long x_17), (0, .ref x0), (3, .int x3)]) hx hb dX1_cools_37 rfl hl (by decide) rfl (fun ls hl => ?_)
        obtain ⟨x_19, e_20, h⟩ := nmI_some h
        refine lv_iinc (v := x_19) (lv' := [(3, .int x_19), (1, .long x_17), (0, .ref x0)]) hx hb dX1_cools_38 hl (k := 2) rfl (by rw [e_20]; rfl) (by decide) rfl (fun ls hl => ?_)
        refine lv_goto (tgt := 4) hx hb dX1_cools_41 (by decide) ?_
        exact ih x_17 x_19 out _ _ _ h hW (lv_sub hl [2, 1, 0] rfl) k1
  have Lp46 : ∀ (x0 : Nat) (x1 : Int64) (n : Nat) (x3 : Int32) (Z : c_S) (out : (c_S)) (H : Heap) (locs : List Loc) (ls : Array Slot), cm_X1_cools_L46 x0 x1 n x3 Z = some out → z_W gp D K (z_A Z0) s Z H locs → lv_has ls 6 [(0, .ref x0), (1, .long x1), (3, .int x3)] → (∀ (oZ : c_S), out = oZ → ∀ (H : Heap) (locs : List Loc) (ls : Array Slot), z_W gp D K (z_A Z0) s oZ H locs → lv_has ls 6 [] → W p l e rmX1_cools s m ([.ref a0] : List Value).toArray below meth c H locs 0 0 (MQ below (z_Q (.returned (none)) D K (z_A Z0) Z') ([.ref a0] : List Value).toArray s 0 0 (z_A Z0)) (F0 m 167 ls [])) → W p l e rmX1_cools s m ([.ref a0] : List Value).toArray below meth c H locs 0 0 (MQ below (z_Q (.returned (none)) D K (z_A Z0) Z') ([.ref a0] : List Value).toArray s 0 0 (z_A Z0)) (F0 m 46 ls []) := by
    intro x0 x1 n
    induction n with
    | zero =>
      intro x3 Z out H locs ls h
      exact (lp_0 h).elim
    | succ n ih =>
      intro x3 Z out H locs ls h hW hl k1
      have J111 : ∀ (y3 : Int32) (y4 : Nat) (z0 : Nat) (z1 : Int32) (Z : c_S) (H : Heap) (locs : List Loc) (ls : Array Slot), cm_X1_cools_J111 (fun x3 Z => cm_X1_cools_L46 x0 x1 n x3 Z) x0 x1 y3 y4 z0 z1 Z = some out → z_W gp D K (z_A Z0) s Z H locs → lv_has ls 6 [(0, .ref x0), (1, .long x1), (3, .int y3), (4, .ref y4)] → W p l e rmX1_cools s m ([.ref a0] : List Value).toArray below meth c H locs 0 0 (MQ below (z_Q (.returned (none)) D K (z_A Z0) Z') ([.ref a0] : List Value).toArray s 0 0 (z_A Z0)) (F0 m 111 ls [.int z1, .ref z0]) := by
        intro y3 y4 z0 z1 Z H locs ls h hW hl
        unfold cm_X1_cools_J111 at h
        refine zw_putI S hW zC_X5 (i := 4) (by decide) (Or.inl rfl) rfl rfl rfl (Or.inr ⟨_, nestW_in q549 rfl⟩) (fun _ h => h) dX1_cools_111 h (fun Z_42 h H locs hW => ?_)
        refine lv_aload hx hb dX1_cools_114 (lv_at hl 3 rfl) ?_
        refine lv_dup hx hb dX1_cools_116 rfl ?_
        refine zw_getI S hW zC_X5 (i := 5) (by decide) (Or.inr ⟨_, nestW_in q552 rfl⟩) (fun _ h => h) dX1_cools_117 h (fun x_43 h => ?_)
        refine lv_aload hx hb dX1_cools_120 (lv_at hl 3 rfl) ?_
        refine zw_getI S hW zC_X5 (i := 4) (by decide) (Or.inr ⟨_, nestW_in q549 rfl⟩) (fun _ h => h) dX1_cools_122 h (fun x_44 h => ?_)
        refine lv_iadd hx hb dX1_cools_125 ?_
        refine zw_putI S hW zC_X5 (i := 5) (by decide) (Or.inl rfl) rfl rfl rfl (Or.inr ⟨_, nestW_in q552 rfl⟩) (fun _ h => h) dX1_cools_126 h (fun Z_45 h H locs hW => ?_)
        refine lv_aload_n hx hb dX1_cools_129 rfl (lv_at hl 0 rfl) ?_
        refine zw_getA S hW zC_X1 (i := 3) (by decide) (Or.inl q672) (fun _ h => h) dX1_cools_130 h (fun a_46 h => ?_)
        refine lv_aload hx hb dX1_cools_133 (lv_at hl 3 rfl) ?_
        refine zw_getI S hW zC_X5 (i := 0) (by decide) (Or.inr ⟨_, nestW_in q536 rfl⟩) (fun _ h => h) dX1_cools_135 h (fun x_47 h => ?_)
        refine lv_dup2_11 hx hb dX1_cools_138 rfl rfl ?_
        refine zw_iald S hW dX1_cools_139 h (fun x_48 h => ?_)
        refine lv_aload hx hb dX1_cools_140 (lv_at hl 3 rfl) ?_
        refine zw_getI S hW zC_X5 (i := 4) (by decide) (Or.inr ⟨_, nestW_in q549 rfl⟩) (fun _ h => h) dX1_cools_142 h (fun x_49 h => ?_)
        refine lv_isub hx hb dX1_cools_145 ?_
        refine zw_iast S hW dX1_cools_146 h (fun Z_50 h H locs hW => ?_)
        refine lv_aload_n hx hb dX1_cools_147 rfl (lv_at hl 0 rfl) ?_
        refine lv_dup hx hb dX1_cools_148 rfl ?_
        refine zw_getI S hW zC_X1 (i := 11) (by decide) (Or.inl q687) (fun _ h => h) dX1_cools_149 h (fun x_51 h => ?_)
        refine lv_aload hx hb dX1_cools_152 (lv_at hl 3 rfl) ?_
        refine zw_getI S hW zC_X5 (i := 4) (by decide) (Or.inr ⟨_, nestW_in q549 rfl⟩) (fun _ h => h) dX1_cools_154 h (fun x_52 h => ?_)
        refine lv_iadd hx hb dX1_cools_157 ?_
        refine zw_putI S hW zC_X1 (i := 11) (by decide) (Or.inl rfl) rfl rfl rfl (Or.inl q687) (fun _ h => h) dX1_cools_158 h (fun Z_53 h H locs hW => ?_)
        obtain ⟨x_54, e_55, h⟩ := nmI_some h
        refine lv_iinc (v := x_54) (lv' := [(3, .int x_54), (0, .ref x0), (1, .long x1), (4, .ref y4)]) hx hb dX1_cools_161 hl (k := 2) rfl (by rw [e_55]; rfl) (by decide) rfl (fun ls hl => ?_)
        refine lv_goto (tgt := 46) hx hb dX1_cools_164 (by decide) ?_
        exact ih x_54 Z_53 out _ _ _ h hW (lv_sub hl [1, 2, 0] rfl) k1
      rw [cm_X1_cools_L46_s] at h
      unfold cm_X1_cools_B46 at h
      refine lv_iload_n hx hb dX1_cools_46 rfl (lv_at hl 2 rfl) ?_
      refine lv_aload_n hx hb dX1_cools_47 rfl (lv_at hl 0 rfl) ?_
      refine zw_getA S hW zC_X1 (i := 5) (by decide) (Or.inl q675) (fun _ h => h) dX1_cools_48 h (fun a_24 h => ?_)
      obtain ⟨⟨_, k_25⟩, h⟩ := zK_some h
      obtain ⟨x_28, h_26, h⟩ := bnd_some h
      refine d_callF (As := []) (rest := [.int x3]) S hW (metJ2_size h_26) (cwJ2_size_F S.2.2.2.2 q497 (hW.1.2.2.2.2.1.2.2.2.2.2.2.1 _ (List.mem_of_getElem? (i := 1) rfl)) ⟨Nat.le_of_ble_eq_true rfl, Nat.le_of_ble_eq_true rfl⟩) k_25 rfl rfl hl.1 rfl (Nat.le_of_ble_eq_true rfl) dX1_cools_51 ⟨(Nat.le_of_ble_eq_true rfl), (Nat.le_of_ble_eq_true rfl)⟩ rfl (fun H locs hW => ?_)
      refine lv_icmp_ge (tgt := 167) hx hb dX1_cools_56 (by decide) (fun c_29 => ?_) (fun c_29 => ?_)
      · have h := if_t h c_29
        exact k1 _ (Option.some.inj h).symm _ _ _ hW (lv_sub hl [] rfl)
      · have h := if_f h c_29
        refine lv_aload_n hx hb dX1_cools_59 rfl (lv_at hl 0 rfl) ?_
        refine zw_getA S hW zC_X1 (i := 5) (by decide) (Or.inl q675) (fun _ h => h) dX1_cools_60 h (fun a_30 h => ?_)
        refine lv_iload_n hx hb dX1_cools_63 rfl (lv_at hl 2 rfl) ?_
        obtain ⟨⟨_, k_31⟩, h⟩ := zK_some h
        obtain ⟨o_34, h_32, h⟩ := bnd_some h
        refine d_callF (As := [.int x3]) (rest := []) S hW (metJ2_get h_32) (cwJ2_get_F S.2.2.2.2 q506 (hW.1.2.2.2.2.1.2.2.2.2.2.2.1 _ (List.mem_of_getElem? (i := 2) rfl)) ⟨Nat.le_of_ble_eq_true rfl, Nat.le_of_ble_eq_true rfl⟩) k_31 rfl rfl hl.1 rfl (Nat.le_of_ble_eq_true rfl) dX1_cools_64 ⟨(Nat.le_of_ble_eq_true rfl), (Nat.le_of_ble_eq_true rfl)⟩ rfl (fun H locs hW => ?_)
        refine zw_ck (o := o_34) S hW zC_X5 q524 dX1_cools_69 h (fun h => ?_)
        have h9 := nn_some h
        clear h
        obtain ⟨a_35, rfl, h8⟩ := h9
        have h := h8
        clear h8
        refine lv_astore (lv' := [(4, .ref a_35), (0, .ref x0), (1, .long x1), (3, .int x3)]) hx hb dX1_cools_72 hl (by decide) rfl (fun ls hl => ?_)
        refine lv_aload_n hx hb dX1_cools_74 rfl (lv_at hl 1 rfl) ?_
        refine lv_aload hx hb dX1_cools_75 (lv_at hl 0 rfl) ?_
        obtain ⟨⟨_, k_36⟩, h⟩ := zK_some h
        obtain ⟨x_39, h_37, h⟩ := bnd_some h
        refine d_callV (As := [.ref a_35]) (rest := []) S hW (metX1_wants h_37) (cwX1_wants_V S.2.2.2.2 q1136 ⟨Nat.le_of_ble_eq_true rfl, Nat.le_of_ble_eq_true rfl⟩) k_36 rfl rfl hl.1 rfl (Nat.le_of_ble_eq_true rfl) dX1_cools_77 ⟨(Nat.le_of_ble_eq_true rfl), (Nat.le_of_ble_eq_true rfl)⟩ rfl (fun H locs hW => ?_)
        refine lv_istore (lv' := [(5, .int x_39), (4, .ref a_35), (0, .ref x0), (1, .long x1), (3, .int x3)]) hx hb dX1_cools_80 hl (by decide) rfl (fun ls hl => ?_)
        refine lv_aload hx hb dX1_cools_82 (lv_at hl 1 rfl) ?_
        refine lv_lload_n hx hb dX1_cools_84 rfl (lv_at hl 3 rfl) ?_
        refine lv_aload_n hx hb dX1_cools_85 rfl (lv_at hl 2 rfl) ?_
        refine zw_getI S hW zC_X1 (i := 10) (by decide) (Or.inl q685) (fun _ h => h) dX1_cools_86 h (fun x_40 h => ?_)
        refine lv_i2l (v := x_40.toInt64) hx hb dX1_cools_89 rfl ?_
        refine W.lcmp hx hb dX1_cools_90 ?_
        refine lv_if_le (tgt := 109) hx hb dX1_cools_91 (by decide) (fun c_41 => ?_) (fun c_41 => ?_)
        · have h := if_t h c_41
          refine lv_iload hx hb dX1_cools_109 (lv_at hl 0 rfl) ?_
          exact J111 x3 a_35 a_35 x_39 Z _ _ _ h hW (lv_sub hl [2, 3, 4, 1] rfl)
        · have h := if_f h c_41
          refine lv_iload hx hb dX1_cools_94 (lv_at hl 0 rfl) ?_
          refine lv_i2l (v := x_39.toInt64) hx hb dX1_cools_96 rfl ?_
          refine lv_aload_n hx hb dX1_cools_97 rfl (lv_at hl 2 rfl) ?_
          refine zw_getI S hW zC_X1 (i := 10) (by decide) (Or.inl q685) (fun _ h => h) dX1_cools_98 h (fun x_56 h => ?_)
          refine lv_i2l (v := x_56.toInt64) hx hb dX1_cools_101 rfl ?_
          refine lv_lmul hx hb dX1_cools_102 ?_
          refine lv_lload_n hx hb dX1_cools_103 rfl (lv_at hl 3 rfl) ?_
          obtain ⟨h_57, h⟩ := okI_some h
          refine lv_ldiv hx hb dX1_cools_104 (of_decide_eq_true h_57) ?_
          refine lv_l2i (v := ((x_39.toInt64 * x_56.toInt64) / x1).toInt32) hx hb dX1_cools_105 rfl ?_
          refine lv_goto (tgt := 111) hx hb dX1_cools_106 (by decide) ?_
          exact J111 x3 a_35 a_35 (((x_39.toInt64 * x_56.toInt64) / x1).toInt32) Z _ _ _ h hW (lv_sub hl [2, 3, 4, 1] rfl)
  unfold cm_X1_cools at h
  refine lv_lconst (v := 0) hx hb dX1_cools_0 (by decide) ?_
  refine lv_lstore_n (lv' := [(1, .long 0), (0, .ref a0)]) hx hb dX1_cools_1 rfl hl (by decide) rfl (fun ls hl => ?_)
  refine lv_iconst (v := 0) hx hb dX1_cools_2 (by decide) ?_
  refine lv_istore_n (lv' := [(3, .int 0), (1, .long 0), (0, .ref a0)]) hx hb dX1_cools_3 rfl hl (by decide) rfl (fun ls hl => ?_)
  obtain ⟨x_23, h_22, h⟩ := bnd_some h
  refine Lp4 a0 Z0 1000 0 0  _ _ _ _ h_22 hW (lv_sub hl [2, 1, 0] rfl) ?_
  intro w0 eo H locs ls hW hl
  subst eo
  refine lv_iconst (v := 0) hx hb dX1_cools_44 (by decide) ?_
  refine lv_istore_n (lv' := [(3, .int 0), (0, .ref a0), (1, .long x_23)]) hx hb dX1_cools_45 rfl hl (by decide) rfl (fun ls hl => ?_)
  obtain ⟨Z_60, h_59, h⟩ := bnd_some h
  refine Lp46 a0 x_23 1000 0 Z0  _ _ _ _ h_59 hW (lv_sub hl [1, 2, 0] rfl) ?_
  intro w0 eo H locs ls hW hl
  subst eo
  cases h
  exact d_vret S hr hlk hW (Nat.le_of_ble_eq_true rfl) (Nat.le_of_ble_eq_true rfl) dX1_cools_167
def cm_X1_way_B6 (x0 : Nat) (x1 : Int32) (rec : Int32 → Int32 → c_S → Option (Int32 × c_S)) (x2 : Int32) (x3 : Int32) (Z : c_S) : Option (Int32 × c_S) :=
  if 144 ≤ x3 then (some (x2, Z)) else (cA Z.Sh x0 1 20 18 fun a_2 => zsI Z 0 a_2 x3 (-1) fun Z_3 => cA Z_3.Sh x0 1 20 0 fun a_4 => zK Z_3 a_4 2 13 <| bnd (cm_X2_isShaft Z_3 a_4 x3) (fun x_8 => if x_8 = 0 then (zK Z_3 x0 1 20 <| bnd (cm_X1_isFrozen Z_3 x0 x3) (fun x_15 => if x_15 = 0 then (zK Z_3 x0 1 20 <| bnd (cm_X1_isBesideShaft Z_3 x0 x3) (fun x_22 => if x_22 = 0 then (nmI (x3 + 1) fun x_32 => rec x2 x_32 Z_3) else (cA Z_3.Sh x0 1 20 18 fun a_24 => zsI Z_3 0 a_24 x3 1 fun Z_25 => cA Z_25.Sh x0 1 20 19 fun a_26 => zsI Z_25 0 a_26 x2 x3 fun Z_27 => nmI (x2 + 1) fun x_28 => nmI (x3 + 1) fun x_30 => rec x_28 x_30 Z_27))) else (nmI (x3 + 1) fun x_17 => rec x2 x_17 Z_3))) else (nmI (x3 + 1) fun x_10 => rec x2 x_10 Z_3)))
abbrev cm_X1_way_F6 (x0 : Nat) (x1 : Int32) : (((Int32) × (Int32) × (c_S)) → Option (Int32 × c_S)) → ((Int32) × (Int32) × (c_S)) → Option (Int32 × c_S) := fun rec s => cm_X1_way_B6 x0 x1 (fun x2 x3 Z => rec (x2, x3, Z)) s.1 s.2.1 s.2.2
def cm_X1_way_L6 (x0 : Nat) (x1 : Int32) (n : Nat) (x2 : Int32) (x3 : Int32) (Z : c_S) : Option (Int32 × c_S) := lp (cm_X1_way_F6 x0 x1) n (x2, x3, Z)
theorem cm_X1_way_L6_s (x0 : Nat) (x1 : Int32) (n : Nat) (x2 : Int32) (x3 : Int32) (Z : c_S) : cm_X1_way_L6 x0 x1 (n + 1) x2 x3 Z = cm_X1_way_B6 x0 x1 (fun x2 x3 Z => cm_X1_way_L6 x0 x1 n x2 x3 Z) x2 x3 Z := lp_s (cm_X1_way_F6 x0 x1) n (x2, x3, Z)
def cm_X1_way_B105 (x0 : Nat) (x1 : Int32) (x3 : Int32) (rec : Int32 → Int32 → c_S → Option (Int32 × c_S)) (x2 : Int32) (x4 : Int32) (Z : c_S) : Option (Int32 × c_S) :=
  if 4 ≤ x4 then (some (x2, Z)) else (bnd (cm_X0_beside x3 x4) (fun x_50 => if x_50 = (-1) then (nmI (x4 + 1) fun x_52 => rec x2 x_52 Z) else (cA Z.Sh x0 1 20 18 fun a_54 => caI Z.Sh Z.V 0 a_54 x_50 fun x_55 => if x_55 = (-1) then (cA Z.Sh x0 1 20 0 fun a_59 => zK Z a_59 2 13 <| bnd (cm_X2_isShaft Z a_59 x_50) (fun x_63 => if x_63 = 0 then (zK Z x0 1 20 <| bnd (cm_X1_isFrozen Z x0 x_50) (fun x_70 => if x_70 = 0 then (cA Z.Sh x0 1 20 18 fun a_72 => cA Z.Sh x0 1 20 18 fun a_73 => caI Z.Sh Z.V 0 a_73 x3 fun x_74 => zsI Z 0 a_72 x_50 (x_74 + 1) fun Z_75 => cA Z_75.Sh x0 1 20 19 fun a_76 => zsI Z_75 0 a_76 x2 x_50 fun Z_77 => nmI (x2 + 1) fun x_78 => nmI (x4 + 1) fun x_80 => rec x_78 x_80 Z_77) else (nmI (x4 + 1) fun x_82 => rec x2 x_82 Z))) else (nmI (x4 + 1) fun x_65 => rec x2 x_65 Z))) else (nmI (x4 + 1) fun x_57 => rec x2 x_57 Z))))
abbrev cm_X1_way_F105 (x0 : Nat) (x1 : Int32) (x3 : Int32) : (((Int32) × (Int32) × (c_S)) → Option (Int32 × c_S)) → ((Int32) × (Int32) × (c_S)) → Option (Int32 × c_S) := fun rec s => cm_X1_way_B105 x0 x1 x3 (fun x2 x4 Z => rec (x2, x4, Z)) s.1 s.2.1 s.2.2
def cm_X1_way_L105 (x0 : Nat) (x1 : Int32) (x3 : Int32) (n : Nat) (x2 : Int32) (x4 : Int32) (Z : c_S) : Option (Int32 × c_S) := lp (cm_X1_way_F105 x0 x1 x3) n (x2, x4, Z)
theorem cm_X1_way_L105_s (x0 : Nat) (x1 : Int32) (x3 : Int32) (n : Nat) (x2 : Int32) (x4 : Int32) (Z : c_S) : cm_X1_way_L105 x0 x1 x3 (n + 1) x2 x4 Z = cm_X1_way_B105 x0 x1 x3 (fun x2 x4 Z => cm_X1_way_L105 x0 x1 x3 n x2 x4 Z) x2 x4 Z := lp_s (cm_X1_way_F105 x0 x1 x3) n (x2, x4, Z)
def cm_X1_way_B73 (x0 : Nat) (rec : Int32 → Int32 → c_S → Option ((c_S) ⊕ (Int32 × c_S))) (x1 : Int32) (x2 : Int32) (Z : c_S) : Option ((c_S) ⊕ (Int32 × c_S)) :=
  if x2 ≤ x1 then (some (.inl Z)) else (cA Z.Sh x0 1 20 19 fun a_39 => caI Z.Sh Z.V 0 a_39 x1 fun x_40 => nmI (x1 + 1) fun x_41 => bnd (cm_X0_isRim x_40) (fun x_45 => if x_45 = 0 then (bnd (cm_X1_way_L105 x0 x_41 x_40 1000 x2 0 Z) (un2 fun x_86 Z_87 => rec x_41 x_86 Z_87)) else (some (.inr (x_40, Z)))))
abbrev cm_X1_way_F73 (x0 : Nat) : (((Int32) × (Int32) × (c_S)) → Option ((c_S) ⊕ (Int32 × c_S))) → ((Int32) × (Int32) × (c_S)) → Option ((c_S) ⊕ (Int32 × c_S)) := fun rec s => cm_X1_way_B73 x0 (fun x1 x2 Z => rec (x1, x2, Z)) s.1 s.2.1 s.2.2
def cm_X1_way_L73 (x0 : Nat) (n : Nat) (x1 : Int32) (x2 : Int32) (Z : c_S) : Option ((c_S) ⊕ (Int32 × c_S)) := lp (cm_X1_way_F73 x0) n (x1, x2, Z)
theorem cm_X1_way_L73_s (x0 : Nat) (n : Nat) (x1 : Int32) (x2 : Int32) (Z : c_S) : cm_X1_way_L73 x0 (n + 1) x1 x2 Z = cm_X1_way_B73 x0 (fun x1 x2 Z => cm_X1_way_L73 x0 n x1 x2 Z) x1 x2 Z := lp_s (cm_X1_way_F73 x0) n (x1, x2, Z)
def cm_X1_way (Z0 : c_S) (a0 : Nat) : Option (Int32 × c_S) :=
  bnd (cm_X1_way_L6 a0 0 1000 0 0 Z0) (un2 fun x_36 Z_37 => bnd (cm_X1_way_L73 a0 1000 0 x_36 Z_37) (cs2 (fun Z_90 => some ((-1), Z_90)) (un2 fun x_91 Z_92 => cA Z_92.Sh a0 1 20 18 fun a_93 => caI Z_92.Sh Z_92.V 0 a_93 x_91 fun x_94 => some (x_94, Z_92))))
abbrev rmX1_way : Room := rmD 3 69 0 0
theorem cwX1_isBesideShaft_V {own : String} {R : Room} {s : State} {args : Array Value} {index : Nat} (hts : ∀ w ∈ lw_all, w.before args s = true) (hl : Cond.methodLink own index yX1_isBesideShaft ∈ lw_all) (hR : rmX1_isBesideShaft.frames + 1 ≤ R.frames ∧ 8 + (4 + 11) + rmX1_isBesideShaft.locals ≤ R.locals) : CallW R s args own RX1 index yX1_isBesideShaft cX1_isBesideShaft 4 (some .boolean) (ws_ yX1_isBesideShaft cX1_isBesideShaft 4 (some .boolean)) rmX1_isBesideShaft 0 0 1 := cwV 1 hts (lw_V hl q1172 qs36 q106 q1173) rfl rfl rfl (by decide +kernel) hR
set_option maxHeartbeats 4000000 in
theorem metX1_way {l : Launch} {gp : Nat → Nat} {D : va_G} {K : Nat → ClassId} {Z0 : c_S} {a0 : Nat} {r : Int32} {Z' : c_S} (h : cm_X1_way Z0 a0 = some (r, Z')) : Met l yX1_way (ws_ yX1_way cX1_way 6 (some .int)) rmX1_way (z_Pc gp [.ref a0] D K Z0) (z_Q (.returned (some (.int r))) D K (z_A Z0) Z') 0 0 (z_A Z0) := by
  refine d_met rfl (Nat.le_of_ble_eq_true rfl) ?_
  intro p e s m below meth c ls S hr hlk hnm hl hW hsz
  have S : CallFix p m c cX1_way 6 s ([.ref a0] : List Value).toArray lw_all RX1 := S
  have hx := S.1
  have hb := S.2.1
  have hl : lv_has ls 6 [(0, .ref a0)] := hl
  have hnm : meth.name = "way" := hnm
  have Lp6 : ∀ (x0 : Nat) (x1 : Int32) (n : Nat) (x2 : Int32) (x3 : Int32) (Z : c_S) (out : (Int32 × c_S)) (H : Heap) (locs : List Loc) (ls : Array Slot), cm_X1_way_L6 x0 x1 n x2 x3 Z = some out → z_W gp D K (z_A Z0) s Z H locs → lv_has ls 6 [(0, .ref x0), (1, .int x1), (2, .int x2), (3, .int x3)] → (∀ (o2 : Int32) (oZ : c_S), out = (o2, oZ) → ∀ (H : Heap) (locs : List Loc) (ls : Array Slot), z_W gp D K (z_A Z0) s oZ H locs → lv_has ls 6 [(0, .ref x0), (1, .int x1), (2, .int o2)] → W p l e rmX1_way s m ([.ref a0] : List Value).toArray below meth c H locs 0 0 (MQ below (z_Q (.returned (some (.int r))) D K (z_A Z0) Z') ([.ref a0] : List Value).toArray s 0 0 (z_A Z0)) (F0 m 73 ls [])) → W p l e rmX1_way s m ([.ref a0] : List Value).toArray below meth c H locs 0 0 (MQ below (z_Q (.returned (some (.int r))) D K (z_A Z0) Z') ([.ref a0] : List Value).toArray s 0 0 (z_A Z0)) (F0 m 6 ls []) := by
    intro x0 x1 n
    induction n with
    | zero =>
      intro x2 x3 Z out H locs ls h
      exact (lp_0 h).elim
    | succ n ih =>
      intro x2 x3 Z out H locs ls h hW hl k1
      rw [cm_X1_way_L6_s] at h
      unfold cm_X1_way_B6 at h
      refine lv_iload_n hx hb dX1_way_6 rfl (lv_at hl 3 rfl) ?_
      refine lv_sipush (v := 144) hx hb dX1_way_7 (by decide) ?_
      refine lv_icmp_ge (tgt := 73) hx hb dX1_way_10 (by decide) (fun c_1 => ?_) (fun c_1 => ?_)
      · have h := if_t h c_1
        exact k1 _ _ (Option.some.inj h).symm _ _ _ hW (lv_sub hl [0, 1, 2] rfl)
      · have h := if_f h c_1
        refine lv_aload_n hx hb dX1_way_13 rfl (lv_at hl 0 rfl) ?_
        refine zw_getA S hW zC_X1 (i := 18) (by decide) (Or.inl q701) (fun _ h => h) dX1_way_14 h (fun a_2 h => ?_)
        refine lv_iload_n hx hb dX1_way_17 rfl (lv_at hl 3 rfl) ?_
        refine lv_iconst (v := (-1)) hx hb dX1_way_18 (by decide) ?_
        refine zw_iast S hW dX1_way_19 h (fun Z_3 h H locs hW => ?_)
        refine lv_aload_n hx hb dX1_way_20 rfl (lv_at hl 0 rfl) ?_
        refine zw_getA S hW zC_X1 (i := 0) (by decide) (Or.inl q665) (fun _ h => h) dX1_way_21 h (fun a_4 h => ?_)
        refine lv_iload_n hx hb dX1_way_24 rfl (lv_at hl 3 rfl) ?_
        obtain ⟨⟨_, k_5⟩, h⟩ := zK_some h
        obtain ⟨x_8, h_6, h⟩ := bnd_some h
        refine d_callV (As := [.int x3]) (rest := []) S hW (metX2_isShaft h_6) (cwX2_isShaft_V S.2.2.2.2 q1164 ⟨Nat.le_of_ble_eq_true rfl, Nat.le_of_ble_eq_true rfl⟩) k_5 rfl rfl hl.1 rfl (Nat.le_of_ble_eq_true rfl) dX1_way_25 ⟨(Nat.le_of_ble_eq_true rfl), (Nat.le_of_ble_eq_true rfl)⟩ rfl (fun H locs hW => ?_)
        refine lv_if_ne (tgt := 67) hx hb dX1_way_28 (by decide) (fun c_9 => ?_) (fun c_9 => ?_)
        · have h := if_f h c_9
          obtain ⟨x_10, e_11, h⟩ := nmI_some h
          refine lv_iinc (v := x_10) (lv' := [(3, .int x_10), (0, .ref x0), (1, .int x1), (2, .int x2)]) hx hb dX1_way_67 hl (k := 3) rfl (by rw [e_11]; rfl) (by decide) rfl (fun ls hl => ?_)
          refine lv_goto (tgt := 6) hx hb dX1_way_70 (by decide) ?_
          exact ih x2 x_10 Z_3 out _ _ _ h hW (lv_sub hl [1, 2, 3, 0] rfl) k1
        · have h := if_t h c_9
          refine lv_aload_n hx hb dX1_way_31 rfl (lv_at hl 0 rfl) ?_
          refine lv_iload_n hx hb dX1_way_32 rfl (lv_at hl 3 rfl) ?_
          obtain ⟨⟨_, k_12⟩, h⟩ := zK_some h
          obtain ⟨x_15, h_13, h⟩ := bnd_some h
          refine d_callV (As := [.int x3]) (rest := []) S hW (metX1_isFrozen h_13) (cwX1_isFrozen_V S.2.2.2.2 q1119 ⟨Nat.le_of_ble_eq_true rfl, Nat.le_of_ble_eq_true rfl⟩) k_12 rfl rfl hl.1 rfl (Nat.le_of_ble_eq_true rfl) dX1_way_33 ⟨(Nat.le_of_ble_eq_true rfl), (Nat.le_of_ble_eq_true rfl)⟩ rfl (fun H locs hW => ?_)
          refine lv_if_ne (tgt := 67) hx hb dX1_way_36 (by decide) (fun c_16 => ?_) (fun c_16 => ?_)
          · have h := if_f h c_16
            obtain ⟨x_17, e_18, h⟩ := nmI_some h
            refine lv_iinc (v := x_17) (lv' := [(3, .int x_17), (0, .ref x0), (1, .int x1), (2, .int x2)]) hx hb dX1_way_67 hl (k := 3) rfl (by rw [e_18]; rfl) (by decide) rfl (fun ls hl => ?_)
            refine lv_goto (tgt := 6) hx hb dX1_way_70 (by decide) ?_
            exact ih x2 x_17 Z_3 out _ _ _ h hW (lv_sub hl [1, 2, 3, 0] rfl) k1
          · have h := if_t h c_16
            refine lv_aload_n hx hb dX1_way_39 rfl (lv_at hl 0 rfl) ?_
            refine lv_iload_n hx hb dX1_way_40 rfl (lv_at hl 3 rfl) ?_
            obtain ⟨⟨_, k_19⟩, h⟩ := zK_some h
            obtain ⟨x_22, h_20, h⟩ := bnd_some h
            refine d_callV (As := [.int x3]) (rest := []) S hW (metX1_isBesideShaft h_20) (cwX1_isBesideShaft_V S.2.2.2.2 q1170 ⟨Nat.le_of_ble_eq_true rfl, Nat.le_of_ble_eq_true rfl⟩) k_19 rfl rfl hl.1 rfl (Nat.le_of_ble_eq_true rfl) dX1_way_41 ⟨(Nat.le_of_ble_eq_true rfl), (Nat.le_of_ble_eq_true rfl)⟩ rfl (fun H locs hW => ?_)
            refine lv_if_ne (tgt := 50) hx hb dX1_way_44 (by decide) (fun c_23 => ?_) (fun c_23 => ?_)
            · have h := if_f h c_23
              refine lv_aload_n hx hb dX1_way_50 rfl (lv_at hl 0 rfl) ?_
              refine zw_getA S hW zC_X1 (i := 18) (by decide) (Or.inl q701) (fun _ h => h) dX1_way_51 h (fun a_24 h => ?_)
              refine lv_iload_n hx hb dX1_way_54 rfl (lv_at hl 3 rfl) ?_
              refine lv_iconst (v := 1) hx hb dX1_way_55 (by decide) ?_
              refine zw_iast S hW dX1_way_56 h (fun Z_25 h H locs hW => ?_)
              refine lv_aload_n hx hb dX1_way_57 rfl (lv_at hl 0 rfl) ?_
              refine zw_getA S hW zC_X1 (i := 19) (by decide) (Or.inl q702) (fun _ h => h) dX1_way_58 h (fun a_26 h => ?_)
              refine lv_iload_n hx hb dX1_way_61 rfl (lv_at hl 2 rfl) ?_
              refine lv_iload_n hx hb dX1_way_62 rfl (lv_at hl 3 rfl) ?_
              refine zw_iast S hW dX1_way_63 h (fun Z_27 h H locs hW => ?_)
              obtain ⟨x_28, e_29, h⟩ := nmI_some h
              refine lv_iinc (v := x_28) (lv' := [(2, .int x_28), (0, .ref x0), (1, .int x1), (3, .int x3)]) hx hb dX1_way_64 hl (k := 2) rfl (by rw [e_29]; rfl) (by decide) rfl (fun ls hl => ?_)
              obtain ⟨x_30, e_31, h⟩ := nmI_some h
              refine lv_iinc (v := x_30) (lv' := [(3, .int x_30), (2, .int x_28), (0, .ref x0), (1, .int x1)]) hx hb dX1_way_67 hl (k := 3) rfl (by rw [e_31]; rfl) (by decide) rfl (fun ls hl => ?_)
              refine lv_goto (tgt := 6) hx hb dX1_way_70 (by decide) ?_
              exact ih x_28 x_30 Z_27 out _ _ _ h hW (lv_sub hl [2, 3, 1, 0] rfl) k1
            · have h := if_t h c_23
              refine lv_goto (tgt := 67) hx hb dX1_way_47 (by decide) ?_
              obtain ⟨x_32, e_33, h⟩ := nmI_some h
              refine lv_iinc (v := x_32) (lv' := [(3, .int x_32), (0, .ref x0), (1, .int x1), (2, .int x2)]) hx hb dX1_way_67 hl (k := 3) rfl (by rw [e_33]; rfl) (by decide) rfl (fun ls hl => ?_)
              refine lv_goto (tgt := 6) hx hb dX1_way_70 (by decide) ?_
              exact ih x2 x_32 Z_3 out _ _ _ h hW (lv_sub hl [1, 2, 3, 0] rfl) k1
  have Lp105 : ∀ (x0 : Nat) (x1 : Int32) (x3 : Int32) (n : Nat) (x2 : Int32) (x4 : Int32) (Z : c_S) (out : (Int32 × c_S)) (H : Heap) (locs : List Loc) (ls : Array Slot), cm_X1_way_L105 x0 x1 x3 n x2 x4 Z = some out → z_W gp D K (z_A Z0) s Z H locs → lv_has ls 6 [(0, .ref x0), (1, .int x1), (2, .int x2), (3, .int x3), (4, .int x4)] → (∀ (o2 : Int32) (oZ : c_S), out = (o2, oZ) → ∀ (H : Heap) (locs : List Loc) (ls : Array Slot), z_W gp D K (z_A Z0) s oZ H locs → lv_has ls 6 [(0, .ref x0), (1, .int x1), (2, .int o2)] → W p l e rmX1_way s m ([.ref a0] : List Value).toArray below meth c H locs 0 0 (MQ below (z_Q (.returned (some (.int r))) D K (z_A Z0) Z') ([.ref a0] : List Value).toArray s 0 0 (z_A Z0)) (F0 m 192 ls [])) → W p l e rmX1_way s m ([.ref a0] : List Value).toArray below meth c H locs 0 0 (MQ below (z_Q (.returned (some (.int r))) D K (z_A Z0) Z') ([.ref a0] : List Value).toArray s 0 0 (z_A Z0)) (F0 m 105 ls []) := by
    intro x0 x1 x3 n
    induction n with
    | zero =>
      intro x2 x4 Z out H locs ls h
      exact (lp_0 h).elim
    | succ n ih =>
      intro x2 x4 Z out H locs ls h hW hl k1
      rw [cm_X1_way_L105_s] at h
      unfold cm_X1_way_B105 at h
      refine lv_iload hx hb dX1_way_105 (lv_at hl 4 rfl) ?_
      refine lv_iconst (v := 4) hx hb dX1_way_107 (by decide) ?_
      refine lv_icmp_ge (tgt := 192) hx hb dX1_way_108 (by decide) (fun c_47 => ?_) (fun c_47 => ?_)
      · have h := if_t h c_47
        exact k1 _ _ (Option.some.inj h).symm _ _ _ hW (lv_sub hl [0, 1, 2] rfl)
      · have h := if_f h c_47
        refine lv_iload_n hx hb dX1_way_111 rfl (lv_at hl 3 rfl) ?_
        refine lv_iload hx hb dX1_way_112 (lv_at hl 4 rfl) ?_
        obtain ⟨x_50, h_48, h⟩ := bnd_some h
        refine d_callSN (As := [.int x3, .int x4]) (rest := []) S hW (metX0_beside h_48) (cwX0_beside_SN S.2.2.2.2 (hW.1.2.2.2.2.1.2.2.2.2.1 _ (nestW_in q1112 rfl)) ⟨Nat.le_of_ble_eq_true rfl, Nat.le_of_ble_eq_true rfl⟩) rfl hl.1 rfl (Nat.le_of_ble_eq_true rfl) dX1_way_114 ⟨(Nat.le_of_ble_eq_true rfl), (Nat.le_of_ble_eq_true rfl)⟩ rfl (fun H locs hW => ?_)
        refine lv_istore (lv' := [(5, .int x_50), (0, .ref x0), (1, .int x1), (2, .int x2), (3, .int x3), (4, .int x4)]) hx hb dX1_way_117 hl (by decide) rfl (fun ls hl => ?_)
        refine lv_iload hx hb dX1_way_119 (lv_at hl 0 rfl) ?_
        refine lv_iconst (v := (-1)) hx hb dX1_way_121 (by decide) ?_
        refine lv_icmp_eq (tgt := 186) hx hb dX1_way_122 (by decide) (fun c_51 => ?_) (fun c_51 => ?_)
        · have h := if_t h c_51
          obtain ⟨x_52, e_53, h⟩ := nmI_some h
          refine lv_iinc (v := x_52) (lv' := [(4, .int x_52), (5, .int x_50), (0, .ref x0), (1, .int x1), (2, .int x2), (3, .int x3)]) hx hb dX1_way_186 hl (k := 5) rfl (by rw [e_53]; rfl) (by decide) rfl (fun ls hl => ?_)
          refine lv_goto (tgt := 105) hx hb dX1_way_189 (by decide) ?_
          exact ih x2 x_52 Z out _ _ _ h hW (lv_sub hl [2, 3, 4, 5, 0] rfl) k1
        · have h := if_f h c_51
          refine lv_aload_n hx hb dX1_way_125 rfl (lv_at hl 1 rfl) ?_
          refine zw_getA S hW zC_X1 (i := 18) (by decide) (Or.inl q701) (fun _ h => h) dX1_way_126 h (fun a_54 h => ?_)
          refine lv_iload hx hb dX1_way_129 (lv_at hl 0 rfl) ?_
          refine zw_iald S hW dX1_way_131 h (fun x_55 h => ?_)
          refine lv_iconst (v := (-1)) hx hb dX1_way_132 (by decide) ?_
          refine lv_icmp_ne (tgt := 186) hx hb dX1_way_133 (by decide) (fun c_56 => ?_) (fun c_56 => ?_)
          · have h := if_f h c_56
            obtain ⟨x_57, e_58, h⟩ := nmI_some h
            refine lv_iinc (v := x_57) (lv' := [(4, .int x_57), (5, .int x_50), (0, .ref x0), (1, .int x1), (2, .int x2), (3, .int x3)]) hx hb dX1_way_186 hl (k := 5) rfl (by rw [e_58]; rfl) (by decide) rfl (fun ls hl => ?_)
            refine lv_goto (tgt := 105) hx hb dX1_way_189 (by decide) ?_
            exact ih x2 x_57 Z out _ _ _ h hW (lv_sub hl [2, 3, 4, 5, 0] rfl) k1
          · have h := if_t h c_56
            refine lv_aload_n hx hb dX1_way_136 rfl (lv_at hl 1 rfl) ?_
            refine zw_getA S hW zC_X1 (i := 0) (by decide) (Or.inl q665) (fun _ h => h) dX1_way_137 h (fun a_59 h => ?_)
            refine lv_iload hx hb dX1_way_140 (lv_at hl 0 rfl) ?_
            obtain ⟨⟨_, k_60⟩, h⟩ := zK_some h
            obtain ⟨x_63, h_61, h⟩ := bnd_some h
            refine d_callV (As := [.int x_50]) (rest := []) S hW (metX2_isShaft h_61) (cwX2_isShaft_V S.2.2.2.2 q1164 ⟨Nat.le_of_ble_eq_true rfl, Nat.le_of_ble_eq_true rfl⟩) k_60 rfl rfl hl.1 rfl (Nat.le_of_ble_eq_true rfl) dX1_way_142 ⟨(Nat.le_of_ble_eq_true rfl), (Nat.le_of_ble_eq_true rfl)⟩ rfl (fun H locs hW => ?_)
            refine lv_if_ne (tgt := 186) hx hb dX1_way_145 (by decide) (fun c_64 => ?_) (fun c_64 => ?_)
            · have h := if_f h c_64
              obtain ⟨x_65, e_66, h⟩ := nmI_some h
              refine lv_iinc (v := x_65) (lv' := [(4, .int x_65), (5, .int x_50), (0, .ref x0), (1, .int x1), (2, .int x2), (3, .int x3)]) hx hb dX1_way_186 hl (k := 5) rfl (by rw [e_66]; rfl) (by decide) rfl (fun ls hl => ?_)
              refine lv_goto (tgt := 105) hx hb dX1_way_189 (by decide) ?_
              exact ih x2 x_65 Z out _ _ _ h hW (lv_sub hl [2, 3, 4, 5, 0] rfl) k1
            · have h := if_t h c_64
              refine lv_aload_n hx hb dX1_way_148 rfl (lv_at hl 1 rfl) ?_
              refine lv_iload hx hb dX1_way_149 (lv_at hl 0 rfl) ?_
              obtain ⟨⟨_, k_67⟩, h⟩ := zK_some h
              obtain ⟨x_70, h_68, h⟩ := bnd_some h
              refine d_callV (As := [.int x_50]) (rest := []) S hW (metX1_isFrozen h_68) (cwX1_isFrozen_V S.2.2.2.2 q1119 ⟨Nat.le_of_ble_eq_true rfl, Nat.le_of_ble_eq_true rfl⟩) k_67 rfl rfl hl.1 rfl (Nat.le_of_ble_eq_true rfl) dX1_way_151 ⟨(Nat.le_of_ble_eq_true rfl), (Nat.le_of_ble_eq_true rfl)⟩ rfl (fun H locs hW => ?_)
              refine lv_if_eq (tgt := 160) hx hb dX1_way_154 (by decide) (fun c_71 => ?_) (fun c_71 => ?_)
              · have h := if_t h c_71
                refine lv_aload_n hx hb dX1_way_160 rfl (lv_at hl 1 rfl) ?_
                refine zw_getA S hW zC_X1 (i := 18) (by decide) (Or.inl q701) (fun _ h => h) dX1_way_161 h (fun a_72 h => ?_)
                refine lv_iload hx hb dX1_way_164 (lv_at hl 0 rfl) ?_
                refine lv_aload_n hx hb dX1_way_166 rfl (lv_at hl 1 rfl) ?_
                refine zw_getA S hW zC_X1 (i := 18) (by decide) (Or.inl q701) (fun _ h => h) dX1_way_167 h (fun a_73 h => ?_)
                refine lv_iload_n hx hb dX1_way_170 rfl (lv_at hl 4 rfl) ?_
                refine zw_iald S hW dX1_way_171 h (fun x_74 h => ?_)
                refine lv_iconst (v := 1) hx hb dX1_way_172 (by decide) ?_
                refine lv_iadd hx hb dX1_way_173 ?_
                refine zw_iast S hW dX1_way_174 h (fun Z_75 h H locs hW => ?_)
                refine lv_aload_n hx hb dX1_way_175 rfl (lv_at hl 1 rfl) ?_
                refine zw_getA S hW zC_X1 (i := 19) (by decide) (Or.inl q702) (fun _ h => h) dX1_way_176 h (fun a_76 h => ?_)
                refine lv_iload_n hx hb dX1_way_179 rfl (lv_at hl 3 rfl) ?_
                refine lv_iload hx hb dX1_way_180 (lv_at hl 0 rfl) ?_
                refine zw_iast S hW dX1_way_182 h (fun Z_77 h H locs hW => ?_)
                obtain ⟨x_78, e_79, h⟩ := nmI_some h
                refine lv_iinc (v := x_78) (lv' := [(2, .int x_78), (5, .int x_50), (0, .ref x0), (1, .int x1), (3, .int x3), (4, .int x4)]) hx hb dX1_way_183 hl (k := 3) rfl (by rw [e_79]; rfl) (by decide) rfl (fun ls hl => ?_)
                obtain ⟨x_80, e_81, h⟩ := nmI_some h
                refine lv_iinc (v := x_80) (lv' := [(4, .int x_80), (2, .int x_78), (5, .int x_50), (0, .ref x0), (1, .int x1), (3, .int x3)]) hx hb dX1_way_186 hl (k := 5) rfl (by rw [e_81]; rfl) (by decide) rfl (fun ls hl => ?_)
                refine lv_goto (tgt := 105) hx hb dX1_way_189 (by decide) ?_
                exact ih x_78 x_80 Z_77 out _ _ _ h hW (lv_sub hl [3, 4, 1, 5, 0] rfl) k1
              · have h := if_f h c_71
                refine lv_goto (tgt := 186) hx hb dX1_way_157 (by decide) ?_
                obtain ⟨x_82, e_83, h⟩ := nmI_some h
                refine lv_iinc (v := x_82) (lv' := [(4, .int x_82), (5, .int x_50), (0, .ref x0), (1, .int x1), (2, .int x2), (3, .int x3)]) hx hb dX1_way_186 hl (k := 5) rfl (by rw [e_83]; rfl) (by decide) rfl (fun ls hl => ?_)
                refine lv_goto (tgt := 105) hx hb dX1_way_189 (by decide) ?_
                exact ih x2 x_82 Z out _ _ _ h hW (lv_sub hl [2, 3, 4, 5, 0] rfl) k1
  have Lp73 : ∀ (x0 : Nat) (n : Nat) (x1 : Int32) (x2 : Int32) (Z : c_S) (out : ((c_S) ⊕ (Int32 × c_S))) (H : Heap) (locs : List Loc) (ls : Array Slot), cm_X1_way_L73 x0 n x1 x2 Z = some out → z_W gp D K (z_A Z0) s Z H locs → lv_has ls 6 [(0, .ref x0), (1, .int x1), (2, .int x2)] → (∀ (oZ : c_S), out = (.inl oZ) → ∀ (H : Heap) (locs : List Loc) (ls : Array Slot), z_W gp D K (z_A Z0) s oZ H locs → lv_has ls 6 [] → W p l e rmX1_way s m ([.ref a0] : List Value).toArray below meth c H locs 0 0 (MQ below (z_Q (.returned (some (.int r))) D K (z_A Z0) Z') ([.ref a0] : List Value).toArray s 0 0 (z_A Z0)) (F0 m 195 ls [])) → (∀ (o3 : Int32) (oZ : c_S), out = (.inr (o3, oZ)) → ∀ (H : Heap) (locs : List Loc) (ls : Array Slot), z_W gp D K (z_A Z0) s oZ H locs → lv_has ls 6 [(0, .ref x0), (3, .int o3)] → W p l e rmX1_way s m ([.ref a0] : List Value).toArray below meth c H locs 0 0 (MQ below (z_Q (.returned (some (.int r))) D K (z_A Z0) Z') ([.ref a0] : List Value).toArray s 0 0 (z_A Z0)) (F0 m 95 ls [])) → W p l e rmX1_way s m ([.ref a0] : List Value).toArray below meth c H locs 0 0 (MQ below (z_Q (.returned (some (.int r))) D K (z_A Z0) Z') ([.ref a0] : List Value).toArray s 0 0 (z_A Z0)) (F0 m 73 ls []) := by
    intro x0 n
    induction n with
    | zero =>
      intro x1 x2 Z out H locs ls h
      exact (lp_0 h).elim
    | succ n ih =>
      intro x1 x2 Z out H locs ls h hW hl k1 k2
      rw [cm_X1_way_L73_s] at h
      unfold cm_X1_way_B73 at h
      refine lv_iload_n hx hb dX1_way_73 rfl (lv_at hl 1 rfl) ?_
      refine lv_iload_n hx hb dX1_way_74 rfl (lv_at hl 2 rfl) ?_
      refine lv_icmp_ge (tgt := 195) hx hb dX1_way_75 (by decide) (fun c_38 => ?_) (fun c_38 => ?_)
      · have h := if_t h c_38
        exact k1 _ (Option.some.inj h).symm _ _ _ hW (lv_sub hl [] rfl)
      · have h := if_f h c_38
        refine lv_aload_n hx hb dX1_way_78 rfl (lv_at hl 0 rfl) ?_
        refine zw_getA S hW zC_X1 (i := 19) (by decide) (Or.inl q702) (fun _ h => h) dX1_way_79 h (fun a_39 h => ?_)
        refine lv_iload_n hx hb dX1_way_82 rfl (lv_at hl 1 rfl) ?_
        refine zw_iald S hW dX1_way_83 h (fun x_40 h => ?_)
        refine lv_istore_n (lv' := [(3, .int x_40), (0, .ref x0), (1, .int x1), (2, .int x2)]) hx hb dX1_way_84 rfl hl (by decide) rfl (fun ls hl => ?_)
        obtain ⟨x_41, e_42, h⟩ := nmI_some h
        refine lv_iinc (v := x_41) (lv' := [(1, .int x_41), (3, .int x_40), (0, .ref x0), (2, .int x2)]) hx hb dX1_way_85 hl (k := 2) rfl (by rw [e_42]; rfl) (by decide) rfl (fun ls hl => ?_)
        refine lv_iload_n hx hb dX1_way_88 rfl (lv_at hl 1 rfl) ?_
        obtain ⟨x_45, h_43, h⟩ := bnd_some h
        refine d_callSN (As := [.int x_40]) (rest := []) S hW (metX0_isRim h_43) (cwX0_isRim_SN S.2.2.2.2 (hW.1.2.2.2.2.1.2.2.2.2.1 _ (nestW_in q1174 rfl)) ⟨Nat.le_of_ble_eq_true rfl, Nat.le_of_ble_eq_true rfl⟩) rfl hl.1 rfl (Nat.le_of_ble_eq_true rfl) dX1_way_89 ⟨(Nat.le_of_ble_eq_true rfl), (Nat.le_of_ble_eq_true rfl)⟩ rfl (fun H locs hW => ?_)
        refine lv_if_eq (tgt := 102) hx hb dX1_way_92 (by decide) (fun c_46 => ?_) (fun c_46 => ?_)
        · have h := if_t h c_46
          refine lv_iconst (v := 0) hx hb dX1_way_102 (by decide) ?_
          refine lv_istore (lv' := [(4, .int 0), (1, .int x_41), (3, .int x_40), (0, .ref x0), (2, .int x2)]) hx hb dX1_way_103 hl (by decide) rfl (fun ls hl => ?_)
          obtain ⟨x_86, Z_87, h_85, h⟩ := bnd2_some h
          refine Lp105 x0 x_41 x_40 1000 x2 0 Z  _ _ _ _ h_85 hW (lv_sub hl [3, 1, 4, 2, 0] rfl) ?_
          intro w0 w1 eo H locs ls hW hl
          cases eo
          refine lv_goto (tgt := 73) hx hb dX1_way_192 (by decide) ?_
          exact ih x_41 x_86 Z_87 out _ _ _ h hW hl k1 k2
        · have h := if_f h c_46
          exact k2 _ _ (Option.some.inj h).symm _ _ _ hW (lv_sub hl [2, 1] rfl)
  unfold cm_X1_way at h
  refine lv_iconst (v := 0) hx hb dX1_way_0 (by decide) ?_
  refine lv_istore_n (lv' := [(1, .int 0), (0, .ref a0)]) hx hb dX1_way_1 rfl hl (by decide) rfl (fun ls hl => ?_)
  refine lv_iconst (v := 0) hx hb dX1_way_2 (by decide) ?_
  refine lv_istore_n (lv' := [(2, .int 0), (1, .int 0), (0, .ref a0)]) hx hb dX1_way_3 rfl hl (by decide) rfl (fun ls hl => ?_)
  refine lv_iconst (v := 0) hx hb dX1_way_4 (by decide) ?_
  refine lv_istore_n (lv' := [(3, .int 0), (2, .int 0), (1, .int 0), (0, .ref a0)]) hx hb dX1_way_5 rfl hl (by decide) rfl (fun ls hl => ?_)
  obtain ⟨x_36, Z_37, h_35, h⟩ := bnd2_some h
  refine Lp6 a0 0 1000 0 0 Z0  _ _ _ _ h_35 hW (lv_sub hl [3, 2, 1, 0] rfl) ?_
  intro w0 w1 eo H locs ls hW hl
  cases eo
  obtain ⟨o_88, h_89, h⟩ := bnd_some h
  have h9 := cs2_some h
  clear h
  rcases h9 with ⟨q, rfl, h⟩ | ⟨q, rfl, h⟩
  · obtain ⟨Z_90, rfl⟩ : ∃ z, z = q := ⟨q, rfl⟩
    refine Lp73 a0 1000 0 x_36 Z_37  _ _ _ _ h_89 hW hl ?_ (fun _ _ eo => by cases eo)
    intro w0 eo H locs ls hW hl
    cases eo
    refine lv_iconst (v := (-1)) hx hb dX1_way_195 (by decide) ?_
    cases h
    exact d_iret S hr hlk hW (Nat.le_of_ble_eq_true rfl) (Nat.le_of_ble_eq_true rfl) dX1_way_196
  · have h9 := un2_some h
    clear h
    obtain ⟨x_91, Z_92, rfl, h⟩ := h9
    refine Lp73 a0 1000 0 x_36 Z_37  _ _ _ _ h_89 hW hl (fun _ eo => by cases eo) ?_
    intro w0 w1 eo H locs ls hW hl
    cases eo
    refine lv_aload_n hx hb dX1_way_95 rfl (lv_at hl 0 rfl) ?_
    refine zw_getA S hW zC_X1 (i := 18) (by decide) (Or.inl q701) (fun _ h => h) dX1_way_96 h (fun a_93 h => ?_)
    refine lv_iload_n hx hb dX1_way_99 rfl (lv_at hl 1 rfl) ?_
    refine zw_iald S hW dX1_way_100 h (fun x_94 h => ?_)
    cases h
    exact d_iret S hr hlk hW (Nat.le_of_ble_eq_true rfl) (Nat.le_of_ble_eq_true rfl) dX1_way_101
def cm_X1_thick_B2 (x0 : Nat) (rec : Int32 → c_S → Option (c_S)) (x1 : Int32) (Z : c_S) : Option (c_S) :=
  if 144 ≤ x1 then (some Z) else (cA Z.Sh x0 1 20 18 fun a_2 => cA Z.Sh x0 1 20 0 fun a_3 => zK Z a_3 2 13 <| bnd (cm_X2_isShaft Z a_3 x1) (fun x_7 => if x_7 = 0 then (zK Z x0 1 20 <| bnd (cm_X1_isBesideShaft Z x0 x1) (fun x_15 => if x_15 = 0 then (zsI Z 0 a_2 x1 144 fun Z_17 => nmI (x1 + 1) fun x_18 => rec x_18 Z_17) else (zK Z x0 1 20 <| bnd (cm_X1_costOf Z x0 x1) (fun x_23 => zsI Z 0 a_2 x1 x_23 fun Z_24 => nmI (x1 + 1) fun x_25 => rec x_25 Z_24)))) else (zsI Z 0 a_2 x1 144 fun Z_9 => nmI (x1 + 1) fun x_10 => rec x_10 Z_9)))
abbrev cm_X1_thick_F2 (x0 : Nat) : (((Int32) × (c_S)) → Option (c_S)) → ((Int32) × (c_S)) → Option (c_S) := fun rec s => cm_X1_thick_B2 x0 (fun x1 Z => rec (x1, Z)) s.1 s.2
def cm_X1_thick_L2 (x0 : Nat) (n : Nat) (x1 : Int32) (Z : c_S) : Option (c_S) := lp (cm_X1_thick_F2 x0) n (x1, Z)
theorem cm_X1_thick_L2_s (x0 : Nat) (n : Nat) (x1 : Int32) (Z : c_S) : cm_X1_thick_L2 x0 (n + 1) x1 Z = cm_X1_thick_B2 x0 (fun x1 Z => cm_X1_thick_L2 x0 n x1 Z) x1 Z := lp_s (cm_X1_thick_F2 x0) n (x1, Z)
def cm_X1_thick_B70 (x0 : Nat) (x2 : Int32) (rec : Int32 → Int32 → c_S → Option (Int32 × c_S)) (x1 : Int32) (x3 : Int32) (Z : c_S) : Option (Int32 × c_S) :=
  if 4 ≤ x3 then (some (x1, Z)) else (cA Z.Sh x0 1 20 0 fun a_33 => zK Z a_33 2 13 <| bnd (cm_X2_isShaft Z a_33 x2) (fun x_37 => if x_37 = 0 then (bnd (cm_X0_beside x2 x3) (fun x_41 => if x_41 = (-1) then (nmI (x3 + 1) fun x_43 => rec x1 x_43 Z) else (cA Z.Sh x0 1 20 18 fun a_45 => caI Z.Sh Z.V 0 a_45 x_41 fun x_46 => zK Z x0 1 20 <| bnd (cm_X1_costOf Z x0 x2) (fun x_50 => cA Z.Sh x0 1 20 18 fun a_51 => caI Z.Sh Z.V 0 a_51 x2 fun x_52 => if (x_46 + x_50) < x_52 then (cA Z.Sh x0 1 20 18 fun a_54 => cA Z.Sh x0 1 20 18 fun a_55 => caI Z.Sh Z.V 0 a_55 x_41 fun x_56 => zK Z x0 1 20 <| bnd (cm_X1_costOf Z x0 x2) (fun x_60 => zsI Z 0 a_54 x2 (x_56 + x_60) fun Z_61 => nmI (x3 + 1) fun x_62 => rec 1 x_62 Z_61)) else (nmI (x3 + 1) fun x_64 => rec x1 x_64 Z))))) else (some (x1, Z))))
abbrev cm_X1_thick_F70 (x0 : Nat) (x2 : Int32) : (((Int32) × (Int32) × (c_S)) → Option (Int32 × c_S)) → ((Int32) × (Int32) × (c_S)) → Option (Int32 × c_S) := fun rec s => cm_X1_thick_B70 x0 x2 (fun x1 x3 Z => rec (x1, x3, Z)) s.1 s.2.1 s.2.2
def cm_X1_thick_L70 (x0 : Nat) (x2 : Int32) (n : Nat) (x1 : Int32) (x3 : Int32) (Z : c_S) : Option (Int32 × c_S) := lp (cm_X1_thick_F70 x0 x2) n (x1, x3, Z)
theorem cm_X1_thick_L70_s (x0 : Nat) (x2 : Int32) (n : Nat) (x1 : Int32) (x3 : Int32) (Z : c_S) : cm_X1_thick_L70 x0 x2 (n + 1) x1 x3 Z = cm_X1_thick_B70 x0 x2 (fun x1 x3 Z => cm_X1_thick_L70 x0 x2 n x1 x3 Z) x1 x3 Z := lp_s (cm_X1_thick_F70 x0 x2) n (x1, x3, Z)
def cm_X1_thick_B61 (x0 : Nat) (rec : Int32 → Int32 → c_S → Option (Int32 × c_S)) (x1 : Int32) (x2 : Int32) (Z : c_S) : Option (Int32 × c_S) :=
  if 144 ≤ x2 then (some (x1, Z)) else (bnd (cm_X1_thick_L70 x0 x2 100000 x1 0 Z) (un2 fun x_68 Z_69 => nmI (x2 + 1) fun x_70 => rec x_68 x_70 Z_69))
abbrev cm_X1_thick_F61 (x0 : Nat) : (((Int32) × (Int32) × (c_S)) → Option (Int32 × c_S)) → ((Int32) × (Int32) × (c_S)) → Option (Int32 × c_S) := fun rec s => cm_X1_thick_B61 x0 (fun x1 x2 Z => rec (x1, x2, Z)) s.1 s.2.1 s.2.2
def cm_X1_thick_L61 (x0 : Nat) (n : Nat) (x1 : Int32) (x2 : Int32) (Z : c_S) : Option (Int32 × c_S) := lp (cm_X1_thick_F61 x0) n (x1, x2, Z)
theorem cm_X1_thick_L61_s (x0 : Nat) (n : Nat) (x1 : Int32) (x2 : Int32) (Z : c_S) : cm_X1_thick_L61 x0 (n + 1) x1 x2 Z = cm_X1_thick_B61 x0 (fun x1 x2 Z => cm_X1_thick_L61 x0 n x1 x2 Z) x1 x2 Z := lp_s (cm_X1_thick_F61 x0) n (x1, x2, Z)
def cm_X1_thick_B53 (x0 : Nat) (rec : Int32 → c_S → Option (c_S)) (x1 : Int32) (Z : c_S) : Option (c_S) :=
  if x1 = 0 then (some Z) else (bnd (cm_X1_thick_L61 x0 100000 0 0 Z) (un2 fun x_74 Z_75 => rec x_74 Z_75))
abbrev cm_X1_thick_F53 (x0 : Nat) : (((Int32) × (c_S)) → Option (c_S)) → ((Int32) × (c_S)) → Option (c_S) := fun rec s => cm_X1_thick_B53 x0 (fun x1 Z => rec (x1, Z)) s.1 s.2
def cm_X1_thick_L53 (x0 : Nat) (n : Nat) (x1 : Int32) (Z : c_S) : Option (c_S) := lp (cm_X1_thick_F53 x0) n (x1, Z)
theorem cm_X1_thick_L53_s (x0 : Nat) (n : Nat) (x1 : Int32) (Z : c_S) : cm_X1_thick_L53 x0 (n + 1) x1 Z = cm_X1_thick_B53 x0 (fun x1 Z => cm_X1_thick_L53 x0 n x1 Z) x1 Z := lp_s (cm_X1_thick_F53 x0) n (x1, Z)
def cm_X1_thick_B166 (x0 : Nat) (Z : c_S) (rec : Int32 → Int32 → Option (Int32)) (x2 : Int32) (x3 : Int32) : Option (Int32) :=
  if 144 ≤ x3 then (some x2) else (bnd (cm_X0_isRim x3) (fun x_82 => if x_82 = 0 then (nmI (x3 + 1) fun x_84 => rec x2 x_84) else (cA Z.Sh x0 1 20 18 fun a_86 => caI Z.Sh Z.V 0 a_86 x3 fun x_87 => nmI (if x_87 < x2 then x_87 else x2) fun x_88 => nmI (x3 + 1) fun x_90 => rec x_88 x_90)))
abbrev cm_X1_thick_F166 (x0 : Nat) (Z : c_S) : (((Int32) × (Int32)) → Option (Int32)) → ((Int32) × (Int32)) → Option (Int32) := fun rec s => cm_X1_thick_B166 x0 Z (fun x2 x3 => rec (x2, x3)) s.1 s.2
def cm_X1_thick_L166 (x0 : Nat) (Z : c_S) (n : Nat) (x2 : Int32) (x3 : Int32) : Option (Int32) := lp (cm_X1_thick_F166 x0 Z) n (x2, x3)
theorem cm_X1_thick_L166_s (x0 : Nat) (Z : c_S) (n : Nat) (x2 : Int32) (x3 : Int32) : cm_X1_thick_L166 x0 Z (n + 1) x2 x3 = cm_X1_thick_B166 x0 Z (fun x2 x3 => cm_X1_thick_L166 x0 Z n x2 x3) x2 x3 := lp_s (cm_X1_thick_F166 x0 Z) n (x2, x3)
def cm_X1_thick (Z0 : c_S) (a0 : Nat) : Option (Int32 × c_S) :=
  bnd (cm_X1_thick_L2 a0 100000 0 Z0) (fun Z_29 => bnd (cm_X1_thick_L53 a0 100000 1 Z_29) (fun Z_78 => bnd (cm_X1_thick_L166 a0 Z_78 100000 144 0) (fun x_94 => some (x_94, Z_78))))
abbrev rmX1_thick : Room := rmD 3 69 0 0
theorem cwX1_costOf_V {own : String} {R : Room} {s : State} {args : Array Value} {index : Nat} (hts : ∀ w ∈ lw_all, w.before args s = true) (hl : Cond.methodLink own index yX1_costOf ∈ lw_all) (hR : rmX1_costOf.frames + 1 ≤ R.frames ∧ 8 + (2 + 11) + rmX1_costOf.locals ≤ R.locals) : CallW R s args own RX1 index yX1_costOf cX1_costOf 2 (some .int) (ws_ yX1_costOf cX1_costOf 2 (some .int)) rmX1_costOf 0 0 1 := cwV 1 hts (lw_V hl q1328 qs46 q106 q1329) rfl rfl rfl (by decide +kernel) hR
set_option maxHeartbeats 4000000 in
theorem metX1_thick {l : Launch} {gp : Nat → Nat} {D : va_G} {K : Nat → ClassId} {Z0 : c_S} {a0 : Nat} {r : Int32} {Z' : c_S} (h : cm_X1_thick Z0 a0 = some (r, Z')) : Met l yX1_thick (ws_ yX1_thick cX1_thick 5 (some .int)) rmX1_thick (z_Pc gp [.ref a0] D K Z0) (z_Q (.returned (some (.int r))) D K (z_A Z0) Z') 0 0 (z_A Z0) := by
  refine d_met rfl (Nat.le_of_ble_eq_true rfl) ?_
  intro p e s m below meth c ls S hr hlk hnm hl hW hsz
  have S : CallFix p m c cX1_thick 5 s ([.ref a0] : List Value).toArray lw_all RX1 := S
  have hx := S.1
  have hb := S.2.1
  have hl : lv_has ls 5 [(0, .ref a0)] := hl
  have hnm : meth.name = "thick" := hnm
  have Lp2 : ∀ (x0 : Nat) (n : Nat) (x1 : Int32) (Z : c_S) (out : (c_S)) (H : Heap) (locs : List Loc) (ls : Array Slot), cm_X1_thick_L2 x0 n x1 Z = some out → z_W gp D K (z_A Z0) s Z H locs → lv_has ls 5 [(0, .ref x0), (1, .int x1)] → (∀ (oZ : c_S), out = oZ → ∀ (H : Heap) (locs : List Loc) (ls : Array Slot), z_W gp D K (z_A Z0) s oZ H locs → lv_has ls 5 [(0, .ref x0)] → W p l e rmX1_thick s m ([.ref a0] : List Value).toArray below meth c H locs 0 0 (MQ below (z_Q (.returned (some (.int r))) D K (z_A Z0) Z') ([.ref a0] : List Value).toArray s 0 0 (z_A Z0)) (F0 m 51 ls [])) → W p l e rmX1_thick s m ([.ref a0] : List Value).toArray below meth c H locs 0 0 (MQ below (z_Q (.returned (some (.int r))) D K (z_A Z0) Z') ([.ref a0] : List Value).toArray s 0 0 (z_A Z0)) (F0 m 2 ls []) := by
    intro x0 n
    induction n with
    | zero =>
      intro x1 Z out H locs ls h
      exact (lp_0 h).elim
    | succ n ih =>
      intro x1 Z out H locs ls h hW hl k1
      rw [cm_X1_thick_L2_s] at h
      unfold cm_X1_thick_B2 at h
      refine lv_iload_n hx hb dX1_thick_2 rfl (lv_at hl 1 rfl) ?_
      refine lv_sipush (v := 144) hx hb dX1_thick_3 (by decide) ?_
      refine lv_icmp_ge (tgt := 51) hx hb dX1_thick_6 (by decide) (fun c_1 => ?_) (fun c_1 => ?_)
      · have h := if_t h c_1
        exact k1 _ (Option.some.inj h).symm _ _ _ hW (lv_sub hl [0] rfl)
      · have h := if_f h c_1
        refine lv_aload_n hx hb dX1_thick_9 rfl (lv_at hl 0 rfl) ?_
        refine zw_getA S hW zC_X1 (i := 18) (by decide) (Or.inl q701) (fun _ h => h) dX1_thick_10 h (fun a_2 h => ?_)
        refine lv_iload_n hx hb dX1_thick_13 rfl (lv_at hl 1 rfl) ?_
        refine lv_aload_n hx hb dX1_thick_14 rfl (lv_at hl 0 rfl) ?_
        refine zw_getA S hW zC_X1 (i := 0) (by decide) (Or.inl q665) (fun _ h => h) dX1_thick_15 h (fun a_3 h => ?_)
        refine lv_iload_n hx hb dX1_thick_18 rfl (lv_at hl 1 rfl) ?_
        obtain ⟨⟨_, k_4⟩, h⟩ := zK_some h
        obtain ⟨x_7, h_5, h⟩ := bnd_some h
        refine d_callV (As := [.int x1]) (rest := [.int x1, .ref a_2]) S hW (metX2_isShaft h_5) (cwX2_isShaft_V S.2.2.2.2 q1164 ⟨Nat.le_of_ble_eq_true rfl, Nat.le_of_ble_eq_true rfl⟩) k_4 rfl rfl hl.1 rfl (Nat.le_of_ble_eq_true rfl) dX1_thick_19 ⟨(Nat.le_of_ble_eq_true rfl), (Nat.le_of_ble_eq_true rfl)⟩ rfl (fun H locs hW => ?_)
        refine lv_if_ne (tgt := 41) hx hb dX1_thick_22 (by decide) (fun c_8 => ?_) (fun c_8 => ?_)
        · have h := if_f h c_8
          refine lv_sipush (v := 144) hx hb dX1_thick_41 (by decide) ?_
          refine zw_iast S hW dX1_thick_44 h (fun Z_9 h H locs hW => ?_)
          obtain ⟨x_10, e_11, h⟩ := nmI_some h
          refine lv_iinc (v := x_10) (lv' := [(1, .int x_10), (0, .ref x0)]) hx hb dX1_thick_45 hl (k := 1) rfl (by rw [e_11]; rfl) (by decide) rfl (fun ls hl => ?_)
          refine lv_goto (tgt := 2) hx hb dX1_thick_48 (by decide) ?_
          exact ih x_10 Z_9 out _ _ _ h hW (lv_sub hl [1, 0] rfl) k1
        · have h := if_t h c_8
          refine lv_aload_n hx hb dX1_thick_25 rfl (lv_at hl 0 rfl) ?_
          refine lv_iload_n hx hb dX1_thick_26 rfl (lv_at hl 1 rfl) ?_
          obtain ⟨⟨_, k_12⟩, h⟩ := zK_some h
          obtain ⟨x_15, h_13, h⟩ := bnd_some h
          refine d_callV (As := [.int x1]) (rest := [.int x1, .ref a_2]) S hW (metX1_isBesideShaft h_13) (cwX1_isBesideShaft_V S.2.2.2.2 q1170 ⟨Nat.le_of_ble_eq_true rfl, Nat.le_of_ble_eq_true rfl⟩) k_12 rfl rfl hl.1 rfl (Nat.le_of_ble_eq_true rfl) dX1_thick_27 ⟨(Nat.le_of_ble_eq_true rfl), (Nat.le_of_ble_eq_true rfl)⟩ rfl (fun H locs hW => ?_)
          refine lv_if_eq (tgt := 41) hx hb dX1_thick_30 (by decide) (fun c_16 => ?_) (fun c_16 => ?_)
          · have h := if_t h c_16
            refine lv_sipush (v := 144) hx hb dX1_thick_41 (by decide) ?_
            refine zw_iast S hW dX1_thick_44 h (fun Z_17 h H locs hW => ?_)
            obtain ⟨x_18, e_19, h⟩ := nmI_some h
            refine lv_iinc (v := x_18) (lv' := [(1, .int x_18), (0, .ref x0)]) hx hb dX1_thick_45 hl (k := 1) rfl (by rw [e_19]; rfl) (by decide) rfl (fun ls hl => ?_)
            refine lv_goto (tgt := 2) hx hb dX1_thick_48 (by decide) ?_
            exact ih x_18 Z_17 out _ _ _ h hW (lv_sub hl [1, 0] rfl) k1
          · have h := if_f h c_16
            refine lv_aload_n hx hb dX1_thick_33 rfl (lv_at hl 0 rfl) ?_
            refine lv_iload_n hx hb dX1_thick_34 rfl (lv_at hl 1 rfl) ?_
            obtain ⟨⟨_, k_20⟩, h⟩ := zK_some h
            obtain ⟨x_23, h_21, h⟩ := bnd_some h
            refine d_callV (As := [.int x1]) (rest := [.int x1, .ref a_2]) S hW (metX1_costOf h_21) (cwX1_costOf_V S.2.2.2.2 q1326 ⟨Nat.le_of_ble_eq_true rfl, Nat.le_of_ble_eq_true rfl⟩) k_20 rfl rfl hl.1 rfl (Nat.le_of_ble_eq_true rfl) dX1_thick_35 ⟨(Nat.le_of_ble_eq_true rfl), (Nat.le_of_ble_eq_true rfl)⟩ rfl (fun H locs hW => ?_)
            refine lv_goto (tgt := 44) hx hb dX1_thick_38 (by decide) ?_
            refine zw_iast S hW dX1_thick_44 h (fun Z_24 h H locs hW => ?_)
            obtain ⟨x_25, e_26, h⟩ := nmI_some h
            refine lv_iinc (v := x_25) (lv' := [(1, .int x_25), (0, .ref x0)]) hx hb dX1_thick_45 hl (k := 1) rfl (by rw [e_26]; rfl) (by decide) rfl (fun ls hl => ?_)
            refine lv_goto (tgt := 2) hx hb dX1_thick_48 (by decide) ?_
            exact ih x_25 Z_24 out _ _ _ h hW (lv_sub hl [1, 0] rfl) k1
  have Lp70 : ∀ (x0 : Nat) (x2 : Int32) (n : Nat) (x1 : Int32) (x3 : Int32) (Z : c_S) (out : (Int32 × c_S)) (H : Heap) (locs : List Loc) (ls : Array Slot), cm_X1_thick_L70 x0 x2 n x1 x3 Z = some out → z_W gp D K (z_A Z0) s Z H locs → lv_has ls 5 [(0, .ref x0), (1, .int x1), (2, .int x2), (3, .int x3)] → (∀ (o1 : Int32) (oZ : c_S), out = (o1, oZ) → ∀ (H : Heap) (locs : List Loc) (ls : Array Slot), z_W gp D K (z_A Z0) s oZ H locs → lv_has ls 5 [(0, .ref x0), (1, .int o1), (2, .int x2)] → W p l e rmX1_thick s m ([.ref a0] : List Value).toArray below meth c H locs 0 0 (MQ below (z_Q (.returned (some (.int r))) D K (z_A Z0) Z') ([.ref a0] : List Value).toArray s 0 0 (z_A Z0)) (F0 m 151 ls [])) → W p l e rmX1_thick s m ([.ref a0] : List Value).toArray below meth c H locs 0 0 (MQ below (z_Q (.returned (some (.int r))) D K (z_A Z0) Z') ([.ref a0] : List Value).toArray s 0 0 (z_A Z0)) (F0 m 70 ls []) := by
    intro x0 x2 n
    induction n with
    | zero =>
      intro x1 x3 Z out H locs ls h
      exact (lp_0 h).elim
    | succ n ih =>
      intro x1 x3 Z out H locs ls h hW hl k1
      rw [cm_X1_thick_L70_s] at h
      unfold cm_X1_thick_B70 at h
      refine lv_iload_n hx hb dX1_thick_70 rfl (lv_at hl 3 rfl) ?_
      refine lv_iconst (v := 4) hx hb dX1_thick_71 (by decide) ?_
      refine lv_icmp_ge (tgt := 151) hx hb dX1_thick_72 (by decide) (fun c_32 => ?_) (fun c_32 => ?_)
      · have h := if_t h c_32
        exact k1 _ _ (Option.some.inj h).symm _ _ _ hW (lv_sub hl [0, 1, 2] rfl)
      · have h := if_f h c_32
        refine lv_aload_n hx hb dX1_thick_75 rfl (lv_at hl 0 rfl) ?_
        refine zw_getA S hW zC_X1 (i := 0) (by decide) (Or.inl q665) (fun _ h => h) dX1_thick_76 h (fun a_33 h => ?_)
        refine lv_iload_n hx hb dX1_thick_79 rfl (lv_at hl 2 rfl) ?_
        obtain ⟨⟨_, k_34⟩, h⟩ := zK_some h
        obtain ⟨x_37, h_35, h⟩ := bnd_some h
        refine d_callV (As := [.int x2]) (rest := []) S hW (metX2_isShaft h_35) (cwX2_isShaft_V S.2.2.2.2 q1164 ⟨Nat.le_of_ble_eq_true rfl, Nat.le_of_ble_eq_true rfl⟩) k_34 rfl rfl hl.1 rfl (Nat.le_of_ble_eq_true rfl) dX1_thick_80 ⟨(Nat.le_of_ble_eq_true rfl), (Nat.le_of_ble_eq_true rfl)⟩ rfl (fun H locs hW => ?_)
        refine lv_if_ne (tgt := 151) hx hb dX1_thick_83 (by decide) (fun c_38 => ?_) (fun c_38 => ?_)
        · have h := if_f h c_38
          exact k1 _ _ (Option.some.inj h).symm _ _ _ hW (lv_sub hl [0, 1, 2] rfl)
        · have h := if_t h c_38
          refine lv_iload_n hx hb dX1_thick_86 rfl (lv_at hl 2 rfl) ?_
          refine lv_iload_n hx hb dX1_thick_87 rfl (lv_at hl 3 rfl) ?_
          obtain ⟨x_41, h_39, h⟩ := bnd_some h
          refine d_callSN (As := [.int x2, .int x3]) (rest := []) S hW (metX0_beside h_39) (cwX0_beside_SN S.2.2.2.2 (hW.1.2.2.2.2.1.2.2.2.2.1 _ (nestW_in q1112 rfl)) ⟨Nat.le_of_ble_eq_true rfl, Nat.le_of_ble_eq_true rfl⟩) rfl hl.1 rfl (Nat.le_of_ble_eq_true rfl) dX1_thick_88 ⟨(Nat.le_of_ble_eq_true rfl), (Nat.le_of_ble_eq_true rfl)⟩ rfl (fun H locs hW => ?_)
          refine lv_istore (lv' := [(4, .int x_41), (0, .ref x0), (1, .int x1), (2, .int x2), (3, .int x3)]) hx hb dX1_thick_91 hl (by decide) rfl (fun ls hl => ?_)
          refine lv_iload hx hb dX1_thick_93 (lv_at hl 0 rfl) ?_
          refine lv_iconst (v := (-1)) hx hb dX1_thick_95 (by decide) ?_
          refine lv_icmp_eq (tgt := 145) hx hb dX1_thick_96 (by decide) (fun c_42 => ?_) (fun c_42 => ?_)
          · have h := if_t h c_42
            obtain ⟨x_43, e_44, h⟩ := nmI_some h
            refine lv_iinc (v := x_43) (lv' := [(3, .int x_43), (4, .int x_41), (0, .ref x0), (1, .int x1), (2, .int x2)]) hx hb dX1_thick_145 hl (k := 4) rfl (by rw [e_44]; rfl) (by decide) rfl (fun ls hl => ?_)
            refine lv_goto (tgt := 70) hx hb dX1_thick_148 (by decide) ?_
            exact ih x1 x_43 Z out _ _ _ h hW (lv_sub hl [2, 3, 4, 0] rfl) k1
          · have h := if_f h c_42
            refine lv_aload_n hx hb dX1_thick_99 rfl (lv_at hl 1 rfl) ?_
            refine zw_getA S hW zC_X1 (i := 18) (by decide) (Or.inl q701) (fun _ h => h) dX1_thick_100 h (fun a_45 h => ?_)
            refine lv_iload hx hb dX1_thick_103 (lv_at hl 0 rfl) ?_
            refine zw_iald S hW dX1_thick_105 h (fun x_46 h => ?_)
            refine lv_aload_n hx hb dX1_thick_106 rfl (lv_at hl 1 rfl) ?_
            refine lv_iload_n hx hb dX1_thick_107 rfl (lv_at hl 3 rfl) ?_
            obtain ⟨⟨_, k_47⟩, h⟩ := zK_some h
            obtain ⟨x_50, h_48, h⟩ := bnd_some h
            refine d_callV (As := [.int x2]) (rest := [.int x_46]) S hW (metX1_costOf h_48) (cwX1_costOf_V S.2.2.2.2 q1326 ⟨Nat.le_of_ble_eq_true rfl, Nat.le_of_ble_eq_true rfl⟩) k_47 rfl rfl hl.1 rfl (Nat.le_of_ble_eq_true rfl) dX1_thick_108 ⟨(Nat.le_of_ble_eq_true rfl), (Nat.le_of_ble_eq_true rfl)⟩ rfl (fun H locs hW => ?_)
            refine lv_iadd hx hb dX1_thick_111 ?_
            refine lv_aload_n hx hb dX1_thick_112 rfl (lv_at hl 1 rfl) ?_
            refine zw_getA S hW zC_X1 (i := 18) (by decide) (Or.inl q701) (fun _ h => h) dX1_thick_113 h (fun a_51 h => ?_)
            refine lv_iload_n hx hb dX1_thick_116 rfl (lv_at hl 3 rfl) ?_
            refine zw_iald S hW dX1_thick_117 h (fun x_52 h => ?_)
            refine lv_icmp_lt (tgt := 124) hx hb dX1_thick_118 (by decide) (fun c_53 => ?_) (fun c_53 => ?_)
            · have h := if_t h c_53
              refine lv_aload_n hx hb dX1_thick_124 rfl (lv_at hl 1 rfl) ?_
              refine zw_getA S hW zC_X1 (i := 18) (by decide) (Or.inl q701) (fun _ h => h) dX1_thick_125 h (fun a_54 h => ?_)
              refine lv_iload_n hx hb dX1_thick_128 rfl (lv_at hl 3 rfl) ?_
              refine lv_aload_n hx hb dX1_thick_129 rfl (lv_at hl 1 rfl) ?_
              refine zw_getA S hW zC_X1 (i := 18) (by decide) (Or.inl q701) (fun _ h => h) dX1_thick_130 h (fun a_55 h => ?_)
              refine lv_iload hx hb dX1_thick_133 (lv_at hl 0 rfl) ?_
              refine zw_iald S hW dX1_thick_135 h (fun x_56 h => ?_)
              refine lv_aload_n hx hb dX1_thick_136 rfl (lv_at hl 1 rfl) ?_
              refine lv_iload_n hx hb dX1_thick_137 rfl (lv_at hl 3 rfl) ?_
              obtain ⟨⟨_, k_57⟩, h⟩ := zK_some h
              obtain ⟨x_60, h_58, h⟩ := bnd_some h
              refine d_callV (As := [.int x2]) (rest := [.int x_56, .int x2, .ref a_54]) S hW (metX1_costOf h_58) (cwX1_costOf_V S.2.2.2.2 q1326 ⟨Nat.le_of_ble_eq_true rfl, Nat.le_of_ble_eq_true rfl⟩) k_57 rfl rfl hl.1 rfl (Nat.le_of_ble_eq_true rfl) dX1_thick_138 ⟨(Nat.le_of_ble_eq_true rfl), (Nat.le_of_ble_eq_true rfl)⟩ rfl (fun H locs hW => ?_)
              refine lv_iadd hx hb dX1_thick_141 ?_
              refine zw_iast S hW dX1_thick_142 h (fun Z_61 h H locs hW => ?_)
              refine lv_iconst (v := 1) hx hb dX1_thick_143 (by decide) ?_
              refine lv_istore_n (lv' := [(1, .int 1), (4, .int x_41), (0, .ref x0), (2, .int x2), (3, .int x3)]) hx hb dX1_thick_144 rfl hl (by decide) rfl (fun ls hl => ?_)
              obtain ⟨x_62, e_63, h⟩ := nmI_some h
              refine lv_iinc (v := x_62) (lv' := [(3, .int x_62), (1, .int 1), (4, .int x_41), (0, .ref x0), (2, .int x2)]) hx hb dX1_thick_145 hl (k := 4) rfl (by rw [e_63]; rfl) (by decide) rfl (fun ls hl => ?_)
              refine lv_goto (tgt := 70) hx hb dX1_thick_148 (by decide) ?_
              exact ih 1 x_62 Z_61 out _ _ _ h hW (lv_sub hl [3, 1, 4, 0] rfl) k1
            · have h := if_f h c_53
              refine lv_goto (tgt := 145) hx hb dX1_thick_121 (by decide) ?_
              obtain ⟨x_64, e_65, h⟩ := nmI_some h
              refine lv_iinc (v := x_64) (lv' := [(3, .int x_64), (4, .int x_41), (0, .ref x0), (1, .int x1), (2, .int x2)]) hx hb dX1_thick_145 hl (k := 4) rfl (by rw [e_65]; rfl) (by decide) rfl (fun ls hl => ?_)
              refine lv_goto (tgt := 70) hx hb dX1_thick_148 (by decide) ?_
              exact ih x1 x_64 Z out _ _ _ h hW (lv_sub hl [2, 3, 4, 0] rfl) k1
  have Lp61 : ∀ (x0 : Nat) (n : Nat) (x1 : Int32) (x2 : Int32) (Z : c_S) (out : (Int32 × c_S)) (H : Heap) (locs : List Loc) (ls : Array Slot), cm_X1_thick_L61 x0 n x1 x2 Z = some out → z_W gp D K (z_A Z0) s Z H locs → lv_has ls 5 [(0, .ref x0), (1, .int x1), (2, .int x2)] → (∀ (o1 : Int32) (oZ : c_S), out = (o1, oZ) → ∀ (H : Heap) (locs : List Loc) (ls : Array Slot), z_W gp D K (z_A Z0) s oZ H locs → lv_has ls 5 [(0, .ref x0), (1, .int o1)] → W p l e rmX1_thick s m ([.ref a0] : List Value).toArray below meth c H locs 0 0 (MQ below (z_Q (.returned (some (.int r))) D K (z_A Z0) Z') ([.ref a0] : List Value).toArray s 0 0 (z_A Z0)) (F0 m 157 ls [])) → W p l e rmX1_thick s m ([.ref a0] : List Value).toArray below meth c H locs 0 0 (MQ below (z_Q (.returned (some (.int r))) D K (z_A Z0) Z') ([.ref a0] : List Value).toArray s 0 0 (z_A Z0)) (F0 m 61 ls []) := by
    intro x0 n
    induction n with
    | zero =>
      intro x1 x2 Z out H locs ls h
      exact (lp_0 h).elim
    | succ n ih =>
      intro x1 x2 Z out H locs ls h hW hl k1
      rw [cm_X1_thick_L61_s] at h
      unfold cm_X1_thick_B61 at h
      refine lv_iload_n hx hb dX1_thick_61 rfl (lv_at hl 2 rfl) ?_
      refine lv_sipush (v := 144) hx hb dX1_thick_62 (by decide) ?_
      refine lv_icmp_ge (tgt := 157) hx hb dX1_thick_65 (by decide) (fun c_31 => ?_) (fun c_31 => ?_)
      · have h := if_t h c_31
        exact k1 _ _ (Option.some.inj h).symm _ _ _ hW (lv_sub hl [0, 1] rfl)
      · have h := if_f h c_31
        refine lv_iconst (v := 0) hx hb dX1_thick_68 (by decide) ?_
        refine lv_istore_n (lv' := [(3, .int 0), (0, .ref x0), (1, .int x1), (2, .int x2)]) hx hb dX1_thick_69 rfl hl (by decide) rfl (fun ls hl => ?_)
        obtain ⟨x_68, Z_69, h_67, h⟩ := bnd2_some h
        refine Lp70 x0 x2 100000 x1 0 Z  _ _ _ _ h_67 hW (lv_sub hl [1, 2, 3, 0] rfl) ?_
        intro w0 w1 eo H locs ls hW hl
        cases eo
        obtain ⟨x_70, e_71, h⟩ := nmI_some h
        refine lv_iinc (v := x_70) (lv' := [(2, .int x_70), (0, .ref x0), (1, .int x_68)]) hx hb dX1_thick_151 hl (k := 2) rfl (by rw [e_71]; rfl) (by decide) rfl (fun ls hl => ?_)
        refine lv_goto (tgt := 61) hx hb dX1_thick_154 (by decide) ?_
        exact ih x_68 x_70 Z_69 out _ _ _ h hW (lv_sub hl [1, 2, 0] rfl) k1
  have Lp53 : ∀ (x0 : Nat) (n : Nat) (x1 : Int32) (Z : c_S) (out : (c_S)) (H : Heap) (locs : List Loc) (ls : Array Slot), cm_X1_thick_L53 x0 n x1 Z = some out → z_W gp D K (z_A Z0) s Z H locs → lv_has ls 5 [(0, .ref x0), (1, .int x1)] → (∀ (oZ : c_S), out = oZ → ∀ (H : Heap) (locs : List Loc) (ls : Array Slot), z_W gp D K (z_A Z0) s oZ H locs → lv_has ls 5 [(0, .ref x0)] → W p l e rmX1_thick s m ([.ref a0] : List Value).toArray below meth c H locs 0 0 (MQ below (z_Q (.returned (some (.int r))) D K (z_A Z0) Z') ([.ref a0] : List Value).toArray s 0 0 (z_A Z0)) (F0 m 160 ls [])) → W p l e rmX1_thick s m ([.ref a0] : List Value).toArray below meth c H locs 0 0 (MQ below (z_Q (.returned (some (.int r))) D K (z_A Z0) Z') ([.ref a0] : List Value).toArray s 0 0 (z_A Z0)) (F0 m 53 ls []) := by
    intro x0 n
    induction n with
    | zero =>
      intro x1 Z out H locs ls h
      exact (lp_0 h).elim
    | succ n ih =>
      intro x1 Z out H locs ls h hW hl k1
      rw [cm_X1_thick_L53_s] at h
      unfold cm_X1_thick_B53 at h
      refine lv_iload_n hx hb dX1_thick_53 rfl (lv_at hl 1 rfl) ?_
      refine lv_if_eq (tgt := 160) hx hb dX1_thick_54 (by decide) (fun c_30 => ?_) (fun c_30 => ?_)
      · have h := if_t h c_30
        exact k1 _ (Option.some.inj h).symm _ _ _ hW (lv_sub hl [0] rfl)
      · have h := if_f h c_30
        refine lv_iconst (v := 0) hx hb dX1_thick_57 (by decide) ?_
        refine lv_istore_n (lv' := [(1, .int 0), (0, .ref x0)]) hx hb dX1_thick_58 rfl hl (by decide) rfl (fun ls hl => ?_)
        refine lv_iconst (v := 0) hx hb dX1_thick_59 (by decide) ?_
        refine lv_istore_n (lv' := [(2, .int 0), (1, .int 0), (0, .ref x0)]) hx hb dX1_thick_60 rfl hl (by decide) rfl (fun ls hl => ?_)
        obtain ⟨x_74, Z_75, h_73, h⟩ := bnd2_some h
        refine Lp61 x0 100000 0 0 Z  _ _ _ _ h_73 hW (lv_sub hl [2, 1, 0] rfl) ?_
        intro w0 w1 eo H locs ls hW hl
        cases eo
        refine lv_goto (tgt := 53) hx hb dX1_thick_157 (by decide) ?_
        exact ih x_74 Z_75 out _ _ _ h hW hl k1
  have Lp166 : ∀ (x0 : Nat) (Z : c_S) (n : Nat) (x2 : Int32) (x3 : Int32) (out : (Int32)) (H : Heap) (locs : List Loc) (ls : Array Slot), cm_X1_thick_L166 x0 Z n x2 x3 = some out → z_W gp D K (z_A Z0) s Z H locs → lv_has ls 5 [(0, .ref x0), (2, .int x2), (3, .int x3)] → (∀ (o2 : Int32), out = o2 → ∀ (H : Heap) (locs : List Loc) (ls : Array Slot), z_W gp D K (z_A Z0) s Z H locs → lv_has ls 5 [(2, .int o2)] → W p l e rmX1_thick s m ([.ref a0] : List Value).toArray below meth c H locs 0 0 (MQ below (z_Q (.returned (some (.int r))) D K (z_A Z0) Z') ([.ref a0] : List Value).toArray s 0 0 (z_A Z0)) (F0 m 197 ls [])) → W p l e rmX1_thick s m ([.ref a0] : List Value).toArray below meth c H locs 0 0 (MQ below (z_Q (.returned (some (.int r))) D K (z_A Z0) Z') ([.ref a0] : List Value).toArray s 0 0 (z_A Z0)) (F0 m 166 ls []) := by
    intro x0 Z n
    induction n with
    | zero =>
      intro x2 x3 out H locs ls h
      exact (lp_0 h).elim
    | succ n ih =>
      intro x2 x3 out H locs ls h hW hl k1
      rw [cm_X1_thick_L166_s] at h
      unfold cm_X1_thick_B166 at h
      refine lv_iload_n hx hb dX1_thick_166 rfl (lv_at hl 2 rfl) ?_
      refine lv_sipush (v := 144) hx hb dX1_thick_167 (by decide) ?_
      refine lv_icmp_ge (tgt := 197) hx hb dX1_thick_170 (by decide) (fun c_79 => ?_) (fun c_79 => ?_)
      · have h := if_t h c_79
        exact k1 _ (Option.some.inj h).symm _ _ _ hW (lv_sub hl [1] rfl)
      · have h := if_f h c_79
        refine lv_iload_n hx hb dX1_thick_173 rfl (lv_at hl 2 rfl) ?_
        obtain ⟨x_82, h_80, h⟩ := bnd_some h
        refine d_callSN (As := [.int x3]) (rest := []) S hW (metX0_isRim h_80) (cwX0_isRim_SN S.2.2.2.2 (hW.1.2.2.2.2.1.2.2.2.2.1 _ (nestW_in q1174 rfl)) ⟨Nat.le_of_ble_eq_true rfl, Nat.le_of_ble_eq_true rfl⟩) rfl hl.1 rfl (Nat.le_of_ble_eq_true rfl) dX1_thick_174 ⟨(Nat.le_of_ble_eq_true rfl), (Nat.le_of_ble_eq_true rfl)⟩ rfl (fun H locs hW => ?_)
        refine lv_if_eq (tgt := 191) hx hb dX1_thick_177 (by decide) (fun c_83 => ?_) (fun c_83 => ?_)
        · have h := if_t h c_83
          obtain ⟨x_84, e_85, h⟩ := nmI_some h
          refine lv_iinc (v := x_84) (lv' := [(3, .int x_84), (0, .ref x0), (2, .int x2)]) hx hb dX1_thick_191 hl (k := 2) rfl (by rw [e_85]; rfl) (by decide) rfl (fun ls hl => ?_)
          refine lv_goto (tgt := 166) hx hb dX1_thick_194 (by decide) ?_
          exact ih x2 x_84 out _ _ _ h hW (lv_sub hl [1, 2, 0] rfl) k1
        · have h := if_f h c_83
          refine lv_iload_n hx hb dX1_thick_180 rfl (lv_at hl 1 rfl) ?_
          refine lv_aload_n hx hb dX1_thick_181 rfl (lv_at hl 0 rfl) ?_
          refine zw_getA S hW zC_X1 (i := 18) (by decide) (Or.inl q701) (fun _ h => h) dX1_thick_182 h (fun a_86 h => ?_)
          refine lv_iload_n hx hb dX1_thick_185 rfl (lv_at hl 2 rfl) ?_
          refine zw_iald S hW dX1_thick_186 h (fun x_87 h => ?_)
          refine va_mmin hx hb (S.2.2.1.trans hl.1.symm) S.2.2.2.1 (S.2.2.2.2 _ q1127) (S.2.2.2.2 _ q633) (S.2.2.2.2 _ q117) (S.2.2.2.2 _ mc_min) (Nat.le_of_ble_eq_true rfl) (zm_lo (z_ro (Nat.le_of_ble_eq_true rfl)) (Nat.le_of_ble_eq_true rfl)) (Nat.le_of_ble_eq_true rfl) (Nat.le_of_ble_eq_true rfl) dX1_thick_187 ?_
          obtain ⟨x_88, e_89, h⟩ := nmI_some h
          refine g_nmi e_89 ?_
          refine lv_istore_n (lv' := [(2, .int x_88), (0, .ref x0), (3, .int x3)]) hx hb dX1_thick_190 rfl hl (by decide) rfl (fun ls hl => ?_)
          obtain ⟨x_90, e_91, h⟩ := nmI_some h
          refine lv_iinc (v := x_90) (lv' := [(3, .int x_90), (2, .int x_88), (0, .ref x0)]) hx hb dX1_thick_191 hl (k := 2) rfl (by rw [e_91]; rfl) (by decide) rfl (fun ls hl => ?_)
          refine lv_goto (tgt := 166) hx hb dX1_thick_194 (by decide) ?_
          exact ih x_88 x_90 out _ _ _ h hW (lv_sub hl [2, 1, 0] rfl) k1
  unfold cm_X1_thick at h
  refine lv_iconst (v := 0) hx hb dX1_thick_0 (by decide) ?_
  refine lv_istore_n (lv' := [(1, .int 0), (0, .ref a0)]) hx hb dX1_thick_1 rfl hl (by decide) rfl (fun ls hl => ?_)
  obtain ⟨Z_29, h_28, h⟩ := bnd_some h
  refine Lp2 a0 100000 0 Z0  _ _ _ _ h_28 hW (lv_sub hl [1, 0] rfl) ?_
  intro w0 eo H locs ls hW hl
  subst eo
  refine lv_iconst (v := 1) hx hb dX1_thick_51 (by decide) ?_
  refine lv_istore_n (lv' := [(1, .int 1), (0, .ref a0)]) hx hb dX1_thick_52 rfl hl (by decide) rfl (fun ls hl => ?_)
  obtain ⟨Z_78, h_77, h⟩ := bnd_some h
  refine Lp53 a0 100000 1 Z_29  _ _ _ _ h_77 hW (lv_sub hl [1, 0] rfl) ?_
  intro w0 eo H locs ls hW hl
  subst eo
  refine lv_sipush (v := 144) hx hb dX1_thick_160 (by decide) ?_
  refine lv_istore_n (lv' := [(2, .int 144), (0, .ref a0)]) hx hb dX1_thick_163 rfl hl (by decide) rfl (fun ls hl => ?_)
  refine lv_iconst (v := 0) hx hb dX1_thick_164 (by decide) ?_
  refine lv_istore_n (lv' := [(3, .int 0), (2, .int 144), (0, .ref a0)]) hx hb dX1_thick_165 rfl hl (by decide) rfl (fun ls hl => ?_)
  obtain ⟨x_94, h_93, h⟩ := bnd_some h
  refine Lp166 a0 Z_78 100000 144 0  _ _ _ _ h_93 hW (lv_sub hl [2, 1, 0] rfl) ?_
  intro w0 eo H locs ls hW hl
  subst eo
  refine lv_iload_n hx hb dX1_thick_197 rfl (lv_at hl 0 rfl) ?_
  cases h
  exact d_iret S hr hlk hW (Nat.le_of_ble_eq_true rfl) (Nat.le_of_ble_eq_true rfl) dX1_thick_198
