/-! walks of the component: X1_isBesideShaft X1_costOf X14_goesIn X14_sends X3_whole X3_next -/
set_option maxRecDepth 100000
def cm_X1_isBesideShaft_B4 (x0 : Nat) (x1 : Int32) (Z : c_S) (rec : Int32 → Int32 → Option (Int32)) (x2 : Int32) (x3 : Int32) : Option (Int32) :=
  if 4 ≤ x3 then (some x2) else (if x2 = 0 then (bnd (cm_X0_beside x1 x3) (fun x_7 => if x_7 = (-1) then (nmI (x3 + 1) fun x_9 => rec 0 x_9) else (cA Z.Sh x0 1 20 0 fun a_11 => bnd (cm_X0_beside x1 x3) (fun x_14 => zK Z a_11 2 13 <| bnd (cm_X2_isShaft Z a_11 x_14) (fun x_18 => if x_18 = 0 then (nmI (x3 + 1) fun x_20 => rec 0 x_20) else (nmI (x3 + 1) fun x_22 => rec 1 x_22)))))) else (nmI (x3 + 1) fun x_3 => rec 1 x_3))
abbrev cm_X1_isBesideShaft_F4 (x0 : Nat) (x1 : Int32) (Z : c_S) : (((Int32) × (Int32)) → Option (Int32)) → ((Int32) × (Int32)) → Option (Int32) := fun rec s => cm_X1_isBesideShaft_B4 x0 x1 Z (fun x2 x3 => rec (x2, x3)) s.1 s.2
def cm_X1_isBesideShaft_L4 (x0 : Nat) (x1 : Int32) (Z : c_S) (n : Nat) (x2 : Int32) (x3 : Int32) : Option (Int32) := lp (cm_X1_isBesideShaft_F4 x0 x1 Z) n (x2, x3)
theorem cm_X1_isBesideShaft_L4_s (x0 : Nat) (x1 : Int32) (Z : c_S) (n : Nat) (x2 : Int32) (x3 : Int32) : cm_X1_isBesideShaft_L4 x0 x1 Z (n + 1) x2 x3 = cm_X1_isBesideShaft_B4 x0 x1 Z (fun x2 x3 => cm_X1_isBesideShaft_L4 x0 x1 Z n x2 x3) x2 x3 := lp_s (cm_X1_isBesideShaft_F4 x0 x1 Z) n (x2, x3)
def cm_X1_isBesideShaft (Z0 : c_S) (a0 : Nat) (a1 : Int32) : Option (Int32) :=
  bnd (cm_X1_isBesideShaft_L4 a0 a1 Z0 1000 0 0) (fun x_26 => okI (isB x_26) <| some x_26)
abbrev rmX1_isBesideShaft : Room := rmD 2 46 0 0
theorem cwX2_isShaft_V {own : String} {R : Room} {s : State} {args : Array Value} {index : Nat} (hts : ∀ w ∈ lw_all, w.before args s = true) (hl : Cond.methodLink own index yX2_isShaft ∈ lw_all) (hR : rmX2_isShaft.frames + 1 ≤ R.frames ∧ 8 + (2 + 11) + rmX2_isShaft.locals ≤ R.locals) : CallW R s args own RX2 index yX2_isShaft cX2_isShaft 2 (some .boolean) (ws_ yX2_isShaft cX2_isShaft 2 (some .boolean)) rmX2_isShaft 0 0 1 := cwV 1 hts (lw_V hl q1165 q1166 q107 q1167) rfl rfl rfl (by decide +kernel) hR
set_option maxHeartbeats 4000000 in
theorem metX1_isBesideShaft {l : Launch} {gp : Nat → Nat} {D : va_G} {K : Nat → ClassId} {Z0 : c_S} {a0 : Nat} {a1 : Int32} {r : Int32} (h : cm_X1_isBesideShaft Z0 a0 a1 = some r) : Met l yX1_isBesideShaft (ws_ yX1_isBesideShaft cX1_isBesideShaft 4 (some .boolean)) rmX1_isBesideShaft (z_Pc gp [.ref a0, .int a1] D K Z0) (z_Q (.returned (some (.int r))) D K (z_A Z0) Z0) 0 0 (z_A Z0) := by
  refine d_met rfl (Nat.le_of_ble_eq_true rfl) ?_
  intro p e s m below meth c ls S hr hlk hnm hl hW hsz
  have S : CallFix p m c cX1_isBesideShaft 4 s ([.ref a0, .int a1] : List Value).toArray lw_all RX1 := S
  have hx := S.1
  have hb := S.2.1
  have hl : lv_has ls 4 [(0, .ref a0), (1, .int a1)] := hl
  have hnm : meth.name = "isBesideShaft" := hnm
  have Lp4 : ∀ (x0 : Nat) (x1 : Int32) (Z : c_S) (n : Nat) (x2 : Int32) (x3 : Int32) (out : (Int32)) (H : Heap) (locs : List Loc) (ls : Array Slot), cm_X1_isBesideShaft_L4 x0 x1 Z n x2 x3 = some out → z_W gp D K (z_A Z0) s Z H locs → lv_has ls 4 [(0, .ref x0), (1, .int x1), (2, .int x2), (3, .int x3)] → (∀ (o2 : Int32), out = o2 → ∀ (H : Heap) (locs : List Loc) (ls : Array Slot), z_W gp D K (z_A Z0) s Z H locs → lv_has ls 4 [(2, .int o2)] → W p l e rmX1_isBesideShaft s m ([.ref a0, .int a1] : List Value).toArray below meth c H locs 0 0 (MQ below (z_Q (.returned (some (.int r))) D K (z_A Z0) Z0) ([.ref a0, .int a1] : List Value).toArray s 0 0 (z_A Z0)) (F0 m 49 ls [])) → W p l e rmX1_isBesideShaft s m ([.ref a0, .int a1] : List Value).toArray below meth c H locs 0 0 (MQ below (z_Q (.returned (some (.int r))) D K (z_A Z0) Z0) ([.ref a0, .int a1] : List Value).toArray s 0 0 (z_A Z0)) (F0 m 4 ls []) := by
    intro x0 x1 Z n
    induction n with
    | zero =>
      intro x2 x3 out H locs ls h
      exact (lp_0 h).elim
    | succ n ih =>
      intro x2 x3 out H locs ls h hW hl k1
      rw [cm_X1_isBesideShaft_L4_s] at h
      unfold cm_X1_isBesideShaft_B4 at h
      refine lv_iload_n hx hb dX1_isBesideShaft_4 rfl (lv_at hl 3 rfl) ?_
      refine lv_iconst (v := 4) hx hb dX1_isBesideShaft_5 (by decide) ?_
      refine lv_icmp_ge (tgt := 49) hx hb dX1_isBesideShaft_6 (by decide) (fun c_1 => ?_) (fun c_1 => ?_)
      · have h := if_t h c_1
        exact k1 _ (Option.some.inj h).symm _ _ _ hW (lv_sub hl [2] rfl)
      · have h := if_f h c_1
        refine lv_iload_n hx hb dX1_isBesideShaft_9 rfl (lv_at hl 2 rfl) ?_
        refine lv_if_ne (tgt := 37) hx hb dX1_isBesideShaft_10 (by decide) (fun c_2 => ?_) (fun c_2 => ?_)
        · have h := if_f h c_2
          refine lv_iconst (v := 1) hx hb dX1_isBesideShaft_37 (by decide) ?_
          refine lv_goto (tgt := 42) hx hb dX1_isBesideShaft_38 (by decide) ?_
          refine lv_istore_n (lv' := [(2, .int 1), (0, .ref x0), (1, .int x1), (3, .int x3)]) hx hb dX1_isBesideShaft_42 rfl hl (by decide) rfl (fun ls hl => ?_)
          obtain ⟨x_3, e_4, h⟩ := nmI_some h
          refine lv_iinc (v := x_3) (lv' := [(3, .int x_3), (2, .int 1), (0, .ref x0), (1, .int x1)]) hx hb dX1_isBesideShaft_43 hl (k := 3) rfl (by rw [e_4]; rfl) (by decide) rfl (fun ls hl => ?_)
          refine lv_goto (tgt := 4) hx hb dX1_isBesideShaft_46 (by decide) ?_
          exact ih 1 x_3 out _ _ _ h hW (lv_sub hl [2, 3, 1, 0] rfl) k1
        · have h := if_t h c_2
          refine lv_iload_n hx hb dX1_isBesideShaft_13 rfl (lv_at hl 1 rfl) ?_
          refine lv_iload_n hx hb dX1_isBesideShaft_14 rfl (lv_at hl 3 rfl) ?_
          obtain ⟨x_7, h_5, h⟩ := bnd_some h
          refine d_callSN (As := [.int x1, .int x3]) (rest := []) S hW (metX0_beside h_5) (cwX0_beside_SN S.2.2.2.2 (hW.1.2.2.2.2.1.2.2.2.2.1 _ (nestW_in q1112 rfl)) ⟨Nat.le_of_ble_eq_true rfl, Nat.le_of_ble_eq_true rfl⟩) rfl hl.1 rfl (Nat.le_of_ble_eq_true rfl) dX1_isBesideShaft_15 ⟨(Nat.le_of_ble_eq_true rfl), (Nat.le_of_ble_eq_true rfl)⟩ rfl (fun H locs hW => ?_)
          refine lv_iconst (v := (-1)) hx hb dX1_isBesideShaft_18 (by decide) ?_
          refine lv_icmp_eq (tgt := 41) hx hb dX1_isBesideShaft_19 (by decide) (fun c_8 => ?_) (fun c_8 => ?_)
          · have h := if_t h c_8
            refine lv_iconst (v := 0) hx hb dX1_isBesideShaft_41 (by decide) ?_
            refine lv_istore_n (lv' := [(2, .int 0), (0, .ref x0), (1, .int x1), (3, .int x3)]) hx hb dX1_isBesideShaft_42 rfl hl (by decide) rfl (fun ls hl => ?_)
            obtain ⟨x_9, e_10, h⟩ := nmI_some h
            refine lv_iinc (v := x_9) (lv' := [(3, .int x_9), (2, .int 0), (0, .ref x0), (1, .int x1)]) hx hb dX1_isBesideShaft_43 hl (k := 3) rfl (by rw [e_10]; rfl) (by decide) rfl (fun ls hl => ?_)
            refine lv_goto (tgt := 4) hx hb dX1_isBesideShaft_46 (by decide) ?_
            exact ih 0 x_9 out _ _ _ h hW (lv_sub hl [2, 3, 1, 0] rfl) k1
          · have h := if_f h c_8
            refine lv_aload_n hx hb dX1_isBesideShaft_22 rfl (lv_at hl 0 rfl) ?_
            refine zw_getA S hW zC_X1 (i := 0) (by decide) (Or.inl q665) (fun _ h => h) dX1_isBesideShaft_23 h (fun a_11 h => ?_)
            refine lv_iload_n hx hb dX1_isBesideShaft_26 rfl (lv_at hl 1 rfl) ?_
            refine lv_iload_n hx hb dX1_isBesideShaft_27 rfl (lv_at hl 3 rfl) ?_
            obtain ⟨x_14, h_12, h⟩ := bnd_some h
            refine d_callSN (As := [.int x1, .int x3]) (rest := [.ref a_11]) S hW (metX0_beside h_12) (cwX0_beside_SN S.2.2.2.2 (hW.1.2.2.2.2.1.2.2.2.2.1 _ (nestW_in q1112 rfl)) ⟨Nat.le_of_ble_eq_true rfl, Nat.le_of_ble_eq_true rfl⟩) rfl hl.1 rfl (Nat.le_of_ble_eq_true rfl) dX1_isBesideShaft_28 ⟨(Nat.le_of_ble_eq_true rfl), (Nat.le_of_ble_eq_true rfl)⟩ rfl (fun H locs hW => ?_)
            obtain ⟨⟨_, k_15⟩, h⟩ := zK_some h
            obtain ⟨x_18, h_16, h⟩ := bnd_some h
            refine d_callV (As := [.int x_14]) (rest := []) S hW (metX2_isShaft h_16) (cwX2_isShaft_V S.2.2.2.2 q1164 ⟨Nat.le_of_ble_eq_true rfl, Nat.le_of_ble_eq_true rfl⟩) k_15 rfl rfl hl.1 rfl (Nat.le_of_ble_eq_true rfl) dX1_isBesideShaft_31 ⟨(Nat.le_of_ble_eq_true rfl), (Nat.le_of_ble_eq_true rfl)⟩ rfl (fun H locs hW => ?_)
            refine lv_if_eq (tgt := 41) hx hb dX1_isBesideShaft_34 (by decide) (fun c_19 => ?_) (fun c_19 => ?_)
            · have h := if_t h c_19
              refine lv_iconst (v := 0) hx hb dX1_isBesideShaft_41 (by decide) ?_
              refine lv_istore_n (lv' := [(2, .int 0), (0, .ref x0), (1, .int x1), (3, .int x3)]) hx hb dX1_isBesideShaft_42 rfl hl (by decide) rfl (fun ls hl => ?_)
              obtain ⟨x_20, e_21, h⟩ := nmI_some h
              refine lv_iinc (v := x_20) (lv' := [(3, .int x_20), (2, .int 0), (0, .ref x0), (1, .int x1)]) hx hb dX1_isBesideShaft_43 hl (k := 3) rfl (by rw [e_21]; rfl) (by decide) rfl (fun ls hl => ?_)
              refine lv_goto (tgt := 4) hx hb dX1_isBesideShaft_46 (by decide) ?_
              exact ih 0 x_20 out _ _ _ h hW (lv_sub hl [2, 3, 1, 0] rfl) k1
            · have h := if_f h c_19
              refine lv_iconst (v := 1) hx hb dX1_isBesideShaft_37 (by decide) ?_
              refine lv_goto (tgt := 42) hx hb dX1_isBesideShaft_38 (by decide) ?_
              refine lv_istore_n (lv' := [(2, .int 1), (0, .ref x0), (1, .int x1), (3, .int x3)]) hx hb dX1_isBesideShaft_42 rfl hl (by decide) rfl (fun ls hl => ?_)
              obtain ⟨x_22, e_23, h⟩ := nmI_some h
              refine lv_iinc (v := x_22) (lv' := [(3, .int x_22), (2, .int 1), (0, .ref x0), (1, .int x1)]) hx hb dX1_isBesideShaft_43 hl (k := 3) rfl (by rw [e_23]; rfl) (by decide) rfl (fun ls hl => ?_)
              refine lv_goto (tgt := 4) hx hb dX1_isBesideShaft_46 (by decide) ?_
              exact ih 1 x_22 out _ _ _ h hW (lv_sub hl [2, 3, 1, 0] rfl) k1
  unfold cm_X1_isBesideShaft at h
  refine lv_iconst (v := 0) hx hb dX1_isBesideShaft_0 (by decide) ?_
  refine lv_istore_n (lv' := [(2, .int 0), (0, .ref a0), (1, .int a1)]) hx hb dX1_isBesideShaft_1 rfl hl (by decide) rfl (fun ls hl => ?_)
  refine lv_iconst (v := 0) hx hb dX1_isBesideShaft_2 (by decide) ?_
  refine lv_istore_n (lv' := [(3, .int 0), (2, .int 0), (0, .ref a0), (1, .int a1)]) hx hb dX1_isBesideShaft_3 rfl hl (by decide) rfl (fun ls hl => ?_)
  obtain ⟨x_26, h_25, h⟩ := bnd_some h
  refine Lp4 a0 a1 Z0 1000 0 0  _ _ _ _ h_25 hW (lv_sub hl [2, 3, 1, 0] rfl) ?_
  intro w0 eo H locs ls hW hl
  subst eo
  refine lv_iload_n hx hb dX1_isBesideShaft_49 rfl (lv_at hl 0 rfl) ?_
  obtain ⟨h_27, h⟩ := okI_some h
  cases h
  exact d_zret S hr hlk (isB_narrow h_27) hW (Nat.le_of_ble_eq_true rfl) (Nat.le_of_ble_eq_true rfl) dX1_isBesideShaft_50
def cm_X1_costOf (Z0 : c_S) (a0 : Nat) (a1 : Int32) : Option (Int32) :=
  zK Z0 a0 1 20 <| bnd (cm_X1_isFrozen Z0 a0 a1) (fun x_4 => if x_4 = 0 then (some 0) else (some 1))
abbrev rmX1_costOf : Room := rmD 2 42 0 0
set_option maxHeartbeats 4000000 in
theorem metX1_costOf {l : Launch} {gp : Nat → Nat} {D : va_G} {K : Nat → ClassId} {Z0 : c_S} {a0 : Nat} {a1 : Int32} {r : Int32} (h : cm_X1_costOf Z0 a0 a1 = some r) : Met l yX1_costOf (ws_ yX1_costOf cX1_costOf 2 (some .int)) rmX1_costOf (z_Pc gp [.ref a0, .int a1] D K Z0) (z_Q (.returned (some (.int r))) D K (z_A Z0) Z0) 0 0 (z_A Z0) := by
  refine d_met rfl (Nat.le_of_ble_eq_true rfl) ?_
  intro p e s m below meth c ls S hr hlk hnm hl hW hsz
  have S : CallFix p m c cX1_costOf 2 s ([.ref a0, .int a1] : List Value).toArray lw_all RX1 := S
  have hx := S.1
  have hb := S.2.1
  have hl : lv_has ls 2 [(0, .ref a0), (1, .int a1)] := hl
  have hnm : meth.name = "costOf" := hnm
  unfold cm_X1_costOf at h
  refine lv_aload_n hx hb dX1_costOf_0 rfl (lv_at hl 0 rfl) ?_
  refine lv_iload_n hx hb dX1_costOf_1 rfl (lv_at hl 1 rfl) ?_
  obtain ⟨⟨_, k_1⟩, h⟩ := zK_some h
  obtain ⟨x_4, h_2, h⟩ := bnd_some h
  refine d_callV (As := [.int a1]) (rest := []) S hW (metX1_isFrozen h_2) (cwX1_isFrozen_V S.2.2.2.2 q1119 ⟨Nat.le_of_ble_eq_true rfl, Nat.le_of_ble_eq_true rfl⟩) k_1 rfl rfl hl.1 rfl (Nat.le_of_ble_eq_true rfl) dX1_costOf_2 ⟨(Nat.le_of_ble_eq_true rfl), (Nat.le_of_ble_eq_true rfl)⟩ rfl (fun H locs hW => ?_)
  refine lv_if_eq (tgt := 12) hx hb dX1_costOf_5 (by decide) (fun c_5 => ?_) (fun c_5 => ?_)
  · have h := if_t h c_5
    refine lv_iconst (v := 0) hx hb dX1_costOf_12 (by decide) ?_
    cases h
    exact d_iret S hr hlk hW (Nat.le_of_ble_eq_true rfl) (Nat.le_of_ble_eq_true rfl) dX1_costOf_13
  · have h := if_f h c_5
    refine lv_iconst (v := 1) hx hb dX1_costOf_8 (by decide) ?_
    refine lv_goto (tgt := 13) hx hb dX1_costOf_9 (by decide) ?_
    cases h
    exact d_iret S hr hlk hW (Nat.le_of_ble_eq_true rfl) (Nat.le_of_ble_eq_true rfl) dX1_costOf_13
def cm_X14_goesIn_B23 (x0 : Nat) (x1 : Int32) (rec : Int32 → c_S → Option (c_S)) (x2 : Int32) (Z : c_S) : Option (c_S) :=
  if 4 ≤ x2 then (some Z) else (bnd (cm_X0_beside x1 x2) (fun x_7 => if x_7 = (-1) then (nmI (x2 + 1) fun x_9 => rec x_9 Z) else (cA Z.Sh x0 13 9 4 fun a_11 => caR Z.Sh 11 a_11 x_7 fun o_12 => bnd (cm_X14_back x2) (fun x_15 => nn o_12 fun a_16 => caI Z.Sh Z.V 2 a_16 x_15 fun x_17 => if x_17 = 0 then (nmI (x2 + 1) fun x_19 => rec x_19 Z) else (zK Z x0 13 9 <| bnd (cm_X14_come Z x0 ((2 * x_7) + 1) (2 * x1)) (fun Z_24 => nmI (x2 + 1) fun x_25 => rec x_25 Z_24))))))
abbrev cm_X14_goesIn_F23 (x0 : Nat) (x1 : Int32) : (((Int32) × (c_S)) → Option (c_S)) → ((Int32) × (c_S)) → Option (c_S) := fun rec s => cm_X14_goesIn_B23 x0 x1 (fun x2 Z => rec (x2, Z)) s.1 s.2
def cm_X14_goesIn_L23 (x0 : Nat) (x1 : Int32) (n : Nat) (x2 : Int32) (Z : c_S) : Option (c_S) := lp (cm_X14_goesIn_F23 x0 x1) n (x2, Z)
theorem cm_X14_goesIn_L23_s (x0 : Nat) (x1 : Int32) (n : Nat) (x2 : Int32) (Z : c_S) : cm_X14_goesIn_L23 x0 x1 (n + 1) x2 Z = cm_X14_goesIn_B23 x0 x1 (fun x2 Z => cm_X14_goesIn_L23 x0 x1 n x2 Z) x2 Z := lp_s (cm_X14_goesIn_F23 x0 x1) n (x2, Z)
def cm_X14_goesIn_J21 (y0 : Nat) (y1 : Int32) (Z : c_S) : Option (c_S) :=
  bnd (cm_X14_goesIn_L23 y0 y1 1000 0 Z) (fun Z_29 => some Z_29)
def cm_X14_goesIn (Z0 : c_S) (a0 : Nat) (a1 : Int32) : Option (c_S) :=
  cA Z0.Sh a0 13 9 1 fun a_1 => caI Z0.Sh Z0.V 2 a_1 a1 fun x_2 => if x_2 = 0 then (zK Z0 a0 13 9 <| bnd (cm_X14_come Z0 a0 ((2 * a1) + 1) (2 * a1)) (fun Z_33 => cm_X14_goesIn_J21 a0 a1 Z_33)) else (cm_X14_goesIn_J21 a0 a1 Z0)
abbrev rmX14_goesIn : Room := rmD 1 22 0 0
theorem cwX14_back_S {own : String} {R : Room} {s : State} {args : Array Value} {index : Nat} (hts : ∀ w ∈ lw_all, w.before args s = true) (hl : Cond.methodLink own index yX14_back ∈ lw_all) (hR : rmX14_back.frames + 1 ≤ R.frames ∧ 8 + (1 + 11) + rmX14_back.locals ≤ R.locals) : CallB R s args own index yX14_back cX14_back 1 (some .int) (ws_ yX14_back cX14_back 1 (some .int)) rmX14_back 0 0 1 ∧ (Cond.static yX14_back).before args s = true := va_cwS 1 hts (lw_S hl q1266 q133 q1267) rfl rfl rfl (by decide +kernel) hR
set_option maxHeartbeats 4000000 in
theorem metX14_goesIn {l : Launch} {gp : Nat → Nat} {D : va_G} {K : Nat → ClassId} {Z0 : c_S} {a0 : Nat} {a1 : Int32} {Z' : c_S} (h : cm_X14_goesIn Z0 a0 a1 = some Z') : Met l yX14_goesIn (ws_ yX14_goesIn cX14_goesIn 4 (none)) rmX14_goesIn (z_Pc gp [.ref a0, .int a1] D K Z0) (z_Q (.returned (none)) D K (z_A Z0) Z') 0 0 (z_A Z0) := by
  refine d_met rfl (Nat.le_of_ble_eq_true rfl) ?_
  intro p e s m below meth c ls S hr hlk hnm hl hW hsz
  have S : CallFix p m c cX14_goesIn 4 s ([.ref a0, .int a1] : List Value).toArray lw_all RX14 := S
  have hx := S.1
  have hb := S.2.1
  have hl : lv_has ls 4 [(0, .ref a0), (1, .int a1)] := hl
  have hnm : meth.name = "goesIn" := hnm
  have Lp23 : ∀ (x0 : Nat) (x1 : Int32) (n : Nat) (x2 : Int32) (Z : c_S) (out : (c_S)) (H : Heap) (locs : List Loc) (ls : Array Slot), cm_X14_goesIn_L23 x0 x1 n x2 Z = some out → z_W gp D K (z_A Z0) s Z H locs → lv_has ls 4 [(0, .ref x0), (1, .int x1), (2, .int x2)] → (∀ (oZ : c_S), out = oZ → ∀ (H : Heap) (locs : List Loc) (ls : Array Slot), z_W gp D K (z_A Z0) s oZ H locs → lv_has ls 4 [] → W p l e rmX14_goesIn s m ([.ref a0, .int a1] : List Value).toArray below meth c H locs 0 0 (MQ below (z_Q (.returned (none)) D K (z_A Z0) Z') ([.ref a0, .int a1] : List Value).toArray s 0 0 (z_A Z0)) (F0 m 71 ls [])) → W p l e rmX14_goesIn s m ([.ref a0, .int a1] : List Value).toArray below meth c H locs 0 0 (MQ below (z_Q (.returned (none)) D K (z_A Z0) Z') ([.ref a0, .int a1] : List Value).toArray s 0 0 (z_A Z0)) (F0 m 23 ls []) := by
    intro x0 x1 n
    induction n with
    | zero =>
      intro x2 Z out H locs ls h
      exact (lp_0 h).elim
    | succ n ih =>
      intro x2 Z out H locs ls h hW hl k1
      rw [cm_X14_goesIn_L23_s] at h
      unfold cm_X14_goesIn_B23 at h
      refine lv_iload_n hx hb dX14_goesIn_23 rfl (lv_at hl 2 rfl) ?_
      refine lv_iconst (v := 4) hx hb dX14_goesIn_24 (by decide) ?_
      refine lv_icmp_ge (tgt := 71) hx hb dX14_goesIn_25 (by decide) (fun c_4 => ?_) (fun c_4 => ?_)
      · have h := if_t h c_4
        exact k1 _ (Option.some.inj h).symm _ _ _ hW (lv_sub hl [] rfl)
      · have h := if_f h c_4
        refine lv_iload_n hx hb dX14_goesIn_28 rfl (lv_at hl 1 rfl) ?_
        refine lv_iload_n hx hb dX14_goesIn_29 rfl (lv_at hl 2 rfl) ?_
        obtain ⟨x_7, h_5, h⟩ := bnd_some h
        refine d_callSN (As := [.int x1, .int x2]) (rest := []) S hW (metX0_beside h_5) (cwX0_beside_SN S.2.2.2.2 (hW.1.2.2.2.2.1.2.2.2.2.1 _ (nestW_in q1264 rfl)) ⟨Nat.le_of_ble_eq_true rfl, Nat.le_of_ble_eq_true rfl⟩) rfl hl.1 rfl (Nat.le_of_ble_eq_true rfl) dX14_goesIn_30 ⟨(Nat.le_of_ble_eq_true rfl), (Nat.le_of_ble_eq_true rfl)⟩ rfl (fun H locs hW => ?_)
        refine lv_istore_n (lv' := [(3, .int x_7), (0, .ref x0), (1, .int x1), (2, .int x2)]) hx hb dX14_goesIn_33 rfl hl (by decide) rfl (fun ls hl => ?_)
        refine lv_iload_n hx hb dX14_goesIn_34 rfl (lv_at hl 0 rfl) ?_
        refine lv_iconst (v := (-1)) hx hb dX14_goesIn_35 (by decide) ?_
        refine lv_icmp_eq (tgt := 65) hx hb dX14_goesIn_36 (by decide) (fun c_8 => ?_) (fun c_8 => ?_)
        · have h := if_t h c_8
          obtain ⟨x_9, e_10, h⟩ := nmI_some h
          refine lv_iinc (v := x_9) (lv' := [(2, .int x_9), (3, .int x_7), (0, .ref x0), (1, .int x1)]) hx hb dX14_goesIn_65 hl (k := 3) rfl (by rw [e_10]; rfl) (by decide) rfl (fun ls hl => ?_)
          refine lv_goto (tgt := 23) hx hb dX14_goesIn_68 (by decide) ?_
          exact ih x_9 Z out _ _ _ h hW (lv_sub hl [2, 3, 0] rfl) k1
        · have h := if_f h c_8
          refine lv_aload_n hx hb dX14_goesIn_39 rfl (lv_at hl 1 rfl) ?_
          refine zw_getA S hW zC_X14 (i := 4) (by decide) (Or.inl q1285) (fun _ h => h) dX14_goesIn_40 h (fun a_11 h => ?_)
          refine lv_iload_n hx hb dX14_goesIn_43 rfl (lv_at hl 0 rfl) ?_
          refine zw_aaldA (t := 11) S hW rfl dX14_goesIn_44 h (fun o_12 h => ?_)
          refine lv_iload_n hx hb dX14_goesIn_45 rfl (lv_at hl 3 rfl) ?_
          obtain ⟨x_15, h_13, h⟩ := bnd_some h
          refine d_callS (As := [.int x2]) (rest := [va_rf o_12]) S hW (metX14_back h_13) (cwX14_back_S S.2.2.2.2 q1265 ⟨Nat.le_of_ble_eq_true rfl, Nat.le_of_ble_eq_true rfl⟩) rfl hl.1 rfl (z_ro (Nat.le_of_ble_eq_true rfl)) dX14_goesIn_46 ⟨(Nat.le_of_ble_eq_true rfl), (Nat.le_of_ble_eq_true rfl)⟩ rfl (fun H locs hW => ?_)
          have h9 := nn_some h
          clear h
          obtain ⟨a_16, rfl, h8⟩ := h9
          have h := h8
          clear h8
          refine zw_zald S hW dX14_goesIn_49 h (fun x_17 h => ?_)
          refine lv_if_eq (tgt := 65) hx hb dX14_goesIn_50 (by decide) (fun c_18 => ?_) (fun c_18 => ?_)
          · have h := if_t h c_18
            obtain ⟨x_19, e_20, h⟩ := nmI_some h
            refine lv_iinc (v := x_19) (lv' := [(2, .int x_19), (3, .int x_7), (0, .ref x0), (1, .int x1)]) hx hb dX14_goesIn_65 hl (k := 3) rfl (by rw [e_20]; rfl) (by decide) rfl (fun ls hl => ?_)
            refine lv_goto (tgt := 23) hx hb dX14_goesIn_68 (by decide) ?_
            exact ih x_19 Z out _ _ _ h hW (lv_sub hl [2, 3, 0] rfl) k1
          · have h := if_f h c_18
            refine lv_aload_n hx hb dX14_goesIn_53 rfl (lv_at hl 1 rfl) ?_
            refine lv_iconst (v := 2) hx hb dX14_goesIn_54 (by decide) ?_
            refine lv_iload_n hx hb dX14_goesIn_55 rfl (lv_at hl 0 rfl) ?_
            refine lv_imul hx hb dX14_goesIn_56 ?_
            refine lv_iconst (v := 1) hx hb dX14_goesIn_57 (by decide) ?_
            refine lv_iadd hx hb dX14_goesIn_58 ?_
            refine lv_iconst (v := 2) hx hb dX14_goesIn_59 (by decide) ?_
            refine lv_iload_n hx hb dX14_goesIn_60 rfl (lv_at hl 2 rfl) ?_
            refine lv_imul hx hb dX14_goesIn_61 ?_
            obtain ⟨⟨_, k_21⟩, h⟩ := zK_some h
            obtain ⟨Z_24, h_22, h⟩ := bnd_some h
            refine d_callV (As := [.int ((2 * x_7) + 1), .int (2 * x1)]) (rest := []) S hW (metX14_come h_22) (cwX14_come_V S.2.2.2.2 q1256 ⟨Nat.le_of_ble_eq_true rfl, Nat.le_of_ble_eq_true rfl⟩) k_21 rfl rfl hl.1 rfl (Nat.le_of_ble_eq_true rfl) dX14_goesIn_62 ⟨(Nat.le_of_ble_eq_true rfl), (Nat.le_of_ble_eq_true rfl)⟩ rfl (fun H locs hW => ?_)
            obtain ⟨x_25, e_26, h⟩ := nmI_some h
            refine lv_iinc (v := x_25) (lv' := [(2, .int x_25), (3, .int x_7), (0, .ref x0), (1, .int x1)]) hx hb dX14_goesIn_65 hl (k := 3) rfl (by rw [e_26]; rfl) (by decide) rfl (fun ls hl => ?_)
            refine lv_goto (tgt := 23) hx hb dX14_goesIn_68 (by decide) ?_
            exact ih x_25 Z_24 out _ _ _ h hW (lv_sub hl [2, 3, 0] rfl) k1
  have J21 : ∀ (y0 : Nat) (y1 : Int32) (Z : c_S) (H : Heap) (locs : List Loc) (ls : Array Slot), cm_X14_goesIn_J21 y0 y1 Z = some Z' → z_W gp D K (z_A Z0) s Z H locs → lv_has ls 4 [(0, .ref y0), (1, .int y1)] → W p l e rmX14_goesIn s m ([.ref a0, .int a1] : List Value).toArray below meth c H locs 0 0 (MQ below (z_Q (.returned (none)) D K (z_A Z0) Z') ([.ref a0, .int a1] : List Value).toArray s 0 0 (z_A Z0)) (F0 m 21 ls []) := by
    intro y0 y1 Z H locs ls h hW hl
    unfold cm_X14_goesIn_J21 at h
    refine lv_iconst (v := 0) hx hb dX14_goesIn_21 (by decide) ?_
    refine lv_istore_n (lv' := [(2, .int 0), (0, .ref y0), (1, .int y1)]) hx hb dX14_goesIn_22 rfl hl (by decide) rfl (fun ls hl => ?_)
    obtain ⟨Z_29, h_28, h⟩ := bnd_some h
    refine Lp23 y0 y1 1000 0 Z  _ _ _ _ h_28 hW (lv_sub hl [1, 2, 0] rfl) ?_
    intro w0 eo H locs ls hW hl
    subst eo
    cases h
    exact d_vret S hr hlk hW (Nat.le_of_ble_eq_true rfl) (Nat.le_of_ble_eq_true rfl) dX14_goesIn_71
  unfold cm_X14_goesIn at h
  refine lv_aload_n hx hb dX14_goesIn_0 rfl (lv_at hl 0 rfl) ?_
  refine zw_getA S hW zC_X14 (i := 1) (by decide) (Or.inl q1282) (fun _ h => h) dX14_goesIn_1 h (fun a_1 h => ?_)
  refine lv_iload_n hx hb dX14_goesIn_4 rfl (lv_at hl 1 rfl) ?_
  refine zw_zald S hW dX14_goesIn_5 h (fun x_2 h => ?_)
  refine lv_if_ne (tgt := 21) hx hb dX14_goesIn_6 (by decide) (fun c_3 => ?_) (fun c_3 => ?_)
  · have h := if_f h c_3
    exact J21 a0 a1 Z0 _ _ _ h hW hl
  · have h := if_t h c_3
    refine lv_aload_n hx hb dX14_goesIn_9 rfl (lv_at hl 0 rfl) ?_
    refine lv_iconst (v := 2) hx hb dX14_goesIn_10 (by decide) ?_
    refine lv_iload_n hx hb dX14_goesIn_11 rfl (lv_at hl 1 rfl) ?_
    refine lv_imul hx hb dX14_goesIn_12 ?_
    refine lv_iconst (v := 1) hx hb dX14_goesIn_13 (by decide) ?_
    refine lv_iadd hx hb dX14_goesIn_14 ?_
    refine lv_iconst (v := 2) hx hb dX14_goesIn_15 (by decide) ?_
    refine lv_iload_n hx hb dX14_goesIn_16 rfl (lv_at hl 1 rfl) ?_
    refine lv_imul hx hb dX14_goesIn_17 ?_
    obtain ⟨⟨_, k_30⟩, h⟩ := zK_some h
    obtain ⟨Z_33, h_31, h⟩ := bnd_some h
    refine d_callV (As := [.int ((2 * a1) + 1), .int (2 * a1)]) (rest := []) S hW (metX14_come h_31) (cwX14_come_V S.2.2.2.2 q1256 ⟨Nat.le_of_ble_eq_true rfl, Nat.le_of_ble_eq_true rfl⟩) k_30 rfl rfl hl.1 rfl (Nat.le_of_ble_eq_true rfl) dX14_goesIn_18 ⟨(Nat.le_of_ble_eq_true rfl), (Nat.le_of_ble_eq_true rfl)⟩ rfl (fun H locs hW => ?_)
    exact J21 a0 a1 Z_33 _ _ _ h hW hl
def cm_X14_sends_B16 (x0 : Nat) (rec : Int32 → Int32 → c_S → Option (c_S)) (x1 : Int32) (x2 : Int32) (Z : c_S) : Option (c_S) :=
  if 290 ≤ x2 then (some Z) else (cA Z.Sh x0 13 9 5 fun a_4 => caI Z.Sh Z.V 0 a_4 x1 fun x_5 => if x_5 = 288 then (some Z) else (cA Z.Sh x0 13 9 5 fun a_7 => caI Z.Sh Z.V 0 a_7 x1 fun x_8 => zK Z x0 13 9 <| bnd (cm_X14_turns Z x0 x_8 x1) (fun Z_12 => nmI (x2 + 1) fun x_13 => rec x_8 x_13 Z_12)))
abbrev cm_X14_sends_F16 (x0 : Nat) : (((Int32) × (Int32) × (c_S)) → Option (c_S)) → ((Int32) × (Int32) × (c_S)) → Option (c_S) := fun rec s => cm_X14_sends_B16 x0 (fun x1 x2 Z => rec (x1, x2, Z)) s.1 s.2.1 s.2.2
def cm_X14_sends_L16 (x0 : Nat) (n : Nat) (x1 : Int32) (x2 : Int32) (Z : c_S) : Option (c_S) := lp (cm_X14_sends_F16 x0) n (x1, x2, Z)
theorem cm_X14_sends_L16_s (x0 : Nat) (n : Nat) (x1 : Int32) (x2 : Int32) (Z : c_S) : cm_X14_sends_L16 x0 (n + 1) x1 x2 Z = cm_X14_sends_B16 x0 (fun x1 x2 Z => cm_X14_sends_L16 x0 n x1 x2 Z) x1 x2 Z := lp_s (cm_X14_sends_F16 x0) n (x1, x2, Z)
def cm_X14_sends (Z0 : c_S) (a0 : Nat) : Option (c_S) :=
  cI Z0.Sh Z0.V a0 13 9 8 fun x_1 => zPI Z0 a0 13 9 8 (x_1 + 1) fun Z_2 => bnd (cm_X14_sends_L16 a0 1000 289 0 Z_2) (fun Z_17 => some Z_17)
abbrev rmX14_sends : Room := rmD 2 47 0 0
theorem cwX14_turns_V {own : String} {R : Room} {s : State} {args : Array Value} {index : Nat} (hts : ∀ w ∈ lw_all, w.before args s = true) (hl : Cond.methodLink own index yX14_turns ∈ lw_all) (hR : rmX14_turns.frames + 1 ≤ R.frames ∧ 8 + (7 + 11) + rmX14_turns.locals ≤ R.locals) : CallW R s args own RX14 index yX14_turns cX14_turns 7 (none) (ws_ yX14_turns cX14_turns 7 (none)) rmX14_turns 0 0 2 := cwV 2 hts (lw_V hl q1279 qs45 q133 q1280) rfl rfl rfl (by decide +kernel) hR
set_option maxHeartbeats 4000000 in
theorem metX14_sends {l : Launch} {gp : Nat → Nat} {D : va_G} {K : Nat → ClassId} {Z0 : c_S} {a0 : Nat} {Z' : c_S} (h : cm_X14_sends Z0 a0 = some Z') : Met l yX14_sends (ws_ yX14_sends cX14_sends 4 (none)) rmX14_sends (z_Pc gp [.ref a0] D K Z0) (z_Q (.returned (none)) D K (z_A Z0) Z') 0 0 (z_A Z0) := by
  refine d_met rfl (Nat.le_of_ble_eq_true rfl) ?_
  intro p e s m below meth c ls S hr hlk hnm hl hW hsz
  have S : CallFix p m c cX14_sends 4 s ([.ref a0] : List Value).toArray lw_all RX14 := S
  have hx := S.1
  have hb := S.2.1
  have hl : lv_has ls 4 [(0, .ref a0)] := hl
  have hnm : meth.name = "sends" := hnm
  have Lp16 : ∀ (x0 : Nat) (n : Nat) (x1 : Int32) (x2 : Int32) (Z : c_S) (out : (c_S)) (H : Heap) (locs : List Loc) (ls : Array Slot), cm_X14_sends_L16 x0 n x1 x2 Z = some out → z_W gp D K (z_A Z0) s Z H locs → lv_has ls 4 [(0, .ref x0), (1, .int x1), (2, .int x2)] → (∀ (oZ : c_S), out = oZ → ∀ (H : Heap) (locs : List Loc) (ls : Array Slot), z_W gp D K (z_A Z0) s oZ H locs → lv_has ls 4 [] → W p l e rmX14_sends s m ([.ref a0] : List Value).toArray below meth c H locs 0 0 (MQ below (z_Q (.returned (none)) D K (z_A Z0) Z') ([.ref a0] : List Value).toArray s 0 0 (z_A Z0)) (F0 m 56 ls [])) → W p l e rmX14_sends s m ([.ref a0] : List Value).toArray below meth c H locs 0 0 (MQ below (z_Q (.returned (none)) D K (z_A Z0) Z') ([.ref a0] : List Value).toArray s 0 0 (z_A Z0)) (F0 m 16 ls []) := by
    intro x0 n
    induction n with
    | zero =>
      intro x1 x2 Z out H locs ls h
      exact (lp_0 h).elim
    | succ n ih =>
      intro x1 x2 Z out H locs ls h hW hl k1
      rw [cm_X14_sends_L16_s] at h
      unfold cm_X14_sends_B16 at h
      refine lv_iload_n hx hb dX14_sends_16 rfl (lv_at hl 2 rfl) ?_
      refine lv_sipush (v := 290) hx hb dX14_sends_17 (by decide) ?_
      refine lv_icmp_ge (tgt := 56) hx hb dX14_sends_20 (by decide) (fun c_3 => ?_) (fun c_3 => ?_)
      · have h := if_t h c_3
        exact k1 _ (Option.some.inj h).symm _ _ _ hW (lv_sub hl [] rfl)
      · have h := if_f h c_3
        refine lv_aload_n hx hb dX14_sends_23 rfl (lv_at hl 0 rfl) ?_
        refine zw_getA S hW zC_X14 (i := 5) (by decide) (Or.inl q1286) (fun _ h => h) dX14_sends_24 h (fun a_4 h => ?_)
        refine lv_iload_n hx hb dX14_sends_27 rfl (lv_at hl 1 rfl) ?_
        refine zw_iald S hW dX14_sends_28 h (fun x_5 h => ?_)
        refine lv_sipush (v := 288) hx hb dX14_sends_29 (by decide) ?_
        refine lv_icmp_eq (tgt := 56) hx hb dX14_sends_32 (by decide) (fun c_6 => ?_) (fun c_6 => ?_)
        · have h := if_t h c_6
          exact k1 _ (Option.some.inj h).symm _ _ _ hW (lv_sub hl [] rfl)
        · have h := if_f h c_6
          refine lv_aload_n hx hb dX14_sends_35 rfl (lv_at hl 0 rfl) ?_
          refine zw_getA S hW zC_X14 (i := 5) (by decide) (Or.inl q1286) (fun _ h => h) dX14_sends_36 h (fun a_7 h => ?_)
          refine lv_iload_n hx hb dX14_sends_39 rfl (lv_at hl 1 rfl) ?_
          refine zw_iald S hW dX14_sends_40 h (fun x_8 h => ?_)
          refine lv_istore_n (lv' := [(3, .int x_8), (0, .ref x0), (1, .int x1), (2, .int x2)]) hx hb dX14_sends_41 rfl hl (by decide) rfl (fun ls hl => ?_)
          refine lv_aload_n hx hb dX14_sends_42 rfl (lv_at hl 1 rfl) ?_
          refine lv_iload_n hx hb dX14_sends_43 rfl (lv_at hl 0 rfl) ?_
          refine lv_iload_n hx hb dX14_sends_44 rfl (lv_at hl 2 rfl) ?_
          obtain ⟨⟨_, k_9⟩, h⟩ := zK_some h
          obtain ⟨Z_12, h_10, h⟩ := bnd_some h
          refine d_callV (As := [.int x_8, .int x1]) (rest := []) S hW (metX14_turns h_10) (cwX14_turns_V S.2.2.2.2 q1277 ⟨Nat.le_of_ble_eq_true rfl, Nat.le_of_ble_eq_true rfl⟩) k_9 rfl rfl hl.1 rfl (Nat.le_of_ble_eq_true rfl) dX14_sends_45 ⟨(Nat.le_of_ble_eq_true rfl), (Nat.le_of_ble_eq_true rfl)⟩ rfl (fun H locs hW => ?_)
          refine lv_iload_n hx hb dX14_sends_48 rfl (lv_at hl 0 rfl) ?_
          refine lv_istore_n (lv' := [(1, .int x_8), (3, .int x_8), (0, .ref x0), (2, .int x2)]) hx hb dX14_sends_49 rfl hl (by decide) rfl (fun ls hl => ?_)
          obtain ⟨x_13, e_14, h⟩ := nmI_some h
          refine lv_iinc (v := x_13) (lv' := [(2, .int x_13), (1, .int x_8), (3, .int x_8), (0, .ref x0)]) hx hb dX14_sends_50 hl (k := 3) rfl (by rw [e_14]; rfl) (by decide) rfl (fun ls hl => ?_)
          refine lv_goto (tgt := 16) hx hb dX14_sends_53 (by decide) ?_
          exact ih x_8 x_13 Z_12 out _ _ _ h hW (lv_sub hl [3, 1, 0] rfl) k1
  unfold cm_X14_sends at h
  refine lv_aload_n hx hb dX14_sends_0 rfl (lv_at hl 0 rfl) ?_
  refine lv_dup hx hb dX14_sends_1 rfl ?_
  refine zw_getI S hW zC_X14 (i := 8) (by decide) (Or.inl q1289) (fun _ h => h) dX14_sends_2 h (fun x_1 h => ?_)
  refine lv_iconst (v := 1) hx hb dX14_sends_5 (by decide) ?_
  refine lv_iadd hx hb dX14_sends_6 ?_
  refine zw_putI S hW zC_X14 (i := 8) (by decide) (Or.inl rfl) rfl rfl rfl (Or.inl q1289) (fun _ h => h) dX14_sends_7 h (fun Z_2 h H locs hW => ?_)
  refine lv_sipush (v := 289) hx hb dX14_sends_10 (by decide) ?_
  refine lv_istore_n (lv' := [(1, .int 289), (0, .ref a0)]) hx hb dX14_sends_13 rfl hl (by decide) rfl (fun ls hl => ?_)
  refine lv_iconst (v := 0) hx hb dX14_sends_14 (by decide) ?_
  refine lv_istore_n (lv' := [(2, .int 0), (1, .int 289), (0, .ref a0)]) hx hb dX14_sends_15 rfl hl (by decide) rfl (fun ls hl => ?_)
  obtain ⟨Z_17, h_16, h⟩ := bnd_some h
  refine Lp16 a0 1000 289 0 Z_2  _ _ _ _ h_16 hW (lv_sub hl [2, 1, 0] rfl) ?_
  intro w0 eo H locs ls hW hl
  subst eo
  cases h
  exact d_vret S hr hlk hW (Nat.le_of_ble_eq_true rfl) (Nat.le_of_ble_eq_true rfl) dX14_sends_56
def cm_X3_whole_B2 (x0 : Nat) (rec : Int32 → c_S → Option (c_S)) (x1 : Int32) (Z : c_S) : Option (c_S) :=
  if 4 ≤ x1 then (some Z) else (cA Z.Sh x0 2 13 0 fun a_2 => caR Z.Sh 8 a_2 x1 fun o_3 => zNl o_3 (cA Z.Sh x0 2 13 0 fun a_5 => zNew Z 4 4 tyX4 fun Z_6 a_7 => bnd (cm_X4_init Z_6 a_7 10 15 100 0) (fun Z_10 => zsR [4] Z_10 8 a_5 x1 (some a_7) fun Z_11 => nmI (x1 + 1) fun x_12 => rec x_12 Z_11)) (fun a_4 => nmI (x1 + 1) fun x_14 => rec x_14 Z))
abbrev cm_X3_whole_F2 (x0 : Nat) : (((Int32) × (c_S)) → Option (c_S)) → ((Int32) × (c_S)) → Option (c_S) := fun rec s => cm_X3_whole_B2 x0 (fun x1 Z => rec (x1, Z)) s.1 s.2
def cm_X3_whole_L2 (x0 : Nat) (n : Nat) (x1 : Int32) (Z : c_S) : Option (c_S) := lp (cm_X3_whole_F2 x0) n (x1, Z)
theorem cm_X3_whole_L2_s (x0 : Nat) (n : Nat) (x1 : Int32) (Z : c_S) : cm_X3_whole_L2 x0 (n + 1) x1 Z = cm_X3_whole_B2 x0 (fun x1 Z => cm_X3_whole_L2 x0 n x1 Z) x1 Z := lp_s (cm_X3_whole_F2 x0) n (x1, Z)
def cm_X3_whole (Z0 : c_S) (a0 : Nat) : Option ((Option Nat) × c_S) :=
  bnd (cm_X3_whole_L2 a0 5 0 Z0) (fun Z_18 => some (some a0, Z_18))
abbrev rmX3_whole : Room := rmD 2 44 5 20
theorem cwX4_init_I {own : String} {R : Room} {s : State} {args : Array Value} {index : Nat} (hts : ∀ w ∈ lw_all, w.before args s = true) (hl : Cond.methodLink own index yX4_init ∈ lw_all) (hR : rmX4_init.frames + 1 ≤ R.frames ∧ 8 + (5 + 11) + rmX4_init.locals ≤ R.locals) : CallB R s args own index yX4_init cX4_init 5 (none) (ws_ yX4_init cX4_init 5 (none)) rmX4_init 0 0 4 ∧ yX4_init.name = "<init>" ∧ (Cond.instanceMethod yX4_init).before args s = true := cwI 4 hts (lw_meth q457) rfl rfl rfl (hts _ q112) (hts _ hl) (hts _ q456) rfl ⟨by decide, by decide, by decide +kernel⟩ hR
set_option maxHeartbeats 4000000 in
theorem metX3_whole {l : Launch} {gp : Nat → Nat} {D : va_G} {K : Nat → ClassId} {Z0 : c_S} {a0 : Nat} {r : Option Nat} {Z' : c_S} (h : cm_X3_whole Z0 a0 = some (r, Z')) : Met l yX3_whole (ws_ yX3_whole cX3_whole 2 (some (.object "FrostRing$Told"))) rmX3_whole (z_Pc gp [.ref a0] D K Z0) (z_Q (.returned (some (va_rf r))) D K (z_A Z0) Z') 5 20 (z_A Z0) := by
  refine d_met rfl (Nat.le_of_ble_eq_true rfl) ?_
  intro p e s m below meth c ls S hr hlk hnm hl hW hsz
  have S : CallFix p m c cX3_whole 2 s ([.ref a0] : List Value).toArray lw_all RX3 := S
  have hx := S.1
  have hb := S.2.1
  have hl : lv_has ls 2 [(0, .ref a0)] := hl
  have hnm : meth.name = "whole" := hnm
  have Lp2 : ∀ (x0 : Nat) (E G : Nat) (n : Nat) (x1 : Int32) (Z : c_S) (out : (c_S)) (cells slots : Nat) (H : Heap) (locs : List Loc) (ls : Array Slot), cm_X3_whole_L2 x0 n x1 Z = some out → z_W gp D K (z_A Z0) s Z H locs → lv_has ls 2 [(0, .ref x0), (1, .int x1)] → cells + n * 1 ≤ E → slots + n * 4 ≤ G → E ≤ 5 → G ≤ 20 → (∀ (oZ : c_S), out = oZ → ∀ (H : Heap) (locs : List Loc) (ls : Array Slot), z_W gp D K (z_A Z0) s oZ H locs → lv_has ls 2 [(0, .ref x0)] → W p l e rmX3_whole s m ([.ref a0] : List Value).toArray below meth c H locs E G (MQ below (z_Q (.returned (some (va_rf r))) D K (z_A Z0) Z') ([.ref a0] : List Value).toArray s 5 20 (z_A Z0)) (F0 m 42 ls [])) → W p l e rmX3_whole s m ([.ref a0] : List Value).toArray below meth c H locs cells slots (MQ below (z_Q (.returned (some (va_rf r))) D K (z_A Z0) Z') ([.ref a0] : List Value).toArray s 5 20 (z_A Z0)) (F0 m 2 ls []) := by
    intro x0 E G n
    induction n with
    | zero =>
      intro x1 Z out cells slots H locs ls h
      exact (lp_0 h).elim
    | succ n ih =>
      intro x1 Z out cells slots H locs ls h hW hl hcl hsl hE hG k1
      have hcl := nsucc hcl
      have hsl := nsucc hsl
      rw [cm_X3_whole_L2_s] at h
      unfold cm_X3_whole_B2 at h
      refine lv_iload_n hx hb dX3_whole_2 rfl (lv_at hl 1 rfl) ?_
      refine lv_iconst (v := 4) hx hb dX3_whole_3 (by decide) ?_
      refine lv_icmp_ge (tgt := 42) hx hb dX3_whole_4 (by decide) (fun c_1 => ?_) (fun c_1 => ?_)
      · have h := if_t h c_1
        exact W.widen (by omega) (by omega) (k1 _ (Option.some.inj h).symm _ _ _ hW (lv_sub hl [0] rfl))
      · have h := if_f h c_1
        refine lv_aload_n hx hb dX3_whole_7 rfl (lv_at hl 0 rfl) ?_
        refine zw_getA S hW zC_X2 (i := 0) (by decide) (Or.inr ⟨_, nestW_in q390 rfl⟩) (fun _ h => h) dX3_whole_8 h (fun a_2 h => ?_)
        refine lv_iload_n hx hb dX3_whole_11 rfl (lv_at hl 1 rfl) ?_
        refine zw_aald (t := 8) S hW rfl dX3_whole_12 h (fun o_3 h => ?_)
        refine z_ifnonnull (tgt := 36) hx hb dX3_whole_13 (by decide) h (fun a_4 eo h9 => ?_) (fun eo h9 => ?_)
        · subst eo; have h := h9; clear h9
          obtain ⟨x_14, e_15, h⟩ := nmI_some h
          refine lv_iinc (v := x_14) (lv' := [(1, .int x_14), (0, .ref x0)]) hx hb dX3_whole_36 hl (k := 1) rfl (by rw [e_15]; rfl) (by decide) rfl (fun ls hl => ?_)
          refine lv_goto (tgt := 2) hx hb dX3_whole_39 (by decide) ?_
          exact ih x_14 Z out cells slots _ _ _ h hW (lv_sub hl [1, 0] rfl) (by omega) (by omega) hE hG k1
        · subst eo; have h := h9; clear h9
          refine lv_aload_n hx hb dX3_whole_16 rfl (lv_at hl 0 rfl) ?_
          refine zw_getA S hW zC_X2 (i := 0) (by decide) (Or.inr ⟨_, nestW_in q390 rfl⟩) (fun _ h => h) dX3_whole_17 h (fun a_5 h => ?_)
          refine lv_iload_n hx hb dX3_whole_20 rfl (lv_at hl 1 rfl) ?_
          refine zw_new S hW zC_X4 q453 q454 q112 (show _ ≤ 5 from by omega) (show _ ≤ 20 from by omega) dX3_whole_21 h (fun Z_6 a_7 h H hW => ?_)
          refine lv_dup hx hb dX3_whole_24 rfl ?_
          refine lv_bipush (v := 10) hx hb dX3_whole_25 (by decide) ?_
          refine lv_bipush (v := 15) hx hb dX3_whole_27 (by decide) ?_
          refine lv_bipush (v := 100) hx hb dX3_whole_29 (by decide) ?_
          refine lv_iconst (v := 0) hx hb dX3_whole_31 (by decide) ?_
          obtain ⟨Z_10, h_8, h⟩ := bnd_some h
          refine d_callI (As := [.int 10, .int 15, .int 100, .int 0]) (rest := [.ref a_7, .int x1, .ref a_5]) S hW (metX4_init h_8) (cwX4_init_I S.2.2.2.2 q455 ⟨Nat.le_of_ble_eq_true rfl, Nat.le_of_ble_eq_true rfl⟩) rfl hl.1 rfl (Nat.le_of_ble_eq_true rfl) dX3_whole_32 ⟨(show _ ≤ 5 from by omega), (show _ ≤ 20 from by omega)⟩ rfl (fun H locs hW => ?_)
          refine zw_aast (o := some a_7) S hW (t := 8) rfl zal_8 dX3_whole_35 h (fun Z_11 h H locs hW => ?_)
          obtain ⟨x_12, e_13, h⟩ := nmI_some h
          refine lv_iinc (v := x_12) (lv' := [(1, .int x_12), (0, .ref x0)]) hx hb dX3_whole_36 hl (k := 1) rfl (by rw [e_13]; rfl) (by decide) rfl (fun ls hl => ?_)
          refine lv_goto (tgt := 2) hx hb dX3_whole_39 (by decide) ?_
          exact ih x_12 Z_11 out (cells + 1) (slots + 4) _ _ _ h hW (lv_sub hl [1, 0] rfl) (by omega) (by omega) hE hG k1
  unfold cm_X3_whole at h
  refine lv_iconst (v := 0) hx hb dX3_whole_0 (by decide) ?_
  refine lv_istore_n (lv' := [(1, .int 0), (0, .ref a0)]) hx hb dX3_whole_1 rfl hl (by decide) rfl (fun ls hl => ?_)
  obtain ⟨Z_18, h_17, h⟩ := bnd_some h
  refine Lp2 a0 5 20 5 0 Z0  _ 0 0 _ _ _ h_17 hW (lv_sub hl [1, 0] rfl) (by omega) (by omega) (by omega) (by omega) ?_
  intro w0 eo H locs ls hW hl
  subst eo
  refine lv_aload_n hx hb dX3_whole_42 rfl (lv_at hl 0 rfl) ?_
  cases h
  exact d_aret (o := some a0) S hr (Or.inl ⟨_, rfl⟩) hlk hW (Nat.le_of_ble_eq_true rfl) (Nat.le_of_ble_eq_true rfl) dX3_whole_43
def cm_X3_next_B0 (x0 : Nat) (rec : c_S → Option (c_S)) (Z : c_S) : Option (c_S) :=
  cI Z.Sh Z.V x0 3 11 4 fun x_1 => cI Z.Sh Z.V x0 3 11 3 fun x_2 => if x_2 ≤ x_1 then (some Z) else (cA Z.Sh x0 3 11 2 fun a_4 => cI Z.Sh Z.V x0 3 11 4 fun x_5 => caI Z.Sh Z.V 1 a_4 x_5 fun x_6 => if x_6 = 32 then (cI Z.Sh Z.V x0 3 11 4 fun x_8 => zPI Z x0 3 11 4 (x_8 + 1) fun Z_9 => rec Z_9) else (cA Z.Sh x0 3 11 2 fun a_10 => cI Z.Sh Z.V x0 3 11 4 fun x_11 => caI Z.Sh Z.V 1 a_10 x_11 fun x_12 => if x_12 = 10 then (cI Z.Sh Z.V x0 3 11 4 fun x_14 => zPI Z x0 3 11 4 (x_14 + 1) fun Z_15 => rec Z_15) else (some Z)))
abbrev cm_X3_next_F0 (x0 : Nat) : (((c_S)) → Option (c_S)) → ((c_S)) → Option (c_S) := fun rec s => cm_X3_next_B0 x0 (fun Z => rec Z) s
def cm_X3_next_L0 (x0 : Nat) (n : Nat) (Z : c_S) : Option (c_S) := lp (cm_X3_next_F0 x0) n Z
theorem cm_X3_next_L0_s (x0 : Nat) (n : Nat) (Z : c_S) : cm_X3_next_L0 x0 (n + 1) Z = cm_X3_next_B0 x0 (fun Z => cm_X3_next_L0 x0 n Z) Z := lp_s (cm_X3_next_F0 x0) n Z
def cm_X3_next_B148 (x0 : Nat) (rec : c_S → Option (c_S)) (Z : c_S) : Option (c_S) :=
  zK Z x0 3 11 <| bnd (cm_X3_isAt Z x0 48 57) (fun x_68 => if x_68 = 0 then (some Z) else (cI Z.Sh Z.V x0 3 11 8 fun x_70 => cA Z.Sh x0 3 11 2 fun a_71 => cI Z.Sh Z.V x0 3 11 4 fun x_72 => caI Z.Sh Z.V 1 a_71 x_72 fun x_73 => nmI (if (((10 * x_70) + x_73) - 48) < 100000 then (((10 * x_70) + x_73) - 48) else 100000) fun x_74 => zPI Z x0 3 11 8 x_74 fun Z_76 => cI Z_76.Sh Z_76.V x0 3 11 4 fun x_77 => zPI Z_76 x0 3 11 4 (x_77 + 1) fun Z_78 => rec Z_78))
abbrev cm_X3_next_F148 (x0 : Nat) : (((c_S)) → Option (c_S)) → ((c_S)) → Option (c_S) := fun rec s => cm_X3_next_B148 x0 (fun Z => rec Z) s
def cm_X3_next_L148 (x0 : Nat) (n : Nat) (Z : c_S) : Option (c_S) := lp (cm_X3_next_F148 x0) n Z
theorem cm_X3_next_L148_s (x0 : Nat) (n : Nat) (Z : c_S) : cm_X3_next_L148 x0 (n + 1) Z = cm_X3_next_B148 x0 (fun Z => cm_X3_next_L148 x0 n Z) Z := lp_s (cm_X3_next_F148 x0) n Z
def cm_X3_next_B108 (x0 : Nat) (rec : c_S → Option (c_S)) (Z : c_S) : Option (c_S) :=
  zK Z x0 3 11 <| bnd (cm_X3_isAt Z x0 97 122) (fun x_86 => if x_86 = 0 then (some Z) else (cI Z.Sh Z.V x0 3 11 4 fun x_88 => zPI Z x0 3 11 4 (x_88 + 1) fun Z_89 => rec Z_89))
abbrev cm_X3_next_F108 (x0 : Nat) : (((c_S)) → Option (c_S)) → ((c_S)) → Option (c_S) := fun rec s => cm_X3_next_B108 x0 (fun Z => rec Z) s
def cm_X3_next_L108 (x0 : Nat) (n : Nat) (Z : c_S) : Option (c_S) := lp (cm_X3_next_F108 x0) n Z
theorem cm_X3_next_L108_s (x0 : Nat) (n : Nat) (Z : c_S) : cm_X3_next_L108 x0 (n + 1) Z = cm_X3_next_B108 x0 (fun Z => cm_X3_next_L108 x0 n Z) Z := lp_s (cm_X3_next_F108 x0) n Z
def cm_X3_next_J52 (y0 : Nat) (Z : c_S) : Option (c_S) :=
  cI Z.Sh Z.V y0 3 11 4 fun x_19 => zPI Z y0 3 11 7 x_19 fun Z_20 => cI Z_20.Sh Z_20.V y0 3 11 4 fun x_21 => zPI Z_20 y0 3 11 5 x_21 fun Z_22 => zPI Z_22 y0 3 11 8 0 fun Z_23 => cI Z_23.Sh Z_23.V y0 3 11 4 fun x_24 => cI Z_23.Sh Z_23.V y0 3 11 3 fun x_25 => if x_24 = x_25 then (zPI Z_23 y0 3 11 6 0 fun Z_93 => some Z_93) else (zK Z_23 y0 3 11 <| bnd (cm_X3_isAt Z_23 y0 97 122) (fun x_30 => if x_30 = 0 then (zK Z_23 y0 3 11 <| bnd (cm_X3_isAt Z_23 y0 48 57) (fun x_35 => if x_35 = 0 then (cA Z_23.Sh y0 3 11 2 fun a_37 => cI Z_23.Sh Z_23.V y0 3 11 4 fun x_38 => caI Z_23.Sh Z_23.V 1 a_37 x_38 fun x_39 => zPI Z_23 y0 3 11 8 x_39 fun Z_40 => cI Z_40.Sh Z_40.V y0 3 11 8 fun x_41 => if x_41 = 60 then (zPI Z_40 y0 3 11 6 3 fun Z_43 => cI Z_43.Sh Z_43.V y0 3 11 4 fun x_44 => zPI Z_43 y0 3 11 4 (x_44 + 1) fun Z_45 => some Z_45) else (cI Z_40.Sh Z_40.V y0 3 11 8 fun x_46 => if x_46 = 62 then (zPI Z_40 y0 3 11 6 3 fun Z_48 => cI Z_48.Sh Z_48.V y0 3 11 4 fun x_49 => zPI Z_48 y0 3 11 4 (x_49 + 1) fun Z_50 => some Z_50) else (cI Z_40.Sh Z_40.V y0 3 11 8 fun x_51 => if x_51 = 45 then (zPI Z_40 y0 3 11 6 3 fun Z_53 => cI Z_53.Sh Z_53.V y0 3 11 4 fun x_54 => zPI Z_53 y0 3 11 4 (x_54 + 1) fun Z_55 => some Z_55) else (cI Z_40.Sh Z_40.V y0 3 11 8 fun x_56 => if x_56 = 59 then (zPI Z_40 y0 3 11 6 3 fun Z_61 => cI Z_61.Sh Z_61.V y0 3 11 4 fun x_62 => zPI Z_61 y0 3 11 4 (x_62 + 1) fun Z_63 => some Z_63) else (zPI Z_40 y0 3 11 6 4 fun Z_58 => cI Z_58.Sh Z_58.V y0 3 11 4 fun x_59 => zPI Z_58 y0 3 11 4 (x_59 + 1) fun Z_60 => some Z_60))))) else (zPI Z_23 y0 3 11 6 2 fun Z_64 => bnd (cm_X3_next_L148 y0 1000 Z_64) (fun Z_81 => some Z_81)))) else (zPI Z_23 y0 3 11 6 1 fun Z_82 => bnd (cm_X3_next_L108 y0 1000 Z_82) (fun Z_92 => some Z_92))))
def cm_X3_next (Z0 : c_S) (a0 : Nat) : Option (c_S) :=
  bnd (cm_X3_next_L0 a0 1000 Z0) (fun Z_18 => cm_X3_next_J52 a0 Z_18)
abbrev rmX3_next : Room := rmD 1 22 0 0
theorem cwX3_isAt_V {own : String} {R : Room} {s : State} {args : Array Value} {index : Nat} (hts : ∀ w ∈ lw_all, w.before args s = true) (hl : Cond.methodLink own index yX3_isAt ∈ lw_all) (hR : rmX3_isAt.frames + 1 ≤ R.frames ∧ 8 + (3 + 11) + rmX3_isAt.locals ≤ R.locals) : CallW R s args own RX3 index yX3_isAt cX3_isAt 3 (some .boolean) (ws_ yX3_isAt cX3_isAt 3 (some .boolean)) rmX3_isAt 0 0 2 := cwV 2 hts (lw_V hl q873 qs10 q111 q874) rfl rfl rfl (by decide +kernel) hR
set_option maxHeartbeats 4000000 in
theorem metX3_next {l : Launch} {gp : Nat → Nat} {D : va_G} {K : Nat → ClassId} {Z0 : c_S} {a0 : Nat} {Z' : c_S} (h : cm_X3_next Z0 a0 = some Z') : Met l yX3_next (ws_ yX3_next cX3_next 1 (none)) rmX3_next (z_Pc gp [.ref a0] D K Z0) (z_Q (.returned (none)) D K (z_A Z0) Z') 0 0 (z_A Z0) := by
  refine d_met rfl (Nat.le_of_ble_eq_true rfl) ?_
  intro p e s m below meth c ls S hr hlk hnm hl hW hsz
  have S : CallFix p m c cX3_next 1 s ([.ref a0] : List Value).toArray lw_all RX3 := S
  have hx := S.1
  have hb := S.2.1
  have hl : lv_has ls 1 [(0, .ref a0)] := hl
  have hnm : meth.name = "next" := hnm
  have Lp0 : ∀ (x0 : Nat) (n : Nat) (Z : c_S) (out : (c_S)) (H : Heap) (locs : List Loc) (ls : Array Slot), cm_X3_next_L0 x0 n Z = some out → z_W gp D K (z_A Z0) s Z H locs → lv_has ls 1 [(0, .ref x0)] → (∀ (oZ : c_S), out = oZ → ∀ (H : Heap) (locs : List Loc) (ls : Array Slot), z_W gp D K (z_A Z0) s oZ H locs → lv_has ls 1 [(0, .ref x0)] → W p l e rmX3_next s m ([.ref a0] : List Value).toArray below meth c H locs 0 0 (MQ below (z_Q (.returned (none)) D K (z_A Z0) Z') ([.ref a0] : List Value).toArray s 0 0 (z_A Z0)) (F0 m 52 ls [])) → W p l e rmX3_next s m ([.ref a0] : List Value).toArray below meth c H locs 0 0 (MQ below (z_Q (.returned (none)) D K (z_A Z0) Z') ([.ref a0] : List Value).toArray s 0 0 (z_A Z0)) (F0 m 0 ls []) := by
    intro x0 n
    induction n with
    | zero =>
      intro Z out H locs ls h
      exact (lp_0 h).elim
    | succ n ih =>
      intro Z out H locs ls h hW hl k1
      rw [cm_X3_next_L0_s] at h
      unfold cm_X3_next_B0 at h
      refine lv_aload_n hx hb dX3_next_0 rfl (lv_at hl 0 rfl) ?_
      refine zw_getI S hW zC_X3 (i := 4) (by decide) (Or.inl q831) (fun _ h => h) dX3_next_1 h (fun x_1 h => ?_)
      refine lv_aload_n hx hb dX3_next_4 rfl (lv_at hl 0 rfl) ?_
      refine zw_getI S hW zC_X3 (i := 3) (by decide) (Or.inl q830) (fun _ h => h) dX3_next_5 h (fun x_2 h => ?_)
      refine lv_icmp_ge (tgt := 52) hx hb dX3_next_8 (by decide) (fun c_3 => ?_) (fun c_3 => ?_)
      · have h := if_t h c_3
        exact k1 _ (Option.some.inj h).symm _ _ _ hW hl
      · have h := if_f h c_3
        refine lv_aload_n hx hb dX3_next_11 rfl (lv_at hl 0 rfl) ?_
        refine zw_getA S hW zC_X3 (i := 2) (by decide) (Or.inl q829) (fun _ h => h) dX3_next_12 h (fun a_4 h => ?_)
        refine lv_aload_n hx hb dX3_next_15 rfl (lv_at hl 0 rfl) ?_
        refine zw_getI S hW zC_X3 (i := 4) (by decide) (Or.inl q831) (fun _ h => h) dX3_next_16 h (fun x_5 h => ?_)
        refine zw_bald S hW dX3_next_19 h (fun x_6 h => ?_)
        refine lv_bipush (v := 32) hx hb dX3_next_20 (by decide) ?_
        refine lv_icmp_eq (tgt := 39) hx hb dX3_next_22 (by decide) (fun c_7 => ?_) (fun c_7 => ?_)
        · have h := if_t h c_7
          refine lv_aload_n hx hb dX3_next_39 rfl (lv_at hl 0 rfl) ?_
          refine lv_dup hx hb dX3_next_40 rfl ?_
          refine zw_getI S hW zC_X3 (i := 4) (by decide) (Or.inl q831) (fun _ h => h) dX3_next_41 h (fun x_8 h => ?_)
          refine lv_iconst (v := 1) hx hb dX3_next_44 (by decide) ?_
          refine lv_iadd hx hb dX3_next_45 ?_
          refine zw_putI S hW zC_X3 (i := 4) (by decide) (Or.inl rfl) rfl rfl rfl (Or.inl q831) (fun _ h => h) dX3_next_46 h (fun Z_9 h H locs hW => ?_)
          refine lv_goto (tgt := 0) hx hb dX3_next_49 (by decide) ?_
          exact ih Z_9 out _ _ _ h hW hl k1
        · have h := if_f h c_7
          refine lv_aload_n hx hb dX3_next_25 rfl (lv_at hl 0 rfl) ?_
          refine zw_getA S hW zC_X3 (i := 2) (by decide) (Or.inl q829) (fun _ h => h) dX3_next_26 h (fun a_10 h => ?_)
          refine lv_aload_n hx hb dX3_next_29 rfl (lv_at hl 0 rfl) ?_
          refine zw_getI S hW zC_X3 (i := 4) (by decide) (Or.inl q831) (fun _ h => h) dX3_next_30 h (fun x_11 h => ?_)
          refine zw_bald S hW dX3_next_33 h (fun x_12 h => ?_)
          refine lv_bipush (v := 10) hx hb dX3_next_34 (by decide) ?_
          refine lv_icmp_ne (tgt := 52) hx hb dX3_next_36 (by decide) (fun c_13 => ?_) (fun c_13 => ?_)
          · have h := if_f h c_13
            exact k1 _ (Option.some.inj h).symm _ _ _ hW hl
          · have h := if_t h c_13
            refine lv_aload_n hx hb dX3_next_39 rfl (lv_at hl 0 rfl) ?_
            refine lv_dup hx hb dX3_next_40 rfl ?_
            refine zw_getI S hW zC_X3 (i := 4) (by decide) (Or.inl q831) (fun _ h => h) dX3_next_41 h (fun x_14 h => ?_)
            refine lv_iconst (v := 1) hx hb dX3_next_44 (by decide) ?_
            refine lv_iadd hx hb dX3_next_45 ?_
            refine zw_putI S hW zC_X3 (i := 4) (by decide) (Or.inl rfl) rfl rfl rfl (Or.inl q831) (fun _ h => h) dX3_next_46 h (fun Z_15 h H locs hW => ?_)
            refine lv_goto (tgt := 0) hx hb dX3_next_49 (by decide) ?_
            exact ih Z_15 out _ _ _ h hW hl k1
  have Lp148 : ∀ (x0 : Nat) (n : Nat) (Z : c_S) (out : (c_S)) (H : Heap) (locs : List Loc) (ls : Array Slot), cm_X3_next_L148 x0 n Z = some out → z_W gp D K (z_A Z0) s Z H locs → lv_has ls 1 [(0, .ref x0)] → (∀ (oZ : c_S), out = oZ → ∀ (H : Heap) (locs : List Loc) (ls : Array Slot), z_W gp D K (z_A Z0) s oZ H locs → lv_has ls 1 [] → W p l e rmX3_next s m ([.ref a0] : List Value).toArray below meth c H locs 0 0 (MQ below (z_Q (.returned (none)) D K (z_A Z0) Z') ([.ref a0] : List Value).toArray s 0 0 (z_A Z0)) (F0 m 269 ls [])) → W p l e rmX3_next s m ([.ref a0] : List Value).toArray below meth c H locs 0 0 (MQ below (z_Q (.returned (none)) D K (z_A Z0) Z') ([.ref a0] : List Value).toArray s 0 0 (z_A Z0)) (F0 m 148 ls []) := by
    intro x0 n
    induction n with
    | zero =>
      intro Z out H locs ls h
      exact (lp_0 h).elim
    | succ n ih =>
      intro Z out H locs ls h hW hl k1
      rw [cm_X3_next_L148_s] at h
      unfold cm_X3_next_B148 at h
      refine lv_aload_n hx hb dX3_next_148 rfl (lv_at hl 0 rfl) ?_
      refine lv_bipush (v := 48) hx hb dX3_next_149 (by decide) ?_
      refine lv_bipush (v := 57) hx hb dX3_next_151 (by decide) ?_
      obtain ⟨⟨_, k_65⟩, h⟩ := zK_some h
      obtain ⟨x_68, h_66, h⟩ := bnd_some h
      refine d_callV (As := [.int 48, .int 57]) (rest := []) S hW (metX3_isAt h_66) (cwX3_isAt_V S.2.2.2.2 q871 ⟨Nat.le_of_ble_eq_true rfl, Nat.le_of_ble_eq_true rfl⟩) k_65 rfl rfl hl.1 rfl (Nat.le_of_ble_eq_true rfl) dX3_next_153 ⟨(Nat.le_of_ble_eq_true rfl), (Nat.le_of_ble_eq_true rfl)⟩ rfl (fun H locs hW => ?_)
      refine lv_if_eq (tgt := 269) hx hb dX3_next_156 (by decide) (fun c_69 => ?_) (fun c_69 => ?_)
      · have h := if_t h c_69
        exact k1 _ (Option.some.inj h).symm _ _ _ hW (lv_sub hl [] rfl)
      · have h := if_f h c_69
        refine lv_aload_n hx hb dX3_next_159 rfl (lv_at hl 0 rfl) ?_
        refine lv_ldc (v := 100000) hx hb S.2.2.2.1 (S.2.2.2.2 _ q875) dX3_next_160 ?_
        refine lv_bipush (v := 10) hx hb dX3_next_162 (by decide) ?_
        refine lv_aload_n hx hb dX3_next_164 rfl (lv_at hl 0 rfl) ?_
        refine zw_getI S hW zC_X3 (i := 8) (by decide) (Or.inl q835) (fun _ h => h) dX3_next_165 h (fun x_70 h => ?_)
        refine lv_imul hx hb dX3_next_168 ?_
        refine lv_aload_n hx hb dX3_next_169 rfl (lv_at hl 0 rfl) ?_
        refine zw_getA S hW zC_X3 (i := 2) (by decide) (Or.inl q829) (fun _ h => h) dX3_next_170 h (fun a_71 h => ?_)
        refine lv_aload_n hx hb dX3_next_173 rfl (lv_at hl 0 rfl) ?_
        refine zw_getI S hW zC_X3 (i := 4) (by decide) (Or.inl q831) (fun _ h => h) dX3_next_174 h (fun x_72 h => ?_)
        refine zw_bald S hW dX3_next_177 h (fun x_73 h => ?_)
        refine lv_iadd hx hb dX3_next_178 ?_
        refine lv_bipush (v := 48) hx hb dX3_next_179 (by decide) ?_
        refine lv_isub hx hb dX3_next_181 ?_
        refine va_mmin hx hb (S.2.2.1.trans hl.1.symm) S.2.2.2.1 (S.2.2.2.2 _ q876) (S.2.2.2.2 _ q633) (S.2.2.2.2 _ q117) (S.2.2.2.2 _ mc_min) (Nat.le_of_ble_eq_true rfl) (zm_lo (z_ro (Nat.le_of_ble_eq_true rfl)) (Nat.le_of_ble_eq_true rfl)) (Nat.le_of_ble_eq_true rfl) (Nat.le_of_ble_eq_true rfl) dX3_next_182 ?_
        obtain ⟨x_74, e_75, h⟩ := nmI_some h
        refine g_nmi e_75 ?_
        refine zw_putI S hW zC_X3 (i := 8) (by decide) (Or.inl rfl) rfl rfl rfl (Or.inl q835) (fun _ h => h) dX3_next_185 h (fun Z_76 h H locs hW => ?_)
        refine lv_aload_n hx hb dX3_next_188 rfl (lv_at hl 0 rfl) ?_
        refine lv_dup hx hb dX3_next_189 rfl ?_
        refine zw_getI S hW zC_X3 (i := 4) (by decide) (Or.inl q831) (fun _ h => h) dX3_next_190 h (fun x_77 h => ?_)
        refine lv_iconst (v := 1) hx hb dX3_next_193 (by decide) ?_
        refine lv_iadd hx hb dX3_next_194 ?_
        refine zw_putI S hW zC_X3 (i := 4) (by decide) (Or.inl rfl) rfl rfl rfl (Or.inl q831) (fun _ h => h) dX3_next_195 h (fun Z_78 h H locs hW => ?_)
        refine lv_goto (tgt := 148) hx hb dX3_next_198 (by decide) ?_
        exact ih Z_78 out _ _ _ h hW hl k1
  have Lp108 : ∀ (x0 : Nat) (n : Nat) (Z : c_S) (out : (c_S)) (H : Heap) (locs : List Loc) (ls : Array Slot), cm_X3_next_L108 x0 n Z = some out → z_W gp D K (z_A Z0) s Z H locs → lv_has ls 1 [(0, .ref x0)] → (∀ (oZ : c_S), out = oZ → ∀ (H : Heap) (locs : List Loc) (ls : Array Slot), z_W gp D K (z_A Z0) s oZ H locs → lv_has ls 1 [] → W p l e rmX3_next s m ([.ref a0] : List Value).toArray below meth c H locs 0 0 (MQ below (z_Q (.returned (none)) D K (z_A Z0) Z') ([.ref a0] : List Value).toArray s 0 0 (z_A Z0)) (F0 m 269 ls [])) → W p l e rmX3_next s m ([.ref a0] : List Value).toArray below meth c H locs 0 0 (MQ below (z_Q (.returned (none)) D K (z_A Z0) Z') ([.ref a0] : List Value).toArray s 0 0 (z_A Z0)) (F0 m 108 ls []) := by
    intro x0 n
    induction n with
    | zero =>
      intro Z out H locs ls h
      exact (lp_0 h).elim
    | succ n ih =>
      intro Z out H locs ls h hW hl k1
      rw [cm_X3_next_L108_s] at h
      unfold cm_X3_next_B108 at h
      refine lv_aload_n hx hb dX3_next_108 rfl (lv_at hl 0 rfl) ?_
      refine lv_bipush (v := 97) hx hb dX3_next_109 (by decide) ?_
      refine lv_bipush (v := 122) hx hb dX3_next_111 (by decide) ?_
      obtain ⟨⟨_, k_83⟩, h⟩ := zK_some h
      obtain ⟨x_86, h_84, h⟩ := bnd_some h
      refine d_callV (As := [.int 97, .int 122]) (rest := []) S hW (metX3_isAt h_84) (cwX3_isAt_V S.2.2.2.2 q871 ⟨Nat.le_of_ble_eq_true rfl, Nat.le_of_ble_eq_true rfl⟩) k_83 rfl rfl hl.1 rfl (Nat.le_of_ble_eq_true rfl) dX3_next_113 ⟨(Nat.le_of_ble_eq_true rfl), (Nat.le_of_ble_eq_true rfl)⟩ rfl (fun H locs hW => ?_)
      refine lv_if_eq (tgt := 269) hx hb dX3_next_116 (by decide) (fun c_87 => ?_) (fun c_87 => ?_)
      · have h := if_t h c_87
        exact k1 _ (Option.some.inj h).symm _ _ _ hW (lv_sub hl [] rfl)
      · have h := if_f h c_87
        refine lv_aload_n hx hb dX3_next_119 rfl (lv_at hl 0 rfl) ?_
        refine lv_dup hx hb dX3_next_120 rfl ?_
        refine zw_getI S hW zC_X3 (i := 4) (by decide) (Or.inl q831) (fun _ h => h) dX3_next_121 h (fun x_88 h => ?_)
        refine lv_iconst (v := 1) hx hb dX3_next_124 (by decide) ?_
        refine lv_iadd hx hb dX3_next_125 ?_
        refine zw_putI S hW zC_X3 (i := 4) (by decide) (Or.inl rfl) rfl rfl rfl (Or.inl q831) (fun _ h => h) dX3_next_126 h (fun Z_89 h H locs hW => ?_)
        refine lv_goto (tgt := 108) hx hb dX3_next_129 (by decide) ?_
        exact ih Z_89 out _ _ _ h hW hl k1
  have J52 : ∀ (y0 : Nat) (Z : c_S) (H : Heap) (locs : List Loc) (ls : Array Slot), cm_X3_next_J52 y0 Z = some Z' → z_W gp D K (z_A Z0) s Z H locs → lv_has ls 1 [(0, .ref y0)] → W p l e rmX3_next s m ([.ref a0] : List Value).toArray below meth c H locs 0 0 (MQ below (z_Q (.returned (none)) D K (z_A Z0) Z') ([.ref a0] : List Value).toArray s 0 0 (z_A Z0)) (F0 m 52 ls []) := by
    intro y0 Z H locs ls h hW hl
    unfold cm_X3_next_J52 at h
    refine lv_aload_n hx hb dX3_next_52 rfl (lv_at hl 0 rfl) ?_
    refine lv_aload_n hx hb dX3_next_53 rfl (lv_at hl 0 rfl) ?_
    refine zw_getI S hW zC_X3 (i := 4) (by decide) (Or.inl q831) (fun _ h => h) dX3_next_54 h (fun x_19 h => ?_)
    refine zw_putI S hW zC_X3 (i := 7) (by decide) (Or.inl rfl) rfl rfl rfl (Or.inl q834) (fun _ h => h) dX3_next_57 h (fun Z_20 h H locs hW => ?_)
    refine lv_aload_n hx hb dX3_next_60 rfl (lv_at hl 0 rfl) ?_
    refine lv_aload_n hx hb dX3_next_61 rfl (lv_at hl 0 rfl) ?_
    refine zw_getI S hW zC_X3 (i := 4) (by decide) (Or.inl q831) (fun _ h => h) dX3_next_62 h (fun x_21 h => ?_)
    refine zw_putI S hW zC_X3 (i := 5) (by decide) (Or.inl rfl) rfl rfl rfl (Or.inl q832) (fun _ h => h) dX3_next_65 h (fun Z_22 h H locs hW => ?_)
    refine lv_aload_n hx hb dX3_next_68 rfl (lv_at hl 0 rfl) ?_
    refine lv_iconst (v := 0) hx hb dX3_next_69 (by decide) ?_
    refine zw_putI S hW zC_X3 (i := 8) (by decide) (Or.inl rfl) rfl rfl rfl (Or.inl q835) (fun _ h => h) dX3_next_70 h (fun Z_23 h H locs hW => ?_)
    refine lv_aload_n hx hb dX3_next_73 rfl (lv_at hl 0 rfl) ?_
    refine zw_getI S hW zC_X3 (i := 4) (by decide) (Or.inl q831) (fun _ h => h) dX3_next_74 h (fun x_24 h => ?_)
    refine lv_aload_n hx hb dX3_next_77 rfl (lv_at hl 0 rfl) ?_
    refine zw_getI S hW zC_X3 (i := 3) (by decide) (Or.inl q830) (fun _ h => h) dX3_next_78 h (fun x_25 h => ?_)
    refine lv_icmp_ne (tgt := 92) hx hb dX3_next_81 (by decide) (fun c_26 => ?_) (fun c_26 => ?_)
    · have h := if_f h c_26
      refine lv_aload_n hx hb dX3_next_92 rfl (lv_at hl 0 rfl) ?_
      refine lv_bipush (v := 97) hx hb dX3_next_93 (by decide) ?_
      refine lv_bipush (v := 122) hx hb dX3_next_95 (by decide) ?_
      obtain ⟨⟨_, k_27⟩, h⟩ := zK_some h
      obtain ⟨x_30, h_28, h⟩ := bnd_some h
      refine d_callV (As := [.int 97, .int 122]) (rest := []) S hW (metX3_isAt h_28) (cwX3_isAt_V S.2.2.2.2 q871 ⟨Nat.le_of_ble_eq_true rfl, Nat.le_of_ble_eq_true rfl⟩) k_27 rfl rfl hl.1 rfl (Nat.le_of_ble_eq_true rfl) dX3_next_97 ⟨(Nat.le_of_ble_eq_true rfl), (Nat.le_of_ble_eq_true rfl)⟩ rfl (fun H locs hW => ?_)
      refine lv_if_eq (tgt := 132) hx hb dX3_next_100 (by decide) (fun c_31 => ?_) (fun c_31 => ?_)
      · have h := if_t h c_31
        refine lv_aload_n hx hb dX3_next_132 rfl (lv_at hl 0 rfl) ?_
        refine lv_bipush (v := 48) hx hb dX3_next_133 (by decide) ?_
        refine lv_bipush (v := 57) hx hb dX3_next_135 (by decide) ?_
        obtain ⟨⟨_, k_32⟩, h⟩ := zK_some h
        obtain ⟨x_35, h_33, h⟩ := bnd_some h
        refine d_callV (As := [.int 48, .int 57]) (rest := []) S hW (metX3_isAt h_33) (cwX3_isAt_V S.2.2.2.2 q871 ⟨Nat.le_of_ble_eq_true rfl, Nat.le_of_ble_eq_true rfl⟩) k_32 rfl rfl hl.1 rfl (Nat.le_of_ble_eq_true rfl) dX3_next_137 ⟨(Nat.le_of_ble_eq_true rfl), (Nat.le_of_ble_eq_true rfl)⟩ rfl (fun H locs hW => ?_)
        refine lv_if_eq (tgt := 201) hx hb dX3_next_140 (by decide) (fun c_36 => ?_) (fun c_36 => ?_)
        · have h := if_t h c_36
          refine lv_aload_n hx hb dX3_next_201 rfl (lv_at hl 0 rfl) ?_
          refine lv_aload_n hx hb dX3_next_202 rfl (lv_at hl 0 rfl) ?_
          refine zw_getA S hW zC_X3 (i := 2) (by decide) (Or.inl q829) (fun _ h => h) dX3_next_203 h (fun a_37 h => ?_)
          refine lv_aload_n hx hb dX3_next_206 rfl (lv_at hl 0 rfl) ?_
          refine zw_getI S hW zC_X3 (i := 4) (by decide) (Or.inl q831) (fun _ h => h) dX3_next_207 h (fun x_38 h => ?_)
          refine zw_bald S hW dX3_next_210 h (fun x_39 h => ?_)
          refine zw_putI S hW zC_X3 (i := 8) (by decide) (Or.inl rfl) rfl rfl rfl (Or.inl q835) (fun _ h => h) dX3_next_211 h (fun Z_40 h H locs hW => ?_)
          refine lv_aload_n hx hb dX3_next_214 rfl (lv_at hl 0 rfl) ?_
          refine lv_aload_n hx hb dX3_next_215 rfl (lv_at hl 0 rfl) ?_
          refine zw_getI S hW zC_X3 (i := 8) (by decide) (Or.inl q835) (fun _ h => h) dX3_next_216 h (fun x_41 h => ?_)
          refine lv_bipush (v := 60) hx hb dX3_next_219 (by decide) ?_
          refine lv_icmp_eq (tgt := 251) hx hb dX3_next_221 (by decide) (fun c_42 => ?_) (fun c_42 => ?_)
          · have h := if_t h c_42
            refine lv_iconst (v := 3) hx hb dX3_next_251 (by decide) ?_
            refine lv_goto (tgt := 256) hx hb dX3_next_252 (by decide) ?_
            refine zw_putI S hW zC_X3 (i := 6) (by decide) (Or.inl rfl) rfl rfl rfl (Or.inl q833) (fun _ h => h) dX3_next_256 h (fun Z_43 h H locs hW => ?_)
            refine lv_aload_n hx hb dX3_next_259 rfl (lv_at hl 0 rfl) ?_
            refine lv_dup hx hb dX3_next_260 rfl ?_
            refine zw_getI S hW zC_X3 (i := 4) (by decide) (Or.inl q831) (fun _ h => h) dX3_next_261 h (fun x_44 h => ?_)
            refine lv_iconst (v := 1) hx hb dX3_next_264 (by decide) ?_
            refine lv_iadd hx hb dX3_next_265 ?_
            refine zw_putI S hW zC_X3 (i := 4) (by decide) (Or.inl rfl) rfl rfl rfl (Or.inl q831) (fun _ h => h) dX3_next_266 h (fun Z_45 h H locs hW => ?_)
            cases h
            exact d_vret S hr hlk hW (Nat.le_of_ble_eq_true rfl) (Nat.le_of_ble_eq_true rfl) dX3_next_269
          · have h := if_f h c_42
            refine lv_aload_n hx hb dX3_next_224 rfl (lv_at hl 0 rfl) ?_
            refine zw_getI S hW zC_X3 (i := 8) (by decide) (Or.inl q835) (fun _ h => h) dX3_next_225 h (fun x_46 h => ?_)
            refine lv_bipush (v := 62) hx hb dX3_next_228 (by decide) ?_
            refine lv_icmp_eq (tgt := 251) hx hb dX3_next_230 (by decide) (fun c_47 => ?_) (fun c_47 => ?_)
            · have h := if_t h c_47
              refine lv_iconst (v := 3) hx hb dX3_next_251 (by decide) ?_
              refine lv_goto (tgt := 256) hx hb dX3_next_252 (by decide) ?_
              refine zw_putI S hW zC_X3 (i := 6) (by decide) (Or.inl rfl) rfl rfl rfl (Or.inl q833) (fun _ h => h) dX3_next_256 h (fun Z_48 h H locs hW => ?_)
              refine lv_aload_n hx hb dX3_next_259 rfl (lv_at hl 0 rfl) ?_
              refine lv_dup hx hb dX3_next_260 rfl ?_
              refine zw_getI S hW zC_X3 (i := 4) (by decide) (Or.inl q831) (fun _ h => h) dX3_next_261 h (fun x_49 h => ?_)
              refine lv_iconst (v := 1) hx hb dX3_next_264 (by decide) ?_
              refine lv_iadd hx hb dX3_next_265 ?_
              refine zw_putI S hW zC_X3 (i := 4) (by decide) (Or.inl rfl) rfl rfl rfl (Or.inl q831) (fun _ h => h) dX3_next_266 h (fun Z_50 h H locs hW => ?_)
              cases h
              exact d_vret S hr hlk hW (Nat.le_of_ble_eq_true rfl) (Nat.le_of_ble_eq_true rfl) dX3_next_269
            · have h := if_f h c_47
              refine lv_aload_n hx hb dX3_next_233 rfl (lv_at hl 0 rfl) ?_
              refine zw_getI S hW zC_X3 (i := 8) (by decide) (Or.inl q835) (fun _ h => h) dX3_next_234 h (fun x_51 h => ?_)
              refine lv_bipush (v := 45) hx hb dX3_next_237 (by decide) ?_
              refine lv_icmp_eq (tgt := 251) hx hb dX3_next_239 (by decide) (fun c_52 => ?_) (fun c_52 => ?_)
              · have h := if_t h c_52
                refine lv_iconst (v := 3) hx hb dX3_next_251 (by decide) ?_
                refine lv_goto (tgt := 256) hx hb dX3_next_252 (by decide) ?_
                refine zw_putI S hW zC_X3 (i := 6) (by decide) (Or.inl rfl) rfl rfl rfl (Or.inl q833) (fun _ h => h) dX3_next_256 h (fun Z_53 h H locs hW => ?_)
                refine lv_aload_n hx hb dX3_next_259 rfl (lv_at hl 0 rfl) ?_
                refine lv_dup hx hb dX3_next_260 rfl ?_
                refine zw_getI S hW zC_X3 (i := 4) (by decide) (Or.inl q831) (fun _ h => h) dX3_next_261 h (fun x_54 h => ?_)
                refine lv_iconst (v := 1) hx hb dX3_next_264 (by decide) ?_
                refine lv_iadd hx hb dX3_next_265 ?_
                refine zw_putI S hW zC_X3 (i := 4) (by decide) (Or.inl rfl) rfl rfl rfl (Or.inl q831) (fun _ h => h) dX3_next_266 h (fun Z_55 h H locs hW => ?_)
                cases h
                exact d_vret S hr hlk hW (Nat.le_of_ble_eq_true rfl) (Nat.le_of_ble_eq_true rfl) dX3_next_269
              · have h := if_f h c_52
                refine lv_aload_n hx hb dX3_next_242 rfl (lv_at hl 0 rfl) ?_
                refine zw_getI S hW zC_X3 (i := 8) (by decide) (Or.inl q835) (fun _ h => h) dX3_next_243 h (fun x_56 h => ?_)
                refine lv_bipush (v := 59) hx hb dX3_next_246 (by decide) ?_
                refine lv_icmp_ne (tgt := 255) hx hb dX3_next_248 (by decide) (fun c_57 => ?_) (fun c_57 => ?_)
                · have h := if_f h c_57
                  refine lv_iconst (v := 4) hx hb dX3_next_255 (by decide) ?_
                  refine zw_putI S hW zC_X3 (i := 6) (by decide) (Or.inl rfl) rfl rfl rfl (Or.inl q833) (fun _ h => h) dX3_next_256 h (fun Z_58 h H locs hW => ?_)
                  refine lv_aload_n hx hb dX3_next_259 rfl (lv_at hl 0 rfl) ?_
                  refine lv_dup hx hb dX3_next_260 rfl ?_
                  refine zw_getI S hW zC_X3 (i := 4) (by decide) (Or.inl q831) (fun _ h => h) dX3_next_261 h (fun x_59 h => ?_)
                  refine lv_iconst (v := 1) hx hb dX3_next_264 (by decide) ?_
                  refine lv_iadd hx hb dX3_next_265 ?_
                  refine zw_putI S hW zC_X3 (i := 4) (by decide) (Or.inl rfl) rfl rfl rfl (Or.inl q831) (fun _ h => h) dX3_next_266 h (fun Z_60 h H locs hW => ?_)
                  cases h
                  exact d_vret S hr hlk hW (Nat.le_of_ble_eq_true rfl) (Nat.le_of_ble_eq_true rfl) dX3_next_269
                · have h := if_t h c_57
                  refine lv_iconst (v := 3) hx hb dX3_next_251 (by decide) ?_
                  refine lv_goto (tgt := 256) hx hb dX3_next_252 (by decide) ?_
                  refine zw_putI S hW zC_X3 (i := 6) (by decide) (Or.inl rfl) rfl rfl rfl (Or.inl q833) (fun _ h => h) dX3_next_256 h (fun Z_61 h H locs hW => ?_)
                  refine lv_aload_n hx hb dX3_next_259 rfl (lv_at hl 0 rfl) ?_
                  refine lv_dup hx hb dX3_next_260 rfl ?_
                  refine zw_getI S hW zC_X3 (i := 4) (by decide) (Or.inl q831) (fun _ h => h) dX3_next_261 h (fun x_62 h => ?_)
                  refine lv_iconst (v := 1) hx hb dX3_next_264 (by decide) ?_
                  refine lv_iadd hx hb dX3_next_265 ?_
                  refine zw_putI S hW zC_X3 (i := 4) (by decide) (Or.inl rfl) rfl rfl rfl (Or.inl q831) (fun _ h => h) dX3_next_266 h (fun Z_63 h H locs hW => ?_)
                  cases h
                  exact d_vret S hr hlk hW (Nat.le_of_ble_eq_true rfl) (Nat.le_of_ble_eq_true rfl) dX3_next_269
        · have h := if_f h c_36
          refine lv_aload_n hx hb dX3_next_143 rfl (lv_at hl 0 rfl) ?_
          refine lv_iconst (v := 2) hx hb dX3_next_144 (by decide) ?_
          refine zw_putI S hW zC_X3 (i := 6) (by decide) (Or.inl rfl) rfl rfl rfl (Or.inl q833) (fun _ h => h) dX3_next_145 h (fun Z_64 h H locs hW => ?_)
          obtain ⟨Z_81, h_80, h⟩ := bnd_some h
          refine Lp148 y0 1000 Z_64  _ _ _ _ h_80 hW hl ?_
          intro w0 eo H locs ls hW hl
          subst eo
          cases h
          exact d_vret S hr hlk hW (Nat.le_of_ble_eq_true rfl) (Nat.le_of_ble_eq_true rfl) dX3_next_269
      · have h := if_f h c_31
        refine lv_aload_n hx hb dX3_next_103 rfl (lv_at hl 0 rfl) ?_
        refine lv_iconst (v := 1) hx hb dX3_next_104 (by decide) ?_
        refine zw_putI S hW zC_X3 (i := 6) (by decide) (Or.inl rfl) rfl rfl rfl (Or.inl q833) (fun _ h => h) dX3_next_105 h (fun Z_82 h H locs hW => ?_)
        obtain ⟨Z_92, h_91, h⟩ := bnd_some h
        refine Lp108 y0 1000 Z_82  _ _ _ _ h_91 hW hl ?_
        intro w0 eo H locs ls hW hl
        subst eo
        cases h
        exact d_vret S hr hlk hW (Nat.le_of_ble_eq_true rfl) (Nat.le_of_ble_eq_true rfl) dX3_next_269
    · have h := if_t h c_26
      refine lv_aload_n hx hb dX3_next_84 rfl (lv_at hl 0 rfl) ?_
      refine lv_iconst (v := 0) hx hb dX3_next_85 (by decide) ?_
      refine zw_putI S hW zC_X3 (i := 6) (by decide) (Or.inl rfl) rfl rfl rfl (Or.inl q833) (fun _ h => h) dX3_next_86 h (fun Z_93 h H locs hW => ?_)
      refine lv_goto (tgt := 269) hx hb dX3_next_89 (by decide) ?_
      cases h
      exact d_vret S hr hlk hW (Nat.le_of_ble_eq_true rfl) (Nat.le_of_ble_eq_true rfl) dX3_next_269
  unfold cm_X3_next at h
  obtain ⟨Z_18, h_17, h⟩ := bnd_some h
  refine Lp0 a0 1000 Z0  _ _ _ _ h_17 hW hl ?_
  intro w0 eo H locs ls hW hl
  subst eo
  exact J52 a0 Z_18 _ _ _ h hW hl
