/-! walks of the component: X0_text X14_init X0_gaps X0_measured X13_holds X10_lacks -/
set_option maxRecDepth 100000
def cm_X0_text (gp : Nat → Nat) (Z0 : c_S) (a0 : Nat) : Option (Int32 × c_S) :=
  zPI Z0 a0 0 11 6 0 fun Z_1 => zPI Z_1 a0 0 11 7 (-1) fun Z_2 => zNew Z_2 3 11 tyX3 fun Z_3 a_4 => cA Z_3.Sh a0 0 11 4 fun a_5 => cI Z_3.Sh Z_3.V a0 0 11 5 fun x_6 => bnd (cm_X3_init gp Z_3 a_4 a_5 x_6) (fun Z_9 => zK Z_9 a_4 3 11 <| bnd (cm_X3_whole_2 gp Z_9 a_4) (cs2 (un2 fun o_13 Z_14 => nn o_13 fun a_18 => cA Z_14.Sh a0 0 11 1 fun a_19 => zK Z_14 a_19 1 20 <| bnd (cm_X1_begins gp Z_14 a_19 a_18) (fun Z_23 => cI Z_23.Sh Z_23.V a_18 2 13 12 fun x_24 => zPI Z_23 a0 0 11 5 0 fun Z_25 => some (x_24, Z_25))) (un2 fun x_15 Z_16 => zK Z_16 x_15 9 8 <| cI Z_16.Sh Z_16.V x_15 9 8 6 fun x_26 => zPI Z_16 a0 0 11 6 x_26 fun Z_27 => cI Z_27.Sh Z_27.V x_15 9 8 7 fun x_28 => zPI Z_27 a0 0 11 7 x_28 fun Z_29 => zPI Z_29 a0 0 11 5 0 fun Z_30 => some ((-4), Z_30))))
abbrev rmX0_text : Room := rmD 11 282 1612 12099
theorem cwX3_init_I {own : String} {R : Room} {s : State} {args : Array Value} {index : Nat} (hts : ∀ w ∈ lw_all, w.before args s = true) (hl : Cond.methodLink own index yX3_init ∈ lw_all) (hR : rmX3_init.frames + 1 ≤ R.frames ∧ 8 + (3 + 11) + rmX3_init.locals ≤ R.locals) : CallB R s args own index yX3_init cX3_init 3 (none) (ws_ yX3_init cX3_init 3 (none)) rmX3_init 2 13 2 ∧ yX3_init.name = "<init>" ∧ (Cond.instanceMethod yX3_init).before args s = true := cwI 2 hts (lw_meth q810) rfl rfl rfl (hts _ q111) (hts _ hl) (hts _ q809) rfl ⟨by decide, by decide, by decide +kernel⟩ hR
theorem cwX3_whole_2_V {own : String} {R : Room} {s : State} {args : Array Value} {index : Nat} (hts : ∀ w ∈ lw_all, w.before args s = true) (hl : Cond.methodLink own index yX3_whole_2 ∈ lw_all) (hR : rmX3_whole_2.frames + 1 ≤ R.frames ∧ 8 + (3 + 11) + rmX3_whole_2.locals ≤ R.locals) : CallW R s args own RX3 index yX3_whole_2 cX3_whole_2 3 (some (.object "FrostRing$Told")) (ws_ yX3_whole_2 cX3_whole_2 3 (some (.object "FrostRing$Told"))) rmX3_whole_2 1569 11596 0 := cwV 0 hts (lw_V hl q862 q863 q111 q864) rfl rfl rfl (by decide +kernel) hR
set_option maxHeartbeats 4000000 in
theorem metX0_text {l : Launch} {gp : Nat → Nat} {D : va_G} {K : Nat → ClassId} {Z0 : c_S} {a0 : Nat} {r : Int32} {Z' : c_S} (h : cm_X0_text gp Z0 a0 = some (r, Z')) : MetT l yX0_text (wsW_ yX0_text cX0_text 4 (some .int) [(0, 42, 49, 97), (0, 42, 76, 0), (49, 69, 76, 0)]) rmX0_text (z_Pc gp [.ref a0] D K Z0) (z_Q (.returned (some (.int r))) D K (z_A Z0) Z') 1612 12099 (z_A Z0) := by
  refine d_metH rfl (Nat.le_of_ble_eq_true rfl) ?_
  intro p e s m below meth c ls S hr hlk ht_ hl hW hsz
  obtain ⟨z0, zr, htab, hf0⟩ := ztab ht_
  have S : CallFix p m c cX0_text 4 s ([.ref a0] : List Value).toArray lw_all RX0 := S
  have hx := S.1
  have hb := S.2.1
  have hl : lv_has ls 4 [(0, .ref a0)] := hl
  unfold cm_X0_text at h
  refine lv_aload_n hx hb dX0_text_0 rfl (lv_at hl 0 rfl) ?_
  refine lv_iconst (v := 0) hx hb dX0_text_1 (by decide) ?_
  refine zw_putI S hW zC_X0 (i := 6) (by decide) (Or.inl rfl) rfl rfl rfl (Or.inl q761) (fun _ h => h) dX0_text_2 h (fun Z_1 h H locs hW => ?_)
  refine lv_aload_n hx hb dX0_text_5 rfl (lv_at hl 0 rfl) ?_
  refine lv_iconst (v := (-1)) hx hb dX0_text_6 (by decide) ?_
  refine zw_putI S hW zC_X0 (i := 7) (by decide) (Or.inl rfl) rfl rfl rfl (Or.inl q762) (fun _ h => h) dX0_text_7 h (fun Z_2 h H locs hW => ?_)
  refine zw_new S hW zC_X3 q806 q807 q111 (Nat.le_of_ble_eq_true rfl) (Nat.le_of_ble_eq_true rfl) dX0_text_10 h (fun Z_3 a_4 h H hW => ?_)
  refine lv_dup hx hb dX0_text_13 rfl ?_
  refine lv_aload_n hx hb dX0_text_14 rfl (lv_at hl 0 rfl) ?_
  refine zw_getA S hW zC_X0 (i := 4) (by decide) (Or.inl q759) (fun _ h => h) dX0_text_15 h (fun a_5 h => ?_)
  refine lv_aload_n hx hb dX0_text_18 rfl (lv_at hl 0 rfl) ?_
  refine zw_getI S hW zC_X0 (i := 5) (by decide) (Or.inl q760) (fun _ h => h) dX0_text_19 h (fun x_6 h => ?_)
  obtain ⟨Z_9, h_7, h⟩ := bnd_some h
  refine d_callI (As := [.ref a_5, .int x_6]) (rest := [.ref a_4]) S hW (metX3_init h_7) (cwX3_init_I S.2.2.2.2 q808 ⟨Nat.le_of_ble_eq_true rfl, Nat.le_of_ble_eq_true rfl⟩) rfl hl.1 rfl (Nat.le_of_ble_eq_true rfl) dX0_text_22 ⟨(Nat.le_of_ble_eq_true rfl), (Nat.le_of_ble_eq_true rfl)⟩ rfl (fun H locs hW => ?_)
  obtain ⟨⟨_, k_10⟩, h⟩ := zK_some h
  obtain ⟨q_17, h_11, h⟩ := bnd_some h
  have h9 := cs2_some h
  clear h
  rcases h9 with ⟨_, rfl, h⟩ | ⟨_, rfl, h⟩
  · have h9 := un2_some h
    clear h
    obtain ⟨o_13, Z_14, rfl, h⟩ := h9
    refine d_callVTr (As := []) (rest := []) S hW (metX3_whole_2 h_11) (cwX3_whole_2_V S.2.2.2.2 q861 ⟨Nat.le_of_ble_eq_true rfl, Nat.le_of_ble_eq_true rfl⟩) k_10 rfl rfl hl.1 rfl (Nat.le_of_ble_eq_true rfl) dX0_text_25 ⟨(Nat.le_of_ble_eq_true rfl), (Nat.le_of_ble_eq_true rfl)⟩ rfl (fun H locs hW => ?_)
    have h9 := nn_some h
    clear h
    obtain ⟨a_18, rfl, h8⟩ := h9
    have h := h8
    clear h8
    refine lv_astore_n (lv' := [(1, .ref a_18), (0, .ref a0)]) hx hb dX0_text_28 rfl hl (by decide) rfl (fun ls hl => ?_)
    refine lv_aload_n hx hb dX0_text_29 rfl (lv_at hl 1 rfl) ?_
    refine zw_getA S hW zC_X0 (i := 1) (by decide) (Or.inl q756) (fun _ h => h) dX0_text_30 h (fun a_19 h => ?_)
    refine lv_aload_n hx hb dX0_text_33 rfl (lv_at hl 0 rfl) ?_
    obtain ⟨⟨_, k_20⟩, h⟩ := zK_some h
    obtain ⟨Z_23, h_21, h⟩ := bnd_some h
    refine d_callV (As := [.ref a_18]) (rest := []) S hW (metX1_begins h_21) (cwX1_begins_V S.2.2.2.2 q1094 ⟨Nat.le_of_ble_eq_true rfl, Nat.le_of_ble_eq_true rfl⟩) k_20 rfl rfl hl.1 rfl (Nat.le_of_ble_eq_true rfl) dX0_text_34 ⟨(Nat.le_of_ble_eq_true rfl), (Nat.le_of_ble_eq_true rfl)⟩ rfl (fun H locs hW => ?_)
    refine lv_aload_n hx hb dX0_text_37 rfl (lv_at hl 0 rfl) ?_
    refine zw_getI S hW zC_X2 (i := 12) (by decide) (Or.inr ⟨_, nestW_in q421 rfl⟩) (fun _ h => h) dX0_text_38 h (fun x_24 h => ?_)
    refine lv_istore_n (lv' := [(2, .int x_24), (1, .ref a_18), (0, .ref a0)]) hx hb dX0_text_41 rfl hl (by decide) rfl (fun ls hl => ?_)
    refine lv_aload_n hx hb dX0_text_42 rfl (lv_at hl 2 rfl) ?_
    refine lv_iconst (v := 0) hx hb dX0_text_43 (by decide) ?_
    refine zw_putI S hW zC_X0 (i := 5) (by decide) (Or.inl rfl) rfl rfl rfl (Or.inl q760) (fun _ h => h) dX0_text_44 h (fun Z_25 h H locs hW => ?_)
    refine lv_iload_n hx hb dX0_text_47 rfl (lv_at hl 0 rfl) ?_
    cases h
    exact W.toT (d_iret S hr hlk hW (Nat.le_of_ble_eq_true rfl) (Nat.le_of_ble_eq_true rfl) dX0_text_48)
  · have h9 := un2_some h
    clear h
    obtain ⟨x_15, Z_16, rfl, h⟩ := h9
    refine d_callVTt (As := []) (rest := []) S hW (metX3_whole_2 h_11) (cwX3_whole_2_V S.2.2.2.2 q861 ⟨Nat.le_of_ble_eq_true rfl, Nat.le_of_ble_eq_true rfl⟩) k_10 rfl rfl hl.1 rfl (Nat.le_of_ble_eq_true rfl) dX0_text_25 ⟨(Nat.le_of_ble_eq_true rfl), (Nat.le_of_ble_eq_true rfl)⟩ (fun H locs hW => ?_)
    obtain ⟨⟨rf_, hk_⟩, h⟩ := zK_some h
    refine zcatch htab hf0 (by decide) (by decide) S hW q805 zC_X9 hk_ ?_
    refine lv_astore_n (lv' := [(1, .ref x_15), (0, .ref a0)]) hx hb dX0_text_49 rfl hl (by decide) rfl (fun ls hl => ?_)
    refine lv_aload_n hx hb dX0_text_50 rfl (lv_at hl 1 rfl) ?_
    refine lv_aload_n hx hb dX0_text_51 rfl (lv_at hl 0 rfl) ?_
    refine zw_getI S hW zC_X9 (i := 6) (by decide) (Or.inr ⟨_, nestW_in q954 rfl⟩) (fun _ h => h) dX0_text_52 h (fun x_26 h => ?_)
    refine zw_putI S hW zC_X0 (i := 6) (by decide) (Or.inl rfl) rfl rfl rfl (Or.inl q761) (fun _ h => h) dX0_text_55 h (fun Z_27 h H locs hW => ?_)
    refine lv_aload_n hx hb dX0_text_58 rfl (lv_at hl 1 rfl) ?_
    refine lv_aload_n hx hb dX0_text_59 rfl (lv_at hl 0 rfl) ?_
    refine zw_getI S hW zC_X9 (i := 7) (by decide) (Or.inr ⟨_, nestW_in q956 rfl⟩) (fun _ h => h) dX0_text_60 h (fun x_28 h => ?_)
    refine zw_putI S hW zC_X0 (i := 7) (by decide) (Or.inl rfl) rfl rfl rfl (Or.inl q762) (fun _ h => h) dX0_text_63 h (fun Z_29 h H locs hW => ?_)
    refine lv_bipush (v := (-4)) hx hb dX0_text_66 (by decide) ?_
    refine lv_istore_n (lv' := [(2, .int (-4)), (1, .ref x_15), (0, .ref a0)]) hx hb dX0_text_68 rfl hl (by decide) rfl (fun ls hl => ?_)
    refine lv_aload_n hx hb dX0_text_69 rfl (lv_at hl 2 rfl) ?_
    refine lv_iconst (v := 0) hx hb dX0_text_70 (by decide) ?_
    refine zw_putI S hW zC_X0 (i := 5) (by decide) (Or.inl rfl) rfl rfl rfl (Or.inl q760) (fun _ h => h) dX0_text_71 h (fun Z_30 h H locs hW => ?_)
    refine lv_iload_n hx hb dX0_text_74 rfl (lv_at hl 0 rfl) ?_
    cases h
    exact W.toT (d_iret S hr hlk hW (Nat.le_of_ble_eq_true rfl) (Nat.le_of_ble_eq_true rfl) dX0_text_75)
def cm_X14_init_J104 (rec : Int32 → c_S → Option (c_S)) (x0 : Nat) (x1 : Nat) (y2 : Int32) (z0 : Nat) (z1 : Int32) (z2 : Int32) (Z : c_S) : Option (c_S) :=
  okI (isB z2) <| zsI Z 2 z0 z1 z2 fun Z_28 => cA Z_28.Sh x0 13 9 3 fun a_30 => cA Z_28.Sh x0 13 9 2 fun a_31 => caI Z_28.Sh Z_28.V 2 a_31 y2 fun x_32 => if x_32 = 0 then (zsI Z_28 2 a_30 y2 0 fun Z_34 => nmI (y2 + 1) fun x_35 => rec x_35 Z_34) else (zK Z_28 x1 1 20 <| bnd (cm_X1_isBesideShaft Z_28 x1 y2) (fun x_40 => if x_40 = 0 then (zsI Z_28 2 a_30 y2 0 fun Z_42 => nmI (y2 + 1) fun x_43 => rec x_43 Z_42) else (zsI Z_28 2 a_30 y2 1 fun Z_45 => nmI (y2 + 1) fun x_46 => rec x_46 Z_45)))
def cm_X14_init_J103 (rec : Int32 → c_S → Option (c_S)) (x0 : Nat) (x1 : Nat) (y2 : Int32) (z0 : Nat) (z1 : Int32) (Z : c_S) : Option (c_S) :=
  cm_X14_init_J104 rec x0 x1 y2 z0 z1 0 Z
def cm_X14_init_B68 (x0 : Nat) (x1 : Nat) (rec : Int32 → c_S → Option (c_S)) (x2 : Int32) (Z : c_S) : Option (c_S) :=
  if 144 ≤ x2 then (some Z) else (cA Z.Sh x0 13 9 2 fun a_21 => cA Z.Sh x1 1 20 0 fun a_22 => zK Z a_22 2 13 <| bnd (cm_X2_isShaft Z a_22 x2) (fun x_26 => if x_26 = 0 then (zK Z x1 1 20 <| bnd (cm_X1_isFrozen Z x1 x2) (fun x_51 => if x_51 = 0 then (cm_X14_init_J104 rec x0 x1 x2 a_21 x2 1 Z) else (cm_X14_init_J103 rec x0 x1 x2 a_21 x2 Z))) else (cm_X14_init_J103 rec x0 x1 x2 a_21 x2 Z)))
abbrev cm_X14_init_F68 (x0 : Nat) (x1 : Nat) : (((Int32) × (c_S)) → Option (c_S)) → ((Int32) × (c_S)) → Option (c_S) := fun rec s => cm_X14_init_B68 x0 x1 (fun x2 Z => rec (x2, Z)) s.1 s.2
def cm_X14_init_L68 (x0 : Nat) (x1 : Nat) (n : Nat) (x2 : Int32) (Z : c_S) : Option (c_S) := lp (cm_X14_init_F68 x0 x1) n (x2, Z)
theorem cm_X14_init_L68_s (x0 : Nat) (x1 : Nat) (n : Nat) (x2 : Int32) (Z : c_S) : cm_X14_init_L68 x0 x1 (n + 1) x2 Z = cm_X14_init_B68 x0 x1 (fun x2 Z => cm_X14_init_L68 x0 x1 n x2 Z) x2 Z := lp_s (cm_X14_init_F68 x0 x1) n (x2, Z)
def cm_X14_init_B139 (x0 : Nat) (rec : c_S → Option (c_S)) (Z : c_S) : Option (c_S) :=
  zK Z x0 13 9 <| bnd (cm_X14_finds Z x0) (un2 fun x_59 Z_60 => if x_59 = 0 then (some Z_60) else (zK Z_60 x0 13 9 <| bnd (cm_X14_sends Z_60 x0) (fun Z_65 => rec Z_65)))
abbrev cm_X14_init_F139 (x0 : Nat) : (((c_S)) → Option (c_S)) → ((c_S)) → Option (c_S) := fun rec s => cm_X14_init_B139 x0 (fun Z => rec Z) s
def cm_X14_init_L139 (x0 : Nat) (n : Nat) (Z : c_S) : Option (c_S) := lp (cm_X14_init_F139 x0) n Z
theorem cm_X14_init_L139_s (x0 : Nat) (n : Nat) (Z : c_S) : cm_X14_init_L139 x0 (n + 1) Z = cm_X14_init_B139 x0 (fun Z => cm_X14_init_L139 x0 n Z) Z := lp_s (cm_X14_init_F139 x0) n Z
def cm_X14_init (Z0 : c_S) (a0 : Nat) (a1 : Nat) : Option (c_S) :=
  zNewI Z0 2 144 fun Z_1 a_2 => zPR Z_1 a0 13 9 1 (some a_2) fun Z_3 => zNewI Z_3 2 144 fun Z_4 a_5 => zPR Z_4 a0 13 9 2 (some a_5) fun Z_6 => zNewI Z_6 2 144 fun Z_7 a_8 => zPR Z_7 a0 13 9 3 (some a_8) fun Z_9 => zNewM Z_9 144 4 fun Z_10 a_11 => zPR Z_10 a0 13 9 4 (some a_11) fun Z_12 => zNewI Z_12 0 290 fun Z_13 a_14 => zPR Z_13 a0 13 9 5 (some a_14) fun Z_15 => zNewI Z_15 0 290 fun Z_16 a_17 => zPR Z_16 a0 13 9 6 (some a_17) fun Z_18 => zPR Z_18 a0 13 9 0 (some a1) fun Z_19 => bnd (cm_X14_init_L68 a0 a1 1000 0 Z_19) (fun Z_55 => bnd (cm_X14_init_L139 a0 1000 Z_55) (fun Z_68 => some Z_68))
abbrev rmX14_init : Room := rmD 3 70 150 1732
theorem cwX1_isBesideShaft_VN {own : String} {R : Room} {s : State} {args : Array Value} {index : Nat} (hts : ∀ w ∈ lw_all, w.before args s = true) {host : String} (hn : va_Nw (.methodLinkNest own index yX1_isBesideShaft host) s) (hR : rmX1_isBesideShaft.frames + 1 ≤ R.frames ∧ 8 + (4 + 11) + rmX1_isBesideShaft.locals ≤ R.locals) : va_CN R s args own index yX1_isBesideShaft host cX1_isBesideShaft 4 (some .boolean) (ws_ yX1_isBesideShaft cX1_isBesideShaft 4 (some .boolean)) rmX1_isBesideShaft 0 0 1 ∧ (Cond.instanceMethod yX1_isBesideShaft).before args s = true ∧ (Cond.selects RX1 yX1_isBesideShaft yX1_isBesideShaft).before args s = true := ⟨va_cnB 1 hts (lw_meth q1173) rfl rfl rfl hn (hts _ q106) ⟨by decide, by decide, by decide +kernel⟩ hR, hts _ q1172, hts _ qs36⟩
theorem cwX14_finds_V {own : String} {R : Room} {s : State} {args : Array Value} {index : Nat} (hts : ∀ w ∈ lw_all, w.before args s = true) (hl : Cond.methodLink own index yX14_finds ∈ lw_all) (hR : rmX14_finds.frames + 1 ≤ R.frames ∧ 8 + (3 + 11) + rmX14_finds.locals ≤ R.locals) : CallW R s args own RX14 index yX14_finds cX14_finds 3 (some .boolean) (ws_ yX14_finds cX14_finds 3 (some .boolean)) rmX14_finds 0 0 0 := cwV 0 hts (lw_V hl q1254 qs40 q133 q1255) rfl rfl rfl (by decide +kernel) hR
theorem cwX14_sends_V {own : String} {R : Room} {s : State} {args : Array Value} {index : Nat} (hts : ∀ w ∈ lw_all, w.before args s = true) (hl : Cond.methodLink own index yX14_sends ∈ lw_all) (hR : rmX14_sends.frames + 1 ≤ R.frames ∧ 8 + (4 + 11) + rmX14_sends.locals ≤ R.locals) : CallW R s args own RX14 index yX14_sends cX14_sends 4 (none) (ws_ yX14_sends cX14_sends 4 (none)) rmX14_sends 0 0 0 := cwV 0 hts (lw_V hl q1275 qs44 q133 q1276) rfl rfl rfl (by decide +kernel) hR
set_option maxHeartbeats 4000000 in
theorem metX14_init {l : Launch} {gp : Nat → Nat} {D : va_G} {K : Nat → ClassId} {Z0 : c_S} {a0 : Nat} {a1 : Nat} {Z' : c_S} (h : cm_X14_init Z0 a0 a1 = some Z') : Met l yX14_init (ws_ yX14_init cX14_init 3 (none)) rmX14_init (z_Pc gp [.ref a0, .ref a1] D K Z0) (z_Q (.returned (none)) D K (z_A Z0) Z') 150 1732 (z_A Z0) := by
  refine d_met rfl (Nat.le_of_ble_eq_true rfl) ?_
  intro p e s m below meth c ls S hr hlk hnm hl hW hsz
  have S : CallFix p m c cX14_init 3 s ([.ref a0, .ref a1] : List Value).toArray lw_all RX14 := S
  have hx := S.1
  have hb := S.2.1
  have hl : lv_has ls 3 [(0, .ref a0), (1, .ref a1)] := hl
  have hnm : meth.name = "<init>" := hnm
  have Lp68 : ∀ (x0 : Nat) (x1 : Nat) (E G : Nat) (n : Nat) (x2 : Int32) (Z : c_S) (out : (c_S)) (cells slots : Nat) (H : Heap) (locs : List Loc) (ls : Array Slot), cm_X14_init_L68 x0 x1 n x2 Z = some out → z_W gp D K (z_A Z0) s Z H locs → lv_has ls 3 [(0, .ref x0), (1, .ref x1), (2, .int x2)] → cells + n * 0 ≤ E → slots + n * 0 ≤ G → E ≤ 150 → G ≤ 1732 → (∀ (oZ : c_S), out = oZ → ∀ (H : Heap) (locs : List Loc) (ls : Array Slot), z_W gp D K (z_A Z0) s oZ H locs → lv_has ls 3 [(0, .ref x0)] → W p l e rmX14_init s m ([.ref a0, .ref a1] : List Value).toArray below meth c H locs E G (MQ below (z_Q (.returned (none)) D K (z_A Z0) Z') ([.ref a0, .ref a1] : List Value).toArray s 150 1732 (z_A Z0)) (F0 m 139 ls [])) → W p l e rmX14_init s m ([.ref a0, .ref a1] : List Value).toArray below meth c H locs cells slots (MQ below (z_Q (.returned (none)) D K (z_A Z0) Z') ([.ref a0, .ref a1] : List Value).toArray s 150 1732 (z_A Z0)) (F0 m 68 ls []) := by
    intro x0 x1 E G n
    induction n with
    | zero =>
      intro x2 Z out cells slots H locs ls h
      exact (lp_0 h).elim
    | succ n ih =>
      intro x2 Z out cells slots H locs ls h hW hl hcl hsl hE hG k1
      have J104 : ∀ (y2 : Int32) (z0 : Nat) (z1 : Int32) (z2 : Int32) (Z : c_S) (cells slots : Nat) (H : Heap) (locs : List Loc) (ls : Array Slot), cm_X14_init_J104 (fun x2 Z => cm_X14_init_L68 x0 x1 n x2 Z) x0 x1 y2 z0 z1 z2 Z = some out → z_W gp D K (z_A Z0) s Z H locs → lv_has ls 3 [(0, .ref x0), (1, .ref x1), (2, .int y2)] → cells + 0 + n * 0 ≤ E → slots + 0 + n * 0 ≤ G → W p l e rmX14_init s m ([.ref a0, .ref a1] : List Value).toArray below meth c H locs cells slots (MQ below (z_Q (.returned (none)) D K (z_A Z0) Z') ([.ref a0, .ref a1] : List Value).toArray s 150 1732 (z_A Z0)) (F0 m 104 ls [.int z2, .int z1, .ref z0]) := by
        intro y2 z0 z1 z2 Z cells slots H locs ls h hW hl hcl hsl
        unfold cm_X14_init_J104 at h
        obtain ⟨h_29, h⟩ := okI_some h
        refine zw_zast S hW (isB_nar h_29) dX14_init_104 h (fun Z_28 h H locs hW => ?_)
        refine lv_aload_n hx hb dX14_init_105 rfl (lv_at hl 0 rfl) ?_
        refine zw_getA S hW zC_X14 (i := 3) (by decide) (Or.inl q1284) (fun _ h => h) dX14_init_106 h (fun a_30 h => ?_)
        refine lv_iload_n hx hb dX14_init_109 rfl (lv_at hl 2 rfl) ?_
        refine lv_aload_n hx hb dX14_init_110 rfl (lv_at hl 0 rfl) ?_
        refine zw_getA S hW zC_X14 (i := 2) (by decide) (Or.inl q1283) (fun _ h => h) dX14_init_111 h (fun a_31 h => ?_)
        refine lv_iload_n hx hb dX14_init_114 rfl (lv_at hl 2 rfl) ?_
        refine zw_zald S hW dX14_init_115 h (fun x_32 h => ?_)
        refine lv_if_eq (tgt := 131) hx hb dX14_init_116 (by decide) (fun c_33 => ?_) (fun c_33 => ?_)
        · have h := if_t h c_33
          refine lv_iconst (v := 0) hx hb dX14_init_131 (by decide) ?_
          refine zw_zast S hW (by decide) dX14_init_132 h (fun Z_34 h H locs hW => ?_)
          obtain ⟨x_35, e_36, h⟩ := nmI_some h
          refine lv_iinc (v := x_35) (lv' := [(2, .int x_35), (0, .ref x0), (1, .ref x1)]) hx hb dX14_init_133 hl (k := 2) rfl (by rw [e_36]; rfl) (by decide) rfl (fun ls hl => ?_)
          refine lv_goto (tgt := 68) hx hb dX14_init_136 (by decide) ?_
          exact ih x_35 Z_34 out cells slots _ _ _ h hW (lv_sub hl [1, 2, 0] rfl) (by omega) (by omega) hE hG k1
        · have h := if_f h c_33
          refine lv_aload_n hx hb dX14_init_119 rfl (lv_at hl 1 rfl) ?_
          refine lv_iload_n hx hb dX14_init_120 rfl (lv_at hl 2 rfl) ?_
          obtain ⟨⟨_, k_37⟩, h⟩ := zK_some h
          obtain ⟨x_40, h_38, h⟩ := bnd_some h
          refine d_callVN (As := [.int y2]) (rest := [.int y2, .ref a_30]) S hW (metX1_isBesideShaft h_38) (cwX1_isBesideShaft_VN S.2.2.2.2 (hW.1.2.2.2.2.1.2.2.2.2.1 _ (nestW_in q1251 rfl)) ⟨Nat.le_of_ble_eq_true rfl, Nat.le_of_ble_eq_true rfl⟩) k_37 rfl rfl hl.1 rfl (Nat.le_of_ble_eq_true rfl) dX14_init_121 ⟨(show _ ≤ 150 from by omega), (show _ ≤ 1732 from by omega)⟩ rfl (fun H locs hW => ?_)
          refine lv_if_eq (tgt := 131) hx hb dX14_init_124 (by decide) (fun c_41 => ?_) (fun c_41 => ?_)
          · have h := if_t h c_41
            refine lv_iconst (v := 0) hx hb dX14_init_131 (by decide) ?_
            refine zw_zast S hW (by decide) dX14_init_132 h (fun Z_42 h H locs hW => ?_)
            obtain ⟨x_43, e_44, h⟩ := nmI_some h
            refine lv_iinc (v := x_43) (lv' := [(2, .int x_43), (0, .ref x0), (1, .ref x1)]) hx hb dX14_init_133 hl (k := 2) rfl (by rw [e_44]; rfl) (by decide) rfl (fun ls hl => ?_)
            refine lv_goto (tgt := 68) hx hb dX14_init_136 (by decide) ?_
            exact ih x_43 Z_42 out cells slots _ _ _ h hW (lv_sub hl [1, 2, 0] rfl) (by omega) (by omega) hE hG k1
          · have h := if_f h c_41
            refine lv_iconst (v := 1) hx hb dX14_init_127 (by decide) ?_
            refine lv_goto (tgt := 132) hx hb dX14_init_128 (by decide) ?_
            refine zw_zast S hW (by decide) dX14_init_132 h (fun Z_45 h H locs hW => ?_)
            obtain ⟨x_46, e_47, h⟩ := nmI_some h
            refine lv_iinc (v := x_46) (lv' := [(2, .int x_46), (0, .ref x0), (1, .ref x1)]) hx hb dX14_init_133 hl (k := 2) rfl (by rw [e_47]; rfl) (by decide) rfl (fun ls hl => ?_)
            refine lv_goto (tgt := 68) hx hb dX14_init_136 (by decide) ?_
            exact ih x_46 Z_45 out cells slots _ _ _ h hW (lv_sub hl [1, 2, 0] rfl) (by omega) (by omega) hE hG k1
      have J103 : ∀ (y2 : Int32) (z0 : Nat) (z1 : Int32) (Z : c_S) (cells slots : Nat) (H : Heap) (locs : List Loc) (ls : Array Slot), cm_X14_init_J103 (fun x2 Z => cm_X14_init_L68 x0 x1 n x2 Z) x0 x1 y2 z0 z1 Z = some out → z_W gp D K (z_A Z0) s Z H locs → lv_has ls 3 [(0, .ref x0), (1, .ref x1), (2, .int y2)] → cells + 0 + n * 0 ≤ E → slots + 0 + n * 0 ≤ G → W p l e rmX14_init s m ([.ref a0, .ref a1] : List Value).toArray below meth c H locs cells slots (MQ below (z_Q (.returned (none)) D K (z_A Z0) Z') ([.ref a0, .ref a1] : List Value).toArray s 150 1732 (z_A Z0)) (F0 m 103 ls [.int z1, .ref z0]) := by
        intro y2 z0 z1 Z cells slots H locs ls h hW hl hcl hsl
        unfold cm_X14_init_J103 at h
        refine lv_iconst (v := 0) hx hb dX14_init_103 (by decide) ?_
        exact J104 y2 z0 z1 0 Z cells slots _ _ _ h hW hl (by omega) (by omega)
      rw [cm_X14_init_L68_s] at h
      unfold cm_X14_init_B68 at h
      refine lv_iload_n hx hb dX14_init_68 rfl (lv_at hl 2 rfl) ?_
      refine lv_sipush (v := 144) hx hb dX14_init_69 (by decide) ?_
      refine lv_icmp_ge (tgt := 139) hx hb dX14_init_72 (by decide) (fun c_20 => ?_) (fun c_20 => ?_)
      · have h := if_t h c_20
        exact W.widen (by omega) (by omega) (k1 _ (Option.some.inj h).symm _ _ _ hW (lv_sub hl [0] rfl))
      · have h := if_f h c_20
        refine lv_aload_n hx hb dX14_init_75 rfl (lv_at hl 0 rfl) ?_
        refine zw_getA S hW zC_X14 (i := 2) (by decide) (Or.inl q1283) (fun _ h => h) dX14_init_76 h (fun a_21 h => ?_)
        refine lv_iload_n hx hb dX14_init_79 rfl (lv_at hl 2 rfl) ?_
        refine lv_aload_n hx hb dX14_init_80 rfl (lv_at hl 1 rfl) ?_
        refine zw_getA S hW zC_X1 (i := 0) (by decide) (Or.inr ⟨_, nestW_in q664 rfl⟩) (fun _ h => h) dX14_init_81 h (fun a_22 h => ?_)
        refine lv_iload_n hx hb dX14_init_84 rfl (lv_at hl 2 rfl) ?_
        obtain ⟨⟨_, k_23⟩, h⟩ := zK_some h
        obtain ⟨x_26, h_24, h⟩ := bnd_some h
        refine d_callV (As := [.int x2]) (rest := [.int x2, .ref a_21]) S hW (metX2_isShaft h_24) (cwX2_isShaft_V S.2.2.2.2 q1249 ⟨Nat.le_of_ble_eq_true rfl, Nat.le_of_ble_eq_true rfl⟩) k_23 rfl rfl hl.1 rfl (Nat.le_of_ble_eq_true rfl) dX14_init_85 ⟨(show _ ≤ 150 from by omega), (show _ ≤ 1732 from by omega)⟩ rfl (fun H locs hW => ?_)
        refine lv_if_ne (tgt := 103) hx hb dX14_init_88 (by decide) (fun c_27 => ?_) (fun c_27 => ?_)
        · have h := if_f h c_27
          exact J103 x2 a_21 x2 Z cells slots _ _ _ h hW hl (by omega) (by omega)
        · have h := if_t h c_27
          refine lv_aload_n hx hb dX14_init_91 rfl (lv_at hl 1 rfl) ?_
          refine lv_iload_n hx hb dX14_init_92 rfl (lv_at hl 2 rfl) ?_
          obtain ⟨⟨_, k_48⟩, h⟩ := zK_some h
          obtain ⟨x_51, h_49, h⟩ := bnd_some h
          refine d_callV (As := [.int x2]) (rest := [.int x2, .ref a_21]) S hW (metX1_isFrozen h_49) (cwX1_isFrozen_V S.2.2.2.2 q1250 ⟨Nat.le_of_ble_eq_true rfl, Nat.le_of_ble_eq_true rfl⟩) k_48 rfl rfl hl.1 rfl (Nat.le_of_ble_eq_true rfl) dX14_init_93 ⟨(show _ ≤ 150 from by omega), (show _ ≤ 1732 from by omega)⟩ rfl (fun H locs hW => ?_)
          refine lv_if_ne (tgt := 103) hx hb dX14_init_96 (by decide) (fun c_52 => ?_) (fun c_52 => ?_)
          · have h := if_f h c_52
            exact J103 x2 a_21 x2 Z cells slots _ _ _ h hW hl (by omega) (by omega)
          · have h := if_t h c_52
            refine lv_iconst (v := 1) hx hb dX14_init_99 (by decide) ?_
            refine lv_goto (tgt := 104) hx hb dX14_init_100 (by decide) ?_
            exact J104 x2 a_21 x2 1 Z cells slots _ _ _ h hW hl (by omega) (by omega)
  have Lp139 : ∀ (x0 : Nat) (E G : Nat) (n : Nat) (Z : c_S) (out : (c_S)) (cells slots : Nat) (H : Heap) (locs : List Loc) (ls : Array Slot), cm_X14_init_L139 x0 n Z = some out → z_W gp D K (z_A Z0) s Z H locs → lv_has ls 3 [(0, .ref x0)] → cells + n * 0 ≤ E → slots + n * 0 ≤ G → E ≤ 150 → G ≤ 1732 → (∀ (oZ : c_S), out = oZ → ∀ (H : Heap) (locs : List Loc) (ls : Array Slot), z_W gp D K (z_A Z0) s oZ H locs → lv_has ls 3 [] → W p l e rmX14_init s m ([.ref a0, .ref a1] : List Value).toArray below meth c H locs E G (MQ below (z_Q (.returned (none)) D K (z_A Z0) Z') ([.ref a0, .ref a1] : List Value).toArray s 150 1732 (z_A Z0)) (F0 m 153 ls [])) → W p l e rmX14_init s m ([.ref a0, .ref a1] : List Value).toArray below meth c H locs cells slots (MQ below (z_Q (.returned (none)) D K (z_A Z0) Z') ([.ref a0, .ref a1] : List Value).toArray s 150 1732 (z_A Z0)) (F0 m 139 ls []) := by
    intro x0 E G n
    induction n with
    | zero =>
      intro Z out cells slots H locs ls h
      exact (lp_0 h).elim
    | succ n ih =>
      intro Z out cells slots H locs ls h hW hl hcl hsl hE hG k1
      rw [cm_X14_init_L139_s] at h
      unfold cm_X14_init_B139 at h
      refine lv_aload_n hx hb dX14_init_139 rfl (lv_at hl 0 rfl) ?_
      obtain ⟨⟨_, k_56⟩, h⟩ := zK_some h
      obtain ⟨x_59, Z_60, h_57, h⟩ := bnd2_some h
      refine d_callV (As := []) (rest := []) S hW (metX14_finds h_57) (cwX14_finds_V S.2.2.2.2 q1252 ⟨Nat.le_of_ble_eq_true rfl, Nat.le_of_ble_eq_true rfl⟩) k_56 rfl rfl hl.1 rfl (Nat.le_of_ble_eq_true rfl) dX14_init_140 ⟨(show _ ≤ 150 from by omega), (show _ ≤ 1732 from by omega)⟩ rfl (fun H locs hW => ?_)
      refine lv_if_eq (tgt := 153) hx hb dX14_init_143 (by decide) (fun c_61 => ?_) (fun c_61 => ?_)
      · have h := if_t h c_61
        exact W.widen (by omega) (by omega) (k1 _ (Option.some.inj h).symm _ _ _ hW (lv_sub hl [] rfl))
      · have h := if_f h c_61
        refine lv_aload_n hx hb dX14_init_146 rfl (lv_at hl 0 rfl) ?_
        obtain ⟨⟨_, k_62⟩, h⟩ := zK_some h
        obtain ⟨Z_65, h_63, h⟩ := bnd_some h
        refine d_callV (As := []) (rest := []) S hW (metX14_sends h_63) (cwX14_sends_V S.2.2.2.2 q1273 ⟨Nat.le_of_ble_eq_true rfl, Nat.le_of_ble_eq_true rfl⟩) k_62 rfl rfl hl.1 rfl (Nat.le_of_ble_eq_true rfl) dX14_init_147 ⟨(show _ ≤ 150 from by omega), (show _ ≤ 1732 from by omega)⟩ rfl (fun H locs hW => ?_)
        refine lv_goto (tgt := 139) hx hb dX14_init_150 (by decide) ?_
        exact ih Z_65 out cells slots _ _ _ h hW hl (by omega) (by omega) hE hG k1
  unfold cm_X14_init at h
  refine lv_aload_n hx hb dX14_init_0 rfl (lv_at hl 0 rfl) ?_
  refine zw_oinit S q1246 hl.1 (Nat.le_of_ble_eq_true rfl) (z_ro (Nat.le_of_ble_eq_true rfl)) (Nat.le_of_ble_eq_true rfl) dX14_init_1 ?_
  refine lv_aload_n hx hb dX14_init_4 rfl (lv_at hl 0 rfl) ?_
  refine lv_sipush (v := 144) hx hb dX14_init_5 (by decide) ?_
  refine zw_newi (atype := .boolean) (t := 2) (N := 144) S hW q567 rfl rfl (fun h => h) (by decide) rfl (by decide) (Nat.le_of_ble_eq_true rfl) (Nat.le_of_ble_eq_true rfl) dX14_init_8 h (fun Z_1 a_2 h H hW => ?_)
  refine zw_putR (o := some a_2) S hW zC_X14 (i := 1) (by decide) (Or.inr ⟨rfl, hnm, rfl, q1282⟩) rfl (Or.inl q1282) (fun _ h => h) dX14_init_10 h (fun Z_3 h H locs hW => ?_)
  refine lv_aload_n hx hb dX14_init_13 rfl (lv_at hl 0 rfl) ?_
  refine lv_sipush (v := 144) hx hb dX14_init_14 (by decide) ?_
  refine zw_newi (atype := .boolean) (t := 2) (N := 144) S hW q567 rfl rfl (fun h => h) (by decide) rfl (by decide) (Nat.le_of_ble_eq_true rfl) (Nat.le_of_ble_eq_true rfl) dX14_init_17 h (fun Z_4 a_5 h H hW => ?_)
  refine zw_putR (o := some a_5) S hW zC_X14 (i := 2) (by decide) (Or.inr ⟨rfl, hnm, rfl, q1283⟩) rfl (Or.inl q1283) (fun _ h => h) dX14_init_19 h (fun Z_6 h H locs hW => ?_)
  refine lv_aload_n hx hb dX14_init_22 rfl (lv_at hl 0 rfl) ?_
  refine lv_sipush (v := 144) hx hb dX14_init_23 (by decide) ?_
  refine zw_newi (atype := .boolean) (t := 2) (N := 144) S hW q567 rfl rfl (fun h => h) (by decide) rfl (by decide) (Nat.le_of_ble_eq_true rfl) (Nat.le_of_ble_eq_true rfl) dX14_init_26 h (fun Z_7 a_8 h H hW => ?_)
  refine zw_putR (o := some a_8) S hW zC_X14 (i := 3) (by decide) (Or.inr ⟨rfl, hnm, rfl, q1284⟩) rfl (Or.inl q1284) (fun _ h => h) dX14_init_28 h (fun Z_9 h H locs hW => ?_)
  refine lv_aload_n hx hb dX14_init_31 rfl (lv_at hl 0 rfl) ?_
  refine lv_sipush (v := 144) hx hb dX14_init_32 (by decide) ?_
  refine lv_iconst (v := 4) hx hb dX14_init_35 (by decide) ?_
  refine zw_newM (N := 144) (M := 4) S hW q1247 ⟨by decide, by decide⟩ (by decide) rfl rfl (by decide) (Nat.le_of_ble_eq_true rfl) (Nat.le_of_ble_eq_true rfl) dX14_init_36 h (fun Z_10 a_11 h H locs hW => ?_)
  refine zw_putR (o := some a_11) S hW zC_X14 (i := 4) (by decide) (Or.inr ⟨rfl, hnm, rfl, q1285⟩) rfl (Or.inl q1285) (fun _ h => h) dX14_init_40 h (fun Z_12 h H locs hW => ?_)
  refine lv_aload_n hx hb dX14_init_43 rfl (lv_at hl 0 rfl) ?_
  refine lv_sipush (v := 290) hx hb dX14_init_44 (by decide) ?_
  refine zw_newi (atype := .int) (t := 0) (N := 290) S hW q245 rfl rfl (fun h => h) (by decide) rfl (by decide) (Nat.le_of_ble_eq_true rfl) (Nat.le_of_ble_eq_true rfl) dX14_init_47 h (fun Z_13 a_14 h H hW => ?_)
  refine zw_putR (o := some a_14) S hW zC_X14 (i := 5) (by decide) (Or.inr ⟨rfl, hnm, rfl, q1286⟩) rfl (Or.inl q1286) (fun _ h => h) dX14_init_49 h (fun Z_15 h H locs hW => ?_)
  refine lv_aload_n hx hb dX14_init_52 rfl (lv_at hl 0 rfl) ?_
  refine lv_sipush (v := 290) hx hb dX14_init_53 (by decide) ?_
  refine zw_newi (atype := .int) (t := 0) (N := 290) S hW q245 rfl rfl (fun h => h) (by decide) rfl (by decide) (Nat.le_of_ble_eq_true rfl) (Nat.le_of_ble_eq_true rfl) dX14_init_56 h (fun Z_16 a_17 h H hW => ?_)
  refine zw_putR (o := some a_17) S hW zC_X14 (i := 6) (by decide) (Or.inr ⟨rfl, hnm, rfl, q1287⟩) rfl (Or.inl q1287) (fun _ h => h) dX14_init_58 h (fun Z_18 h H locs hW => ?_)
  refine lv_aload_n hx hb dX14_init_61 rfl (lv_at hl 0 rfl) ?_
  refine lv_aload_n hx hb dX14_init_62 rfl (lv_at hl 1 rfl) ?_
  refine zw_putR (o := some a1) S hW zC_X14 (i := 0) (by decide) (Or.inr ⟨rfl, hnm, rfl, q1281⟩) rfl (Or.inl q1281) (fun _ h => h) dX14_init_63 h (fun Z_19 h H locs hW => ?_)
  refine lv_iconst (v := 0) hx hb dX14_init_66 (by decide) ?_
  refine lv_istore_n (lv' := [(2, .int 0), (0, .ref a0), (1, .ref a1)]) hx hb dX14_init_67 rfl hl (by decide) rfl (fun ls hl => ?_)
  obtain ⟨Z_55, h_54, h⟩ := bnd_some h
  refine Lp68 a0 a1 150 1732 1000 0 Z_19  _ 150 1732 _ _ _ h_54 hW (lv_sub hl [1, 2, 0] rfl) (by omega) (by omega) (by omega) (by omega) ?_
  intro w0 eo H locs ls hW hl
  subst eo
  obtain ⟨Z_68, h_67, h⟩ := bnd_some h
  refine Lp139 a0 150 1732 1000 Z_55  _ 150 1732 _ _ _ h_67 hW hl (by omega) (by omega) (by omega) (by omega) ?_
  intro w0 eo H locs ls hW hl
  subst eo
  cases h
  exact d_vret S hr hlk hW (Nat.le_of_ble_eq_true rfl) (Nat.le_of_ble_eq_true rfl) dX14_init_153
def cm_X0_gaps_B29 (x0 : Nat) (x1 : Nat) (rec : Int32 → c_S → Option (c_S)) (x2 : Int32) (Z : c_S) : Option (c_S) :=
  if 144 ≤ x2 then (some Z) else (zK Z x1 13 9 <| bnd (cm_X14_isGap Z x1 x2) (fun x_17 => if x_17 = 0 then (nmI (x2 + 1) fun x_26 => rec x_26 Z) else (cA Z.Sh x0 0 11 8 fun a_19 => cI Z.Sh Z.V x0 0 11 9 fun x_20 => zsI Z 0 a_19 x_20 x2 fun Z_21 => cI Z_21.Sh Z_21.V x0 0 11 9 fun x_22 => zPI Z_21 x0 0 11 9 (x_22 + 1) fun Z_23 => nmI (x2 + 1) fun x_24 => rec x_24 Z_23)))
abbrev cm_X0_gaps_F29 (x0 : Nat) (x1 : Nat) : (((Int32) × (c_S)) → Option (c_S)) → ((Int32) × (c_S)) → Option (c_S) := fun rec s => cm_X0_gaps_B29 x0 x1 (fun x2 Z => rec (x2, Z)) s.1 s.2
def cm_X0_gaps_L29 (x0 : Nat) (x1 : Nat) (n : Nat) (x2 : Int32) (Z : c_S) : Option (c_S) := lp (cm_X0_gaps_F29 x0 x1) n (x2, Z)
theorem cm_X0_gaps_L29_s (x0 : Nat) (x1 : Nat) (n : Nat) (x2 : Int32) (Z : c_S) : cm_X0_gaps_L29 x0 x1 (n + 1) x2 Z = cm_X0_gaps_B29 x0 x1 (fun x2 Z => cm_X0_gaps_L29 x0 x1 n x2 Z) x2 Z := lp_s (cm_X0_gaps_F29 x0 x1) n (x2, Z)
def cm_X0_gaps (Z0 : c_S) (a0 : Nat) : Option (Int32 × c_S) :=
  zK Z0 a0 0 11 <| bnd (cm_X0_hasShaft Z0 a0) (fun x_4 => if x_4 = 0 then (some ((-6), Z0)) else (zNew Z0 13 9 tyX14 fun Z_6 a_7 => cA Z_6.Sh a0 0 11 1 fun a_8 => bnd (cm_X14_init Z_6 a_7 a_8) (fun Z_11 => zPI Z_11 a0 0 11 9 0 fun Z_12 => bnd (cm_X0_gaps_L29 a0 a_7 1000 0 Z_12) (fun Z_30 => cI Z_30.Sh Z_30.V a_7 13 9 8 fun x_31 => some (x_31, Z_30)))))
abbrev rmX0_gaps : Room := rmD 4 92 151 1741
theorem cwX14_init_I {own : String} {R : Room} {s : State} {args : Array Value} {index : Nat} (hts : ∀ w ∈ lw_all, w.before args s = true) (hl : Cond.methodLink own index yX14_init ∈ lw_all) (hR : rmX14_init.frames + 1 ≤ R.frames ∧ 8 + (3 + 11) + rmX14_init.locals ≤ R.locals) : CallB R s args own index yX14_init cX14_init 3 (none) (ws_ yX14_init cX14_init 3 (none)) rmX14_init 150 1732 1 ∧ yX14_init.name = "<init>" ∧ (Cond.instanceMethod yX14_init).before args s = true := cwI 1 hts (lw_meth q1245) rfl rfl rfl (hts _ q133) (hts _ hl) (hts _ q1244) rfl ⟨by decide, by decide, by decide +kernel⟩ hR
theorem cwX14_isGap_V {own : String} {R : Room} {s : State} {args : Array Value} {index : Nat} (hts : ∀ w ∈ lw_all, w.before args s = true) (hl : Cond.methodLink own index yX14_isGap ∈ lw_all) (hR : rmX14_isGap.frames + 1 ≤ R.frames ∧ 8 + (2 + 11) + rmX14_isGap.locals ≤ R.locals) : CallW R s args own RX14 index yX14_isGap cX14_isGap 2 (some .boolean) (ws_ yX14_isGap cX14_isGap 2 (some .boolean)) rmX14_isGap 0 0 1 := cwV 1 hts (lw_V hl q1311 q1312 q133 q1313) rfl rfl rfl (by decide +kernel) hR
set_option maxHeartbeats 4000000 in
theorem metX0_gaps {l : Launch} {gp : Nat → Nat} {D : va_G} {K : Nat → ClassId} {Z0 : c_S} {a0 : Nat} {r : Int32} {Z' : c_S} (h : cm_X0_gaps Z0 a0 = some (r, Z')) : Met l yX0_gaps (ws_ yX0_gaps cX0_gaps 3 (some .int)) rmX0_gaps (z_Pc gp [.ref a0] D K Z0) (z_Q (.returned (some (.int r))) D K (z_A Z0) Z') 151 1741 (z_A Z0) := by
  refine d_met rfl (Nat.le_of_ble_eq_true rfl) ?_
  intro p e s m below meth c ls S hr hlk hnm hl hW hsz
  have S : CallFix p m c cX0_gaps 3 s ([.ref a0] : List Value).toArray lw_all RX0 := S
  have hx := S.1
  have hb := S.2.1
  have hl : lv_has ls 3 [(0, .ref a0)] := hl
  have hnm : meth.name = "gaps" := hnm
  have Lp29 : ∀ (x0 : Nat) (x1 : Nat) (E G : Nat) (n : Nat) (x2 : Int32) (Z : c_S) (out : (c_S)) (cells slots : Nat) (H : Heap) (locs : List Loc) (ls : Array Slot), cm_X0_gaps_L29 x0 x1 n x2 Z = some out → z_W gp D K (z_A Z0) s Z H locs → lv_has ls 3 [(0, .ref x0), (1, .ref x1), (2, .int x2)] → cells + n * 0 ≤ E → slots + n * 0 ≤ G → E ≤ 151 → G ≤ 1741 → (∀ (oZ : c_S), out = oZ → ∀ (H : Heap) (locs : List Loc) (ls : Array Slot), z_W gp D K (z_A Z0) s oZ H locs → lv_has ls 3 [(1, .ref x1)] → W p l e rmX0_gaps s m ([.ref a0] : List Value).toArray below meth c H locs E G (MQ below (z_Q (.returned (some (.int r))) D K (z_A Z0) Z') ([.ref a0] : List Value).toArray s 151 1741 (z_A Z0)) (F0 m 73 ls [])) → W p l e rmX0_gaps s m ([.ref a0] : List Value).toArray below meth c H locs cells slots (MQ below (z_Q (.returned (some (.int r))) D K (z_A Z0) Z') ([.ref a0] : List Value).toArray s 151 1741 (z_A Z0)) (F0 m 29 ls []) := by
    intro x0 x1 E G n
    induction n with
    | zero =>
      intro x2 Z out cells slots H locs ls h
      exact (lp_0 h).elim
    | succ n ih =>
      intro x2 Z out cells slots H locs ls h hW hl hcl hsl hE hG k1
      rw [cm_X0_gaps_L29_s] at h
      unfold cm_X0_gaps_B29 at h
      refine lv_iload_n hx hb dX0_gaps_29 rfl (lv_at hl 2 rfl) ?_
      refine lv_sipush (v := 144) hx hb dX0_gaps_30 (by decide) ?_
      refine lv_icmp_ge (tgt := 73) hx hb dX0_gaps_33 (by decide) (fun c_13 => ?_) (fun c_13 => ?_)
      · have h := if_t h c_13
        exact W.widen (by omega) (by omega) (k1 _ (Option.some.inj h).symm _ _ _ hW (lv_sub hl [1] rfl))
      · have h := if_f h c_13
        refine lv_aload_n hx hb dX0_gaps_36 rfl (lv_at hl 1 rfl) ?_
        refine lv_iload_n hx hb dX0_gaps_37 rfl (lv_at hl 2 rfl) ?_
        obtain ⟨⟨_, k_14⟩, h⟩ := zK_some h
        obtain ⟨x_17, h_15, h⟩ := bnd_some h
        refine d_callV (As := [.int x2]) (rest := []) S hW (metX14_isGap h_15) (cwX14_isGap_V S.2.2.2.2 q1310 ⟨Nat.le_of_ble_eq_true rfl, Nat.le_of_ble_eq_true rfl⟩) k_14 rfl rfl hl.1 rfl (Nat.le_of_ble_eq_true rfl) dX0_gaps_38 ⟨(show _ ≤ 151 from by omega), (show _ ≤ 1741 from by omega)⟩ rfl (fun H locs hW => ?_)
        refine lv_if_ne (tgt := 47) hx hb dX0_gaps_41 (by decide) (fun c_18 => ?_) (fun c_18 => ?_)
        · have h := if_f h c_18
          refine lv_aload_n hx hb dX0_gaps_47 rfl (lv_at hl 0 rfl) ?_
          refine zw_getA S hW zC_X0 (i := 8) (by decide) (Or.inl q763) (fun _ h => h) dX0_gaps_48 h (fun a_19 h => ?_)
          refine lv_aload_n hx hb dX0_gaps_51 rfl (lv_at hl 0 rfl) ?_
          refine zw_getI S hW zC_X0 (i := 9) (by decide) (Or.inl q764) (fun _ h => h) dX0_gaps_52 h (fun x_20 h => ?_)
          refine lv_iload_n hx hb dX0_gaps_55 rfl (lv_at hl 2 rfl) ?_
          refine zw_iast S hW dX0_gaps_56 h (fun Z_21 h H locs hW => ?_)
          refine lv_aload_n hx hb dX0_gaps_57 rfl (lv_at hl 0 rfl) ?_
          refine lv_dup hx hb dX0_gaps_58 rfl ?_
          refine zw_getI S hW zC_X0 (i := 9) (by decide) (Or.inl q764) (fun _ h => h) dX0_gaps_59 h (fun x_22 h => ?_)
          refine lv_iconst (v := 1) hx hb dX0_gaps_62 (by decide) ?_
          refine lv_iadd hx hb dX0_gaps_63 ?_
          refine zw_putI S hW zC_X0 (i := 9) (by decide) (Or.inl rfl) rfl rfl rfl (Or.inl q764) (fun _ h => h) dX0_gaps_64 h (fun Z_23 h H locs hW => ?_)
          obtain ⟨x_24, e_25, h⟩ := nmI_some h
          refine lv_iinc (v := x_24) (lv' := [(2, .int x_24), (0, .ref x0), (1, .ref x1)]) hx hb dX0_gaps_67 hl (k := 2) rfl (by rw [e_25]; rfl) (by decide) rfl (fun ls hl => ?_)
          refine lv_goto (tgt := 29) hx hb dX0_gaps_70 (by decide) ?_
          exact ih x_24 Z_23 out cells slots _ _ _ h hW (lv_sub hl [1, 2, 0] rfl) (by omega) (by omega) hE hG k1
        · have h := if_t h c_18
          refine lv_goto (tgt := 67) hx hb dX0_gaps_44 (by decide) ?_
          obtain ⟨x_26, e_27, h⟩ := nmI_some h
          refine lv_iinc (v := x_26) (lv' := [(2, .int x_26), (0, .ref x0), (1, .ref x1)]) hx hb dX0_gaps_67 hl (k := 2) rfl (by rw [e_27]; rfl) (by decide) rfl (fun ls hl => ?_)
          refine lv_goto (tgt := 29) hx hb dX0_gaps_70 (by decide) ?_
          exact ih x_26 Z out cells slots _ _ _ h hW (lv_sub hl [1, 2, 0] rfl) (by omega) (by omega) hE hG k1
  unfold cm_X0_gaps at h
  refine lv_aload_n hx hb dX0_gaps_0 rfl (lv_at hl 0 rfl) ?_
  obtain ⟨⟨_, k_1⟩, h⟩ := zK_some h
  obtain ⟨x_4, h_2, h⟩ := bnd_some h
  refine d_callV (As := []) (rest := []) S hW (metX0_hasShaft h_2) (cwX0_hasShaft_V S.2.2.2.2 q1226 ⟨Nat.le_of_ble_eq_true rfl, Nat.le_of_ble_eq_true rfl⟩) k_1 rfl rfl hl.1 rfl (Nat.le_of_ble_eq_true rfl) dX0_gaps_1 ⟨(Nat.le_of_ble_eq_true rfl), (Nat.le_of_ble_eq_true rfl)⟩ rfl (fun H locs hW => ?_)
  refine lv_if_ne (tgt := 10) hx hb dX0_gaps_4 (by decide) (fun c_5 => ?_) (fun c_5 => ?_)
  · have h := if_f h c_5
    refine zw_new S hW zC_X14 q1241 q1242 q133 (Nat.le_of_ble_eq_true rfl) (Nat.le_of_ble_eq_true rfl) dX0_gaps_10 h (fun Z_6 a_7 h H hW => ?_)
    refine lv_dup hx hb dX0_gaps_13 rfl ?_
    refine lv_aload_n hx hb dX0_gaps_14 rfl (lv_at hl 0 rfl) ?_
    refine zw_getA S hW zC_X0 (i := 1) (by decide) (Or.inl q756) (fun _ h => h) dX0_gaps_15 h (fun a_8 h => ?_)
    obtain ⟨Z_11, h_9, h⟩ := bnd_some h
    refine d_callI (As := [.ref a_8]) (rest := [.ref a_7]) S hW (metX14_init h_9) (cwX14_init_I S.2.2.2.2 q1243 ⟨Nat.le_of_ble_eq_true rfl, Nat.le_of_ble_eq_true rfl⟩) rfl hl.1 rfl (Nat.le_of_ble_eq_true rfl) dX0_gaps_18 ⟨(Nat.le_of_ble_eq_true rfl), (Nat.le_of_ble_eq_true rfl)⟩ rfl (fun H locs hW => ?_)
    refine lv_astore_n (lv' := [(1, .ref a_7), (0, .ref a0)]) hx hb dX0_gaps_21 rfl hl (by decide) rfl (fun ls hl => ?_)
    refine lv_aload_n hx hb dX0_gaps_22 rfl (lv_at hl 1 rfl) ?_
    refine lv_iconst (v := 0) hx hb dX0_gaps_23 (by decide) ?_
    refine zw_putI S hW zC_X0 (i := 9) (by decide) (Or.inl rfl) rfl rfl rfl (Or.inl q764) (fun _ h => h) dX0_gaps_24 h (fun Z_12 h H locs hW => ?_)
    refine lv_iconst (v := 0) hx hb dX0_gaps_27 (by decide) ?_
    refine lv_istore_n (lv' := [(2, .int 0), (1, .ref a_7), (0, .ref a0)]) hx hb dX0_gaps_28 rfl hl (by decide) rfl (fun ls hl => ?_)
    obtain ⟨Z_30, h_29, h⟩ := bnd_some h
    refine Lp29 a0 a_7 151 1741 1000 0 Z_12  _ 151 1741 _ _ _ h_29 hW (lv_sub hl [2, 1, 0] rfl) (by omega) (by omega) (by omega) (by omega) ?_
    intro w0 eo H locs ls hW hl
    subst eo
    refine lv_aload_n hx hb dX0_gaps_73 rfl (lv_at hl 0 rfl) ?_
    refine zw_getI S hW zC_X14 (i := 8) (by decide) (Or.inr ⟨_, nestW_in q1290 rfl⟩) (fun _ h => h) dX0_gaps_74 h (fun x_31 h => ?_)
    cases h
    exact d_iret S hr hlk hW (Nat.le_of_ble_eq_true rfl) (Nat.le_of_ble_eq_true rfl) dX0_gaps_77
  · have h := if_t h c_5
    refine lv_bipush (v := (-6)) hx hb dX0_gaps_7 (by decide) ?_
    cases h
    exact d_iret S hr hlk hW (Nat.le_of_ble_eq_true rfl) (Nat.le_of_ble_eq_true rfl) dX0_gaps_9
def cm_X0_measured (Z0 : c_S) (a0 : Nat) (a1 : Int32) : Option (Int32 × c_S) :=
  if a1 = 0 then (zK Z0 a0 0 11 <| bnd (cm_X0_hasShaft Z0 a0) (fun x_5 => if x_5 = 0 then (some (0, Z0)) else (cA Z0.Sh a0 0 11 1 fun a_7 => zK Z0 a_7 1 20 <| bnd (cm_X1_thick Z0 a_7) (un2 fun x_11 Z_12 => some (x_11, Z_12))))) else (if a1 = 1 then (zK Z0 a0 0 11 <| bnd (cm_X0_hasShaft Z0 a0) (fun x_17 => if x_17 = 0 then (some (0, Z0)) else (zNew Z0 13 9 tyX14 fun Z_19 a_20 => cA Z_19.Sh a0 0 11 1 fun a_21 => bnd (cm_X14_init Z_19 a_20 a_21) (fun Z_24 => cI Z_24.Sh Z_24.V a_20 13 9 8 fun x_25 => some (x_25, Z_24))))) else (if a1 = 2 then (cA Z0.Sh a0 0 11 1 fun a_27 => cI Z0.Sh Z0.V a_27 1 20 9 fun x_28 => some (x_28, Z0)) else (zK Z0 a0 0 11 <| bnd (cm_X0_greatestLift Z0 a0) (fun x_32 => some (x_32, Z0)))))
abbrev rmX0_measured : Room := rmD 4 93 151 1741
theorem cwX0_greatestLift_V {own : String} {R : Room} {s : State} {args : Array Value} {index : Nat} (hts : ∀ w ∈ lw_all, w.before args s = true) (hl : Cond.methodLink own index yX0_greatestLift ∈ lw_all) (hR : rmX0_greatestLift.frames + 1 ≤ R.frames ∧ 8 + (3 + 11) + rmX0_greatestLift.locals ≤ R.locals) : CallW R s args own RX0 index yX0_greatestLift cX0_greatestLift 3 (some .int) (ws_ yX0_greatestLift cX0_greatestLift 3 (some .int)) rmX0_greatestLift 0 0 0 := cwV 0 hts (lw_V hl q1364 qs49 q105 q1365) rfl rfl rfl (by decide +kernel) hR
set_option maxHeartbeats 4000000 in
theorem metX0_measured {l : Launch} {gp : Nat → Nat} {D : va_G} {K : Nat → ClassId} {Z0 : c_S} {a0 : Nat} {a1 : Int32} {r : Int32} {Z' : c_S} (h : cm_X0_measured Z0 a0 a1 = some (r, Z')) : Met l yX0_measured (ws_ yX0_measured cX0_measured 2 (some .int)) rmX0_measured (z_Pc gp [.ref a0, .int a1] D K Z0) (z_Q (.returned (some (.int r))) D K (z_A Z0) Z') 151 1741 (z_A Z0) := by
  refine d_met rfl (Nat.le_of_ble_eq_true rfl) ?_
  intro p e s m below meth c ls S hr hlk hnm hl hW hsz
  have S : CallFix p m c cX0_measured 2 s ([.ref a0, .int a1] : List Value).toArray lw_all RX0 := S
  have hx := S.1
  have hb := S.2.1
  have hl : lv_has ls 2 [(0, .ref a0), (1, .int a1)] := hl
  have hnm : meth.name = "measured" := hnm
  unfold cm_X0_measured at h
  refine lv_iload_n hx hb dX0_measured_0 rfl (lv_at hl 1 rfl) ?_
  by_cases c_1 : a1 = 0
  · have h := if_t h c_1
    refine lv_tableIn (off := 27) (tgt := 28) hx hb dX0_measured_1 (by rw [c_1]; decide) (by rw [c_1]; decide) (by rw [c_1]; decide) (by decide) ?_
    refine lv_aload_n hx hb dX0_measured_28 rfl (lv_at hl 0 rfl) ?_
    obtain ⟨⟨_, k_2⟩, h⟩ := zK_some h
    obtain ⟨x_5, h_3, h⟩ := bnd_some h
    refine d_callV (As := []) (rest := []) S hW (metX0_hasShaft h_3) (cwX0_hasShaft_V S.2.2.2.2 q1226 ⟨Nat.le_of_ble_eq_true rfl, Nat.le_of_ble_eq_true rfl⟩) k_2 rfl rfl hl.1 rfl (Nat.le_of_ble_eq_true rfl) dX0_measured_29 ⟨(Nat.le_of_ble_eq_true rfl), (Nat.le_of_ble_eq_true rfl)⟩ rfl (fun H locs hW => ?_)
    refine lv_if_eq (tgt := 45) hx hb dX0_measured_32 (by decide) (fun c_6 => ?_) (fun c_6 => ?_)
    · have h := if_t h c_6
      refine lv_iconst (v := 0) hx hb dX0_measured_45 (by decide) ?_
      cases h
      exact d_iret S hr hlk hW (Nat.le_of_ble_eq_true rfl) (Nat.le_of_ble_eq_true rfl) dX0_measured_46
    · have h := if_f h c_6
      refine lv_aload_n hx hb dX0_measured_35 rfl (lv_at hl 0 rfl) ?_
      refine zw_getA S hW zC_X0 (i := 1) (by decide) (Or.inl q756) (fun _ h => h) dX0_measured_36 h (fun a_7 h => ?_)
      obtain ⟨⟨_, k_8⟩, h⟩ := zK_some h
      obtain ⟨x_11, Z_12, h_9, h⟩ := bnd2_some h
      refine d_callV (As := []) (rest := []) S hW (metX1_thick h_9) (cwX1_thick_V S.2.2.2.2 q1322 ⟨Nat.le_of_ble_eq_true rfl, Nat.le_of_ble_eq_true rfl⟩) k_8 rfl rfl hl.1 rfl (Nat.le_of_ble_eq_true rfl) dX0_measured_39 ⟨(Nat.le_of_ble_eq_true rfl), (Nat.le_of_ble_eq_true rfl)⟩ rfl (fun H locs hW => ?_)
      refine lv_goto (tgt := 46) hx hb dX0_measured_42 (by decide) ?_
      cases h
      exact d_iret S hr hlk hW (Nat.le_of_ble_eq_true rfl) (Nat.le_of_ble_eq_true rfl) dX0_measured_46
  have h := if_f h c_1
  by_cases c_13 : a1 = 1
  · have h := if_t h c_13
    refine lv_tableIn (off := 46) (tgt := 47) hx hb dX0_measured_1 (by rw [c_13]; decide) (by rw [c_13]; decide) (by rw [c_13]; decide) (by decide) ?_
    refine lv_aload_n hx hb dX0_measured_47 rfl (lv_at hl 0 rfl) ?_
    obtain ⟨⟨_, k_14⟩, h⟩ := zK_some h
    obtain ⟨x_17, h_15, h⟩ := bnd_some h
    refine d_callV (As := []) (rest := []) S hW (metX0_hasShaft h_15) (cwX0_hasShaft_V S.2.2.2.2 q1226 ⟨Nat.le_of_ble_eq_true rfl, Nat.le_of_ble_eq_true rfl⟩) k_14 rfl rfl hl.1 rfl (Nat.le_of_ble_eq_true rfl) dX0_measured_48 ⟨(Nat.le_of_ble_eq_true rfl), (Nat.le_of_ble_eq_true rfl)⟩ rfl (fun H locs hW => ?_)
    refine lv_if_eq (tgt := 71) hx hb dX0_measured_51 (by decide) (fun c_18 => ?_) (fun c_18 => ?_)
    · have h := if_t h c_18
      refine lv_iconst (v := 0) hx hb dX0_measured_71 (by decide) ?_
      cases h
      exact d_iret S hr hlk hW (Nat.le_of_ble_eq_true rfl) (Nat.le_of_ble_eq_true rfl) dX0_measured_72
    · have h := if_f h c_18
      refine zw_new S hW zC_X14 q1241 q1242 q133 (Nat.le_of_ble_eq_true rfl) (Nat.le_of_ble_eq_true rfl) dX0_measured_54 h (fun Z_19 a_20 h H hW => ?_)
      refine lv_dup hx hb dX0_measured_57 rfl ?_
      refine lv_aload_n hx hb dX0_measured_58 rfl (lv_at hl 0 rfl) ?_
      refine zw_getA S hW zC_X0 (i := 1) (by decide) (Or.inl q756) (fun _ h => h) dX0_measured_59 h (fun a_21 h => ?_)
      obtain ⟨Z_24, h_22, h⟩ := bnd_some h
      refine d_callI (As := [.ref a_21]) (rest := [.ref a_20]) S hW (metX14_init h_22) (cwX14_init_I S.2.2.2.2 q1243 ⟨Nat.le_of_ble_eq_true rfl, Nat.le_of_ble_eq_true rfl⟩) rfl hl.1 rfl (Nat.le_of_ble_eq_true rfl) dX0_measured_62 ⟨(Nat.le_of_ble_eq_true rfl), (Nat.le_of_ble_eq_true rfl)⟩ rfl (fun H locs hW => ?_)
      refine zw_getI S hW zC_X14 (i := 8) (by decide) (Or.inr ⟨_, nestW_in q1290 rfl⟩) (fun _ h => h) dX0_measured_65 h (fun x_25 h => ?_)
      refine lv_goto (tgt := 72) hx hb dX0_measured_68 (by decide) ?_
      cases h
      exact d_iret S hr hlk hW (Nat.le_of_ble_eq_true rfl) (Nat.le_of_ble_eq_true rfl) dX0_measured_72
  have h := if_f h c_13
  by_cases c_26 : a1 = 2
  · have h := if_t h c_26
    refine lv_tableIn (off := 72) (tgt := 73) hx hb dX0_measured_1 (by rw [c_26]; decide) (by rw [c_26]; decide) (by rw [c_26]; decide) (by decide) ?_
    refine lv_aload_n hx hb dX0_measured_73 rfl (lv_at hl 0 rfl) ?_
    refine zw_getA S hW zC_X0 (i := 1) (by decide) (Or.inl q756) (fun _ h => h) dX0_measured_74 h (fun a_27 h => ?_)
    refine zw_getI S hW zC_X1 (i := 9) (by decide) (Or.inr ⟨_, nestW_in q684 rfl⟩) (fun _ h => h) dX0_measured_77 h (fun x_28 h => ?_)
    cases h
    exact d_iret S hr hlk hW (Nat.le_of_ble_eq_true rfl) (Nat.le_of_ble_eq_true rfl) dX0_measured_80
  have h := if_f h c_26
  have c_1 := lv_neT (a := 0) c_1 (by decide)
  have c_13 := lv_neT (a := 1) c_13 (by decide)
  have c_26 := lv_neT (a := 2) c_26 (by decide)
  refine lv_tableOut (tgt := 81) hx hb dX0_measured_1 (by omega) (by decide) ?_
  refine lv_aload_n hx hb dX0_measured_81 rfl (lv_at hl 0 rfl) ?_
  obtain ⟨⟨_, k_29⟩, h⟩ := zK_some h
  obtain ⟨x_32, h_30, h⟩ := bnd_some h
  refine d_callV (As := []) (rest := []) S hW (metX0_greatestLift h_30) (cwX0_greatestLift_V S.2.2.2.2 q1362 ⟨Nat.le_of_ble_eq_true rfl, Nat.le_of_ble_eq_true rfl⟩) k_29 rfl rfl hl.1 rfl (Nat.le_of_ble_eq_true rfl) dX0_measured_82 ⟨(Nat.le_of_ble_eq_true rfl), (Nat.le_of_ble_eq_true rfl)⟩ rfl (fun H locs hW => ?_)
  cases h
  exact d_iret S hr hlk hW (Nat.le_of_ble_eq_true rfl) (Nat.le_of_ble_eq_true rfl) dX0_measured_85
def cm_X13_holds (Z0 : c_S) (a0 : Nat) (a1 : Nat) : Option (Int32 × c_S) :=
  cI Z0.Sh Z0.V a0 12 3 0 fun x_1 => zK Z0 a1 0 11 <| bnd (cm_X0_measured Z0 a1 x_1) (un2 fun x_5 Z_6 => cI Z_6.Sh Z_6.V a0 12 3 2 fun x_7 => if x_7 = 0 then (cI Z_6.Sh Z_6.V a0 12 3 1 fun x_9 => if x_5 ≤ x_9 then (some (0, Z_6)) else (some (1, Z_6))) else (cI Z_6.Sh Z_6.V a0 12 3 1 fun x_11 => if x_11 ≤ x_5 then (some (0, Z_6)) else (some (1, Z_6))))
abbrev rmX13_holds : Room := rmD 5 114 151 1741
theorem cwX0_measured_VN {own : String} {R : Room} {s : State} {args : Array Value} {index : Nat} (hts : ∀ w ∈ lw_all, w.before args s = true) {host : String} (hn : va_Nw (.methodLinkNest own index yX0_measured host) s) (hR : rmX0_measured.frames + 1 ≤ R.frames ∧ 8 + (2 + 11) + rmX0_measured.locals ≤ R.locals) : va_CN R s args own index yX0_measured host cX0_measured 2 (some .int) (ws_ yX0_measured cX0_measured 2 (some .int)) rmX0_measured 151 1741 1 ∧ (Cond.instanceMethod yX0_measured).before args s = true ∧ (Cond.selects RX0 yX0_measured yX0_measured).before args s = true := ⟨va_cnB 1 hts (lw_meth q1361) rfl rfl rfl hn (hts _ q105) ⟨by decide, by decide, by decide +kernel⟩ hR, hts _ q1360, hts _ qs48⟩
set_option maxHeartbeats 4000000 in
theorem metX13_holds {l : Launch} {gp : Nat → Nat} {D : va_G} {K : Nat → ClassId} {Z0 : c_S} {a0 : Nat} {a1 : Nat} {r : Int32} {Z' : c_S} (h : cm_X13_holds Z0 a0 a1 = some (r, Z')) : Met l yX13_holds (ws_ yX13_holds cX13_holds 3 (some .boolean)) rmX13_holds (z_Pc gp [.ref a0, .ref a1] D K Z0) (z_Q (.returned (some (.int r))) D K (z_A Z0) Z') 151 1741 (z_A Z0) := by
  refine d_met rfl (Nat.le_of_ble_eq_true rfl) ?_
  intro p e s m below meth c ls S hr hlk hnm hl hW hsz
  have S : CallFix p m c cX13_holds 3 s ([.ref a0, .ref a1] : List Value).toArray lw_all RX13 := S
  have hx := S.1
  have hb := S.2.1
  have hl : lv_has ls 3 [(0, .ref a0), (1, .ref a1)] := hl
  have hnm : meth.name = "holds" := hnm
  unfold cm_X13_holds at h
  refine lv_aload_n hx hb dX13_holds_0 rfl (lv_at hl 1 rfl) ?_
  refine lv_aload_n hx hb dX13_holds_1 rfl (lv_at hl 0 rfl) ?_
  refine zw_getI S hW zC_X13 (i := 0) (by decide) (Or.inl q1082) (fun _ h => h) dX13_holds_2 h (fun x_1 h => ?_)
  obtain ⟨⟨_, k_2⟩, h⟩ := zK_some h
  obtain ⟨x_5, Z_6, h_3, h⟩ := bnd2_some h
  refine d_callVN (As := [.int x_1]) (rest := []) S hW (metX0_measured h_3) (cwX0_measured_VN S.2.2.2.2 (hW.1.2.2.2.2.1.2.2.2.2.1 _ (nestW_in q1358 rfl)) ⟨Nat.le_of_ble_eq_true rfl, Nat.le_of_ble_eq_true rfl⟩) k_2 rfl rfl hl.1 rfl (Nat.le_of_ble_eq_true rfl) dX13_holds_5 ⟨(Nat.le_of_ble_eq_true rfl), (Nat.le_of_ble_eq_true rfl)⟩ rfl (fun H locs hW => ?_)
  refine lv_istore_n (lv' := [(2, .int x_5), (0, .ref a0), (1, .ref a1)]) hx hb dX13_holds_8 rfl hl (by decide) rfl (fun ls hl => ?_)
  refine lv_aload_n hx hb dX13_holds_9 rfl (lv_at hl 1 rfl) ?_
  refine zw_getI S hW zC_X13 (i := 2) (by decide) (Or.inl q1084) (fun _ h => h) dX13_holds_10 h (fun x_7 h => ?_)
  refine lv_if_eq (tgt := 32) hx hb dX13_holds_13 (by decide) (fun c_8 => ?_) (fun c_8 => ?_)
  · have h := if_t h c_8
    refine lv_iload_n hx hb dX13_holds_32 rfl (lv_at hl 0 rfl) ?_
    refine lv_aload_n hx hb dX13_holds_33 rfl (lv_at hl 1 rfl) ?_
    refine zw_getI S hW zC_X13 (i := 1) (by decide) (Or.inl q1083) (fun _ h => h) dX13_holds_34 h (fun x_9 h => ?_)
    refine lv_icmp_le (tgt := 44) hx hb dX13_holds_37 (by decide) (fun c_10 => ?_) (fun c_10 => ?_)
    · have h := if_t h c_10
      refine lv_iconst (v := 0) hx hb dX13_holds_44 (by decide) ?_
      cases h
      exact d_zret S hr hlk rfl hW (Nat.le_of_ble_eq_true rfl) (Nat.le_of_ble_eq_true rfl) dX13_holds_45
    · have h := if_f h c_10
      refine lv_iconst (v := 1) hx hb dX13_holds_40 (by decide) ?_
      refine lv_goto (tgt := 45) hx hb dX13_holds_41 (by decide) ?_
      cases h
      exact d_zret S hr hlk rfl hW (Nat.le_of_ble_eq_true rfl) (Nat.le_of_ble_eq_true rfl) dX13_holds_45
  · have h := if_f h c_8
    refine lv_iload_n hx hb dX13_holds_16 rfl (lv_at hl 0 rfl) ?_
    refine lv_aload_n hx hb dX13_holds_17 rfl (lv_at hl 1 rfl) ?_
    refine zw_getI S hW zC_X13 (i := 1) (by decide) (Or.inl q1083) (fun _ h => h) dX13_holds_18 h (fun x_11 h => ?_)
    refine lv_icmp_ge (tgt := 28) hx hb dX13_holds_21 (by decide) (fun c_12 => ?_) (fun c_12 => ?_)
    · have h := if_t h c_12
      refine lv_iconst (v := 0) hx hb dX13_holds_28 (by decide) ?_
      refine lv_goto (tgt := 45) hx hb dX13_holds_29 (by decide) ?_
      cases h
      exact d_zret S hr hlk rfl hW (Nat.le_of_ble_eq_true rfl) (Nat.le_of_ble_eq_true rfl) dX13_holds_45
    · have h := if_f h c_12
      refine lv_iconst (v := 1) hx hb dX13_holds_24 (by decide) ?_
      refine lv_goto (tgt := 45) hx hb dX13_holds_25 (by decide) ?_
      cases h
      exact d_zret S hr hlk rfl hW (Nat.le_of_ble_eq_true rfl) (Nat.le_of_ble_eq_true rfl) dX13_holds_45
def cm_X10_lacks_B4 (x0 : Nat) (x1 : Nat) (rec : Int32 → Int32 → c_S → Option (Int32 × c_S)) (x2 : Int32) (x3 : Int32) (Z : c_S) : Option (Int32 × c_S) :=
  cI Z.Sh Z.V x0 10 2 1 fun x_1 => if x_1 ≤ x3 then (some (x2, Z)) else (cA Z.Sh x0 10 2 0 fun a_3 => caR Z.Sh 10 a_3 x3 fun o_4 => nn o_4 fun a_5 => bnd (if zAl [11] Z a_5 = true then cm_X12_holds Z a_5 x1 else zK Z a_5 12 3 <| cm_X13_holds Z a_5 x1) (un2 fun x_6 Z_7 => if x_6 = 0 then (nmI (x2 ||| ((1 : Int32) <<< (x3 &&& 31))) fun x_10 => nmI (x3 + 1) fun x_12 => rec x_10 x_12 Z_7) else (nmI (x2 ||| 0) fun x_14 => nmI (x3 + 1) fun x_16 => rec x_14 x_16 Z_7)))
abbrev cm_X10_lacks_F4 (x0 : Nat) (x1 : Nat) : (((Int32) × (Int32) × (c_S)) → Option (Int32 × c_S)) → ((Int32) × (Int32) × (c_S)) → Option (Int32 × c_S) := fun rec s => cm_X10_lacks_B4 x0 x1 (fun x2 x3 Z => rec (x2, x3, Z)) s.1 s.2.1 s.2.2
def cm_X10_lacks_L4 (x0 : Nat) (x1 : Nat) (n : Nat) (x2 : Int32) (x3 : Int32) (Z : c_S) : Option (Int32 × c_S) := lp (cm_X10_lacks_F4 x0 x1) n (x2, x3, Z)
theorem cm_X10_lacks_L4_s (x0 : Nat) (x1 : Nat) (n : Nat) (x2 : Int32) (x3 : Int32) (Z : c_S) : cm_X10_lacks_L4 x0 x1 (n + 1) x2 x3 Z = cm_X10_lacks_B4 x0 x1 (fun x2 x3 Z => cm_X10_lacks_L4 x0 x1 n x2 x3 Z) x2 x3 Z := lp_s (cm_X10_lacks_F4 x0 x1) n (x2, x3, Z)
def cm_X10_lacks (Z0 : c_S) (a0 : Nat) (a1 : Nat) : Option (Int32 × c_S) :=
  bnd (cm_X10_lacks_L4 a0 a1 4 0 0 Z0) (un2 fun x_20 Z_21 => some (x_20, Z_21))
abbrev rmX10_lacks : Room := rmD 6 136 604 6964
theorem cwX12_holds_U {own : String} {R : Room} {s : State} {args : Array Value} {index : Nat} (hts : ∀ w ∈ lw_all, w.before args s = true) (hl : Cond.methodLink own index ⟨"FrostRing$Cond", "holds", "(LFrostRing;)Z"⟩ ∈ lw_all) (hz : va_Nw (.declares ⟨"FrostRing$Cond", "holds", "(LFrostRing;)Z"⟩) s) (hR : rmX12_holds.frames + 1 ≤ R.frames ∧ 8 + (2 + 11) + rmX12_holds.locals ≤ R.locals) : va_CU R s args own RX12 "FrostRing$Cond" index ⟨"FrostRing$Cond", "holds", "(LFrostRing;)Z"⟩ yX12_holds cX12_holds 2 (some .boolean) (ws_ yX12_holds cX12_holds 2 (some .boolean)) rmX12_holds 0 0 1 := va_cwA 1 hts (lw_app (by intro w hw; simp only [List.mem_cons, List.not_mem_nil, or_false] at hw; rcases hw with rfl | rfl | rfl | rfl | rfl; exact hl; exact q1354; exact q1368; exact q1369; exact q131) (lw_meth q1370)) rfl rfl rfl hz ⟨by decide, by decide, by decide +kernel⟩ hR
theorem cwX13_holds_U {own : String} {R : Room} {s : State} {args : Array Value} {index : Nat} (hts : ∀ w ∈ lw_all, w.before args s = true) (hl : Cond.methodLink own index ⟨"FrostRing$Cond", "holds", "(LFrostRing;)Z"⟩ ∈ lw_all) (hz : va_Nw (.declares ⟨"FrostRing$Cond", "holds", "(LFrostRing;)Z"⟩) s) (hR : rmX13_holds.frames + 1 ≤ R.frames ∧ 8 + (3 + 11) + rmX13_holds.locals ≤ R.locals) : va_CU R s args own RX13 "FrostRing$Cond" index ⟨"FrostRing$Cond", "holds", "(LFrostRing;)Z"⟩ yX13_holds cX13_holds 3 (some .boolean) (ws_ yX13_holds cX13_holds 3 (some .boolean)) rmX13_holds 151 1741 1 := va_cwA 1 hts (lw_app (by intro w hw; simp only [List.mem_cons, List.not_mem_nil, or_false] at hw; rcases hw with rfl | rfl | rfl | rfl | rfl; exact hl; exact q1354; exact q1355; exact q1356; exact q132) (lw_meth q1357)) rfl rfl rfl hz ⟨by decide, by decide, by decide +kernel⟩ hR
set_option maxHeartbeats 4000000 in
theorem metX10_lacks {l : Launch} {gp : Nat → Nat} {D : va_G} {K : Nat → ClassId} {Z0 : c_S} {a0 : Nat} {a1 : Nat} {r : Int32} {Z' : c_S} (h : cm_X10_lacks Z0 a0 a1 = some (r, Z')) : Met l yX10_lacks (ws_ yX10_lacks cX10_lacks 4 (some .int)) rmX10_lacks (z_Pc gp [.ref a0, .ref a1] D K Z0) (z_Q (.returned (some (.int r))) D K (z_A Z0) Z') 604 6964 (z_A Z0) := by
  refine d_met rfl (Nat.le_of_ble_eq_true rfl) ?_
  intro p e s m below meth c ls S hr hlk hnm hl hW hsz
  have S : CallFix p m c cX10_lacks 4 s ([.ref a0, .ref a1] : List Value).toArray lw_all RX10 := S
  have hx := S.1
  have hb := S.2.1
  have hl : lv_has ls 4 [(0, .ref a0), (1, .ref a1)] := hl
  have hnm : meth.name = "lacks" := hnm
  have Lp4 : ∀ (x0 : Nat) (x1 : Nat) (E G : Nat) (n : Nat) (x2 : Int32) (x3 : Int32) (Z : c_S) (out : (Int32 × c_S)) (cells slots : Nat) (H : Heap) (locs : List Loc) (ls : Array Slot), cm_X10_lacks_L4 x0 x1 n x2 x3 Z = some out → z_W gp D K (z_A Z0) s Z H locs → lv_has ls 4 [(0, .ref x0), (1, .ref x1), (2, .int x2), (3, .int x3)] → cells + n * 151 ≤ E → slots + n * 1741 ≤ G → E ≤ 604 → G ≤ 6964 → (∀ (o2 : Int32) (oZ : c_S), out = (o2, oZ) → ∀ (H : Heap) (locs : List Loc) (ls : Array Slot), z_W gp D K (z_A Z0) s oZ H locs → lv_has ls 4 [(2, .int o2)] → W p l e rmX10_lacks s m ([.ref a0, .ref a1] : List Value).toArray below meth c H locs E G (MQ below (z_Q (.returned (some (.int r))) D K (z_A Z0) Z') ([.ref a0, .ref a1] : List Value).toArray s 604 6964 (z_A Z0)) (F0 m 41 ls [])) → W p l e rmX10_lacks s m ([.ref a0, .ref a1] : List Value).toArray below meth c H locs cells slots (MQ below (z_Q (.returned (some (.int r))) D K (z_A Z0) Z') ([.ref a0, .ref a1] : List Value).toArray s 604 6964 (z_A Z0)) (F0 m 4 ls []) := by
    intro x0 x1 E G n
    induction n with
    | zero =>
      intro x2 x3 Z out cells slots H locs ls h
      exact (lp_0 h).elim
    | succ n ih =>
      intro x2 x3 Z out cells slots H locs ls h hW hl hcl hsl hE hG k1
      have hcl := nsucc hcl
      have hsl := nsucc hsl
      rw [cm_X10_lacks_L4_s] at h
      unfold cm_X10_lacks_B4 at h
      refine lv_iload_n hx hb dX10_lacks_4 rfl (lv_at hl 3 rfl) ?_
      refine lv_aload_n hx hb dX10_lacks_5 rfl (lv_at hl 0 rfl) ?_
      refine zw_getI S hW zC_X10 (i := 1) (by decide) (Or.inl q1054) (fun _ h => h) dX10_lacks_6 h (fun x_1 h => ?_)
      refine lv_icmp_ge (tgt := 41) hx hb dX10_lacks_9 (by decide) (fun c_2 => ?_) (fun c_2 => ?_)
      · have h := if_t h c_2
        exact W.widen (by omega) (by omega) (k1 _ _ (Option.some.inj h).symm _ _ _ hW (lv_sub hl [2] rfl))
      · have h := if_f h c_2
        refine lv_iload_n hx hb dX10_lacks_12 rfl (lv_at hl 2 rfl) ?_
        refine lv_aload_n hx hb dX10_lacks_13 rfl (lv_at hl 0 rfl) ?_
        refine zw_getA S hW zC_X10 (i := 0) (by decide) (Or.inl q1052) (fun _ h => h) dX10_lacks_14 h (fun a_3 h => ?_)
        refine lv_iload_n hx hb dX10_lacks_17 rfl (lv_at hl 3 rfl) ?_
        refine zw_aald (t := 10) S hW rfl dX10_lacks_18 h (fun o_4 h => ?_)
        refine lv_aload_n hx hb dX10_lacks_19 rfl (lv_at hl 1 rfl) ?_
        have h9 := nn_some h
        clear h
        obtain ⟨a_5, rfl, h8⟩ := h9
        have h := h8
        clear h8
        obtain ⟨x_6, Z_7, h_8, h⟩ := bnd2_some h
        have kk : ∀ (H : Heap) (locs : List Loc), z_W gp D K (z_A Z0) s Z_7 H locs → W p l e rmX10_lacks s m ([.ref a0, .ref a1] : List Value).toArray below meth c H locs (cells + 151) (slots + 1741) (MQ below (z_Q (.returned (some (.int r))) D K (z_A Z0) Z') ([.ref a0, .ref a1] : List Value).toArray s 604 6964 (z_A Z0)) (F0 m 23 ls [.int x_6, .int x2]) := by
          intro H locs hW
          refine lv_if_eq (tgt := 30) hx hb dX10_lacks_23 (by decide) (fun c_9 => ?_) (fun c_9 => ?_)
          · have h := if_t h c_9
            refine lv_iconst (v := 1) hx hb dX10_lacks_30 (by decide) ?_
            refine lv_iload_n hx hb dX10_lacks_31 rfl (lv_at hl 3 rfl) ?_
            refine lv_ishl hx hb dX10_lacks_32 ?_
            refine lv_ior hx hb dX10_lacks_33 ?_
            obtain ⟨x_10, e_11, h⟩ := nmI_some h
            refine g_nmi e_11 ?_
            refine lv_istore_n (lv' := [(2, .int x_10), (0, .ref x0), (1, .ref x1), (3, .int x3)]) hx hb dX10_lacks_34 rfl hl (by decide) rfl (fun ls hl => ?_)
            obtain ⟨x_12, e_13, h⟩ := nmI_some h
            refine lv_iinc (v := x_12) (lv' := [(3, .int x_12), (2, .int x_10), (0, .ref x0), (1, .ref x1)]) hx hb dX10_lacks_35 hl (k := 3) rfl (by rw [e_13]; rfl) (by decide) rfl (fun ls hl => ?_)
            refine lv_goto (tgt := 4) hx hb dX10_lacks_38 (by decide) ?_
            exact ih x_10 x_12 Z_7 out (cells + 151) (slots + 1741) _ _ _ h hW (lv_sub hl [2, 3, 1, 0] rfl) (by omega) (by omega) hE hG k1
          · have h := if_f h c_9
            refine lv_iconst (v := 0) hx hb dX10_lacks_26 (by decide) ?_
            refine lv_goto (tgt := 33) hx hb dX10_lacks_27 (by decide) ?_
            refine lv_ior hx hb dX10_lacks_33 ?_
            obtain ⟨x_14, e_15, h⟩ := nmI_some h
            refine g_nmi e_15 ?_
            refine lv_istore_n (lv' := [(2, .int x_14), (0, .ref x0), (1, .ref x1), (3, .int x3)]) hx hb dX10_lacks_34 rfl hl (by decide) rfl (fun ls hl => ?_)
            obtain ⟨x_16, e_17, h⟩ := nmI_some h
            refine lv_iinc (v := x_16) (lv' := [(3, .int x_16), (2, .int x_14), (0, .ref x0), (1, .ref x1)]) hx hb dX10_lacks_35 hl (k := 3) rfl (by rw [e_17]; rfl) (by decide) rfl (fun ls hl => ?_)
            refine lv_goto (tgt := 4) hx hb dX10_lacks_38 (by decide) ?_
            exact ih x_14 x_16 Z_7 out (cells + 151) (slots + 1741) _ _ _ h hW (lv_sub hl [2, 3, 1, 0] rfl) (by omega) (by omega) hE hG k1
        by_cases hz : zAl [11] Z a_5 = true
        · have h_8 := if_t h_8 hz
          obtain ⟨rf_, hs_⟩ := zAl_11 hz
          have h8 := h_8
          refine d_callU (As := [.ref x1]) (rest := [.int x2]) S hW (metX12_holds h8) (cwX12_holds_U S.2.2.2.2 q1352 (hW.1.2.2.2.2.1.2.2.2.2.1 _ (nestW_in q1353 rfl)) ⟨Nat.le_of_ble_eq_true rfl, Nat.le_of_ble_eq_true rfl⟩) hs_ rfl rfl hl.1 rfl (z_ro (Nat.le_of_ble_eq_true rfl)) dX10_lacks_20 ⟨(show _ ≤ 604 from by omega), (show _ ≤ 6964 from by omega)⟩ rfl (fun H locs hW => W.widen (by omega) (by omega) (kk H locs hW))
        · have h_8 := if_f h_8 hz
          obtain ⟨⟨rf_, hs_⟩, h_8⟩ := zK_some h_8
          have h8 := h_8
          refine d_callU (As := [.ref x1]) (rest := [.int x2]) S hW (metX13_holds h8) (cwX13_holds_U S.2.2.2.2 q1352 (hW.1.2.2.2.2.1.2.2.2.2.1 _ (nestW_in q1353 rfl)) ⟨Nat.le_of_ble_eq_true rfl, Nat.le_of_ble_eq_true rfl⟩) hs_ rfl rfl hl.1 rfl (z_ro (Nat.le_of_ble_eq_true rfl)) dX10_lacks_20 ⟨(show _ ≤ 604 from by omega), (show _ ≤ 6964 from by omega)⟩ rfl (fun H locs hW => W.widen (by omega) (by omega) (kk H locs hW))
  unfold cm_X10_lacks at h
  refine lv_iconst (v := 0) hx hb dX10_lacks_0 (by decide) ?_
  refine lv_istore_n (lv' := [(2, .int 0), (0, .ref a0), (1, .ref a1)]) hx hb dX10_lacks_1 rfl hl (by decide) rfl (fun ls hl => ?_)
  refine lv_iconst (v := 0) hx hb dX10_lacks_2 (by decide) ?_
  refine lv_istore_n (lv' := [(3, .int 0), (2, .int 0), (0, .ref a0), (1, .ref a1)]) hx hb dX10_lacks_3 rfl hl (by decide) rfl (fun ls hl => ?_)
  obtain ⟨x_20, Z_21, h_19, h⟩ := bnd2_some h
  refine Lp4 a0 a1 604 6964 4 0 0 Z0  _ 0 0 _ _ _ h_19 hW (lv_sub hl [2, 3, 1, 0] rfl) (by omega) (by omega) (by omega) (by omega) ?_
  intro w0 w1 eo H locs ls hW hl
  cases eo
  refine lv_iload_n hx hb dX10_lacks_41 rfl (lv_at hl 0 rfl) ?_
  cases h
  exact d_iret S hr hlk hW (Nat.le_of_ble_eq_true rfl) (Nat.le_of_ble_eq_true rfl) dX10_lacks_42
