/-! walks of the reference: X8_isFrozen X8_streams X8_isBesideShaft X8_cell X8_run X8_isOpen X8_wayTo X8_frost X8_count X8_write X8_told X8_readLay -/
set_option maxRecDepth 100000
def tw_isFrozen (V0 : g_V) (a1 : Int32) : Option (Int32) :=
  bnd (tw_isDug V0 a1) (fun x_3 => if x_3 = 0 then (rdI (V0 1) 810 (336 + a1) fun x_5 => bnd (tw_groundOf V0 a1 2) (fun x_10 => if x_5 = x_10 then (some 1) else (some 0))) else (some 0))
abbrev rmX8_isFrozen : Room := rm_ 1 22
set_option maxHeartbeats 4000000 in
theorem metX8_isFrozen {l : Launch} {gp : Nat → Nat} {nx : Nat} {D : va_G} {K : Nat → ClassId} {al : Nat → Nat} {V0 : g_V} {L0 : g_L} {a1 : Int32} {r : Int32} (h : tw_isFrozen V0 a1 = some r) : Met l yX8_isFrozen (ws_ yX8_isFrozen cX8_isFrozen 2 (some .boolean)) rmX8_isFrozen (twPc gp nx [.ref (al 0), .int a1] D K al V0 L0) (twQi r nx D K al V0 L0) 0 0 (g_A al twSh) := by
  refine g_met rfl (Nat.le_of_ble_eq_true rfl) ?_
  intro p e s m below meth c ls S hr hlk hnm hl hW
  have S : CallFix p m c cX8_isFrozen 2 s ([.ref (al 0), .int a1] : List Value).toArray lw_all RX8 := S
  have hx := S.1
  have hb := S.2.1
  have hl : lv_has ls 2 [(0, .ref (al 0)), (1, .int a1)] := hl
  unfold tw_isFrozen at h
  refine lv_aload_n hx hb dX8_isFrozen_0 rfl (lv_at hl 0 rfl) ?_
  refine lv_iload_n hx hb dX8_isFrozen_1 rfl (lv_at hl 1 rfl) ?_
  obtain ⟨x_3, h_1, h⟩ := bnd_some h
  refine g_callVi (As := [.int a1]) (rest := []) S hW (metX8_isDug h_1) (cwX8_isDug S.2.2.2.2 q1771 ⟨Nat.le_of_ble_eq_true rfl, Nat.le_of_ble_eq_true rfl⟩) (k := 0) rfl rfl rfl hl.1 rfl (Nat.le_of_ble_eq_true rfl) dX8_isFrozen_2 ⟨Nat.le_refl _, Nat.le_refl _⟩ (fun H locs hW => ?_)
  refine lv_if_ne (tgt := 31) hx hb dX8_isFrozen_5 (by decide) (fun c_4 => ?_) (fun c_4 => ?_)
  · have h := if_f h c_4
    refine lv_iconst (v := 0) hx hb dX8_isFrozen_31 (by decide) ?_
    cases h
    exact g_zret S hr hlk rfl hW dX8_isFrozen_32
  · have h := if_t h c_4
    refine lv_aload_n hx hb dX8_isFrozen_8 rfl (lv_at hl 0 rfl) ?_
    refine tw_ref S hW 1 1 (by decide) rfl q1500 rfl dX8_isFrozen_9 ?_
    refine lv_sipush (v := 336) hx hb dX8_isFrozen_12 (by decide) ?_
    refine lv_iload_n hx hb dX8_isFrozen_15 rfl (lv_at hl 1 rfl) ?_
    refine lv_iadd hx hb dX8_isFrozen_16 ?_
    obtain ⟨h_6, x_5, e_7, h⟩ := rdI_some h
    refine g_iald S hW (k := 1) rfl rfl h_6 e_7 dX8_isFrozen_17 ?_
    refine lv_aload_n hx hb dX8_isFrozen_18 rfl (lv_at hl 0 rfl) ?_
    refine lv_iload_n hx hb dX8_isFrozen_19 rfl (lv_at hl 1 rfl) ?_
    refine lv_iconst (v := 2) hx hb dX8_isFrozen_20 (by decide) ?_
    obtain ⟨x_10, h_8, h⟩ := bnd_some h
    refine g_callVi (As := [.int a1, .int 2]) (rest := [.int x_5]) S hW (metX8_groundOf h_8) (cwX8_groundOf S.2.2.2.2 q1793 ⟨Nat.le_of_ble_eq_true rfl, Nat.le_of_ble_eq_true rfl⟩) (k := 0) rfl rfl rfl hl.1 rfl (Nat.le_of_ble_eq_true rfl) dX8_isFrozen_21 ⟨Nat.le_refl _, Nat.le_refl _⟩ (fun H locs hW => ?_)
    refine lv_icmp_ne (tgt := 31) hx hb dX8_isFrozen_24 (by decide) (fun c_11 => ?_) (fun c_11 => ?_)
    · have h := if_f h c_11
      refine lv_iconst (v := 0) hx hb dX8_isFrozen_31 (by decide) ?_
      cases h
      exact g_zret S hr hlk rfl hW dX8_isFrozen_32
    · have h := if_t h c_11
      refine lv_iconst (v := 1) hx hb dX8_isFrozen_27 (by decide) ?_
      refine lv_goto (tgt := 32) hx hb dX8_isFrozen_28 (by decide) ?_
      cases h
      exact g_zret S hr hlk rfl hW dX8_isFrozen_32
theorem cwX8_isFrozen {R : Room} {s : State} {args : Array Value} {index : Nat} (hts : ∀ w ∈ lw_all, w.before args s = true) (hl : Cond.methodLink RX8 index yX8_isFrozen ∈ lw_all) (hR : rmX8_isFrozen.frames + 1 ≤ R.frames ∧ 8 + (2 + 11) + rmX8_isFrozen.locals ≤ R.locals) : CallW R s args RX8 RX8 index yX8_isFrozen cX8_isFrozen 2 (some .boolean) (ws_ yX8_isFrozen cX8_isFrozen 2 (some .boolean)) rmX8_isFrozen 0 0 1 := cwV 1 hts (lw_V hl q1791 qs78 q122 q1792) rfl rfl rfl (by decide +kernel) hR
def tw_streams_J78 (x1 : Int32) (x2 : Int32) (z0 : Int32) (V : g_V) : Option (g_V) :=
  rdI (V 1) 810 (192 + x1) fun x_17 => nmI (((z0 - x_17) * x2) / 100) fun x_20 => rdI (V 24) 144 x1 fun x_22 => wrI V 24 144 x1 (x_22 + x_20) fun V_27 => rdI (V_27 1) 810 16 fun x_28 => wrI V_27 1 810 16 (x_28 + x_20) fun V_33 => some V_33
def tw_streams_J54 (x1 : Int32) (x2 : Int32) (x3 : Int32) (V : g_V) : Option (g_V) :=
  if x3 = (-1) then (rdI (V 1) 810 5 fun x_34 => tw_streams_J78 x1 x2 x_34 V) else (rdI (V 1) 810 (192 + x3) fun x_14 => tw_streams_J78 x1 x2 x_14 V)
def tw_streams (V0 : g_V) (a1 : Int32) : Option (g_V) :=
  rdI (V0 1) 810 (36 + (a1 / 12)) fun x_1 => if x_1 = 0 then (some V0) else (bnd (tw_isFrozen V0 a1) (fun x_7 => if x_7 = 0 then (bnd (tw_beside a1 1) (fun x_11 => if x_11 = (-1) then (tw_streams_J54 a1 x_1 x_11 V0) else (bnd (tw_isFrozen V0 x_11) (fun x_39 => if x_39 = 0 then (bnd (tw_isDug V0 x_11) (fun x_43 => if x_43 = 0 then (tw_streams_J54 a1 x_1 x_11 V0) else (some V0))) else (some V0))))) else (some V0)))
abbrev rmX8_streams : Room := rm_ 3 69
set_option maxHeartbeats 4000000 in
theorem metX8_streams {l : Launch} {gp : Nat → Nat} {nx : Nat} {D : va_G} {K : Nat → ClassId} {al : Nat → Nat} {V0 : g_V} {L0 : g_L} {a1 : Int32} {V' : g_V} (h : tw_streams V0 a1 = some V') : Met l yX8_streams (ws_ yX8_streams cX8_streams 5 (none)) rmX8_streams (twPc gp nx [.ref (al 0), .int a1] D K al V0 L0) (twQv nx D K al V' L0) 0 0 (g_A al twSh) := by
  refine g_met rfl (Nat.le_of_ble_eq_true rfl) ?_
  intro p e s m below meth c ls S hr hlk hnm hl hW
  have S : CallFix p m c cX8_streams 5 s ([.ref (al 0), .int a1] : List Value).toArray lw_all RX8 := S
  have hx := S.1
  have hb := S.2.1
  have hl : lv_has ls 5 [(0, .ref (al 0)), (1, .int a1)] := hl
  have J78 : ∀ (x1 : Int32) (x2 : Int32) (z0 : Int32) (V : g_V) (H : Heap) (locs : List Loc) (ls : Array Slot), tw_streams_J78 x1 x2 z0 V = some V' → twW gp nx D K al s V L0 H locs → lv_has ls 5 [(0, .ref (al 0)), (1, .int x1), (2, .int x2)] → W p l e rmX8_streams s m ([.ref (al 0), .int a1] : List Value).toArray below meth c H locs 0 0 (MQ below (twQv nx D K al V' L0) ([.ref (al 0), .int a1] : List Value).toArray s 0 0 (g_A al twSh)) (F0 m 78 ls [.int z0]) := by
    intro x1 x2 z0 V H locs ls h hW hl
    unfold tw_streams_J78 at h
    refine lv_aload_n hx hb dX8_streams_78 rfl (lv_at hl 0 rfl) ?_
    refine tw_ref S hW 1 1 (by decide) rfl q1500 rfl dX8_streams_79 ?_
    refine lv_sipush (v := 192) hx hb dX8_streams_82 (by decide) ?_
    refine lv_iload_n hx hb dX8_streams_85 rfl (lv_at hl 1 rfl) ?_
    refine lv_iadd hx hb dX8_streams_86 ?_
    obtain ⟨h_18, x_17, e_19, h⟩ := rdI_some h
    refine g_iald S hW (k := 1) rfl rfl h_18 e_19 dX8_streams_87 ?_
    refine lv_isub hx hb dX8_streams_88 ?_
    refine lv_iload_n hx hb dX8_streams_89 rfl (lv_at hl 2 rfl) ?_
    refine lv_imul hx hb dX8_streams_90 ?_
    refine lv_bipush (v := 100) hx hb dX8_streams_91 (by decide) ?_
    refine lv_idiv hx hb dX8_streams_93 (by decide) ?_
    obtain ⟨x_20, e_21, h⟩ := nmI_some h
    refine g_nmi e_21 ?_
    refine lv_istore (lv' := [(4, .int x_20), (0, .ref (al 0)), (1, .int x1), (2, .int x2)]) hx hb dX8_streams_94 hl (by decide) rfl (fun ls hl => ?_)
    refine lv_aload_n hx hb dX8_streams_96 rfl (lv_at hl 1 rfl) ?_
    refine tw_ref S hW 24 24 (by decide) rfl q1523 rfl dX8_streams_97 ?_
    refine lv_iload_n hx hb dX8_streams_100 rfl (lv_at hl 2 rfl) ?_
    refine lv_dup2_11 hx hb dX8_streams_101 rfl rfl ?_
    obtain ⟨h_23, x_22, e_24, h⟩ := rdI_some h
    refine g_iald S hW (k := 24) rfl rfl h_23 e_24 dX8_streams_102 ?_
    refine lv_iload hx hb dX8_streams_103 (lv_at hl 0 rfl) ?_
    refine lv_iadd hx hb dX8_streams_105 ?_
    obtain ⟨h_25, V_27, e_26, h⟩ := wrI_some h
    refine g_iast S hW (k := 24) rfl rfl h_25 e_26 dX8_streams_106 (fun H locs hW => ?_)
    refine lv_aload_n hx hb dX8_streams_107 rfl (lv_at hl 1 rfl) ?_
    refine tw_ref S hW 1 1 (by decide) rfl q1500 rfl dX8_streams_108 ?_
    refine lv_bipush (v := 16) hx hb dX8_streams_111 (by decide) ?_
    refine lv_dup2_11 hx hb dX8_streams_113 rfl rfl ?_
    obtain ⟨h_29, x_28, e_30, h⟩ := rdI_some h
    refine g_iald S hW (k := 1) rfl rfl h_29 e_30 dX8_streams_114 ?_
    refine lv_iload hx hb dX8_streams_115 (lv_at hl 0 rfl) ?_
    refine lv_iadd hx hb dX8_streams_117 ?_
    obtain ⟨h_31, V_33, e_32, h⟩ := wrI_some h
    refine g_iast S hW (k := 1) rfl rfl h_31 e_32 dX8_streams_118 (fun H locs hW => ?_)
    cases h
    exact g_vret S hr hlk hW dX8_streams_119
  have J54 : ∀ (x1 : Int32) (x2 : Int32) (x3 : Int32) (V : g_V) (H : Heap) (locs : List Loc) (ls : Array Slot), tw_streams_J54 x1 x2 x3 V = some V' → twW gp nx D K al s V L0 H locs → lv_has ls 5 [(0, .ref (al 0)), (1, .int x1), (2, .int x2), (3, .int x3)] → W p l e rmX8_streams s m ([.ref (al 0), .int a1] : List Value).toArray below meth c H locs 0 0 (MQ below (twQv nx D K al V' L0) ([.ref (al 0), .int a1] : List Value).toArray s 0 0 (g_A al twSh)) (F0 m 54 ls []) := by
    intro x1 x2 x3 V H locs ls h hW hl
    unfold tw_streams_J54 at h
    refine lv_iload_n hx hb dX8_streams_54 rfl (lv_at hl 3 rfl) ?_
    refine lv_iconst (v := (-1)) hx hb dX8_streams_55 (by decide) ?_
    refine lv_icmp_ne (tgt := 68) hx hb dX8_streams_56 (by decide) (fun c_13 => ?_) (fun c_13 => ?_)
    · have h := if_f h c_13
      refine lv_aload_n hx hb dX8_streams_68 rfl (lv_at hl 0 rfl) ?_
      refine tw_ref S hW 1 1 (by decide) rfl q1500 rfl dX8_streams_69 ?_
      refine lv_sipush (v := 192) hx hb dX8_streams_72 (by decide) ?_
      refine lv_iload_n hx hb dX8_streams_75 rfl (lv_at hl 3 rfl) ?_
      refine lv_iadd hx hb dX8_streams_76 ?_
      obtain ⟨h_15, x_14, e_16, h⟩ := rdI_some h
      refine g_iald S hW (k := 1) rfl rfl h_15 e_16 dX8_streams_77 ?_
      exact J78 x1 x2 x_14 V _ _ _ h hW (lv_sub hl [0, 1, 2] rfl)
    · have h := if_t h c_13
      refine lv_aload_n hx hb dX8_streams_59 rfl (lv_at hl 0 rfl) ?_
      refine tw_ref S hW 1 1 (by decide) rfl q1500 rfl dX8_streams_60 ?_
      refine lv_iconst (v := 5) hx hb dX8_streams_63 (by decide) ?_
      obtain ⟨h_35, x_34, e_36, h⟩ := rdI_some h
      refine g_iald S hW (k := 1) rfl rfl h_35 e_36 dX8_streams_64 ?_
      refine lv_goto (tgt := 78) hx hb dX8_streams_65 (by decide) ?_
      exact J78 x1 x2 x_34 V _ _ _ h hW (lv_sub hl [0, 1, 2] rfl)
  unfold tw_streams at h
  refine lv_aload_n hx hb dX8_streams_0 rfl (lv_at hl 0 rfl) ?_
  refine tw_ref S hW 1 1 (by decide) rfl q1500 rfl dX8_streams_1 ?_
  refine lv_bipush (v := 36) hx hb dX8_streams_4 (by decide) ?_
  refine lv_iload_n hx hb dX8_streams_6 rfl (lv_at hl 1 rfl) ?_
  refine lv_bipush (v := 12) hx hb dX8_streams_7 (by decide) ?_
  refine lv_idiv hx hb dX8_streams_9 (by decide) ?_
  refine lv_iadd hx hb dX8_streams_10 ?_
  obtain ⟨h_2, x_1, e_3, h⟩ := rdI_some h
  refine g_iald S hW (k := 1) rfl rfl h_2 e_3 dX8_streams_11 ?_
  refine lv_istore_n (lv' := [(2, .int x_1), (0, .ref (al 0)), (1, .int a1)]) hx hb dX8_streams_12 rfl hl (by decide) rfl (fun ls hl => ?_)
  refine lv_iload_n hx hb dX8_streams_13 rfl (lv_at hl 0 rfl) ?_
  refine lv_if_eq (tgt := 25) hx hb dX8_streams_14 (by decide) (fun c_4 => ?_) (fun c_4 => ?_)
  · have h := if_t h c_4
    cases h
    exact g_vret S hr hlk hW dX8_streams_25
  · have h := if_f h c_4
    refine lv_aload_n hx hb dX8_streams_17 rfl (lv_at hl 1 rfl) ?_
    refine lv_iload_n hx hb dX8_streams_18 rfl (lv_at hl 2 rfl) ?_
    obtain ⟨x_7, h_5, h⟩ := bnd_some h
    refine g_callVi (As := [.int a1]) (rest := []) S hW (metX8_isFrozen h_5) (cwX8_isFrozen S.2.2.2.2 q1789 ⟨Nat.le_of_ble_eq_true rfl, Nat.le_of_ble_eq_true rfl⟩) (k := 0) rfl rfl rfl hl.1 rfl (Nat.le_of_ble_eq_true rfl) dX8_streams_19 ⟨Nat.le_refl _, Nat.le_refl _⟩ (fun H locs hW => ?_)
    refine lv_if_eq (tgt := 26) hx hb dX8_streams_22 (by decide) (fun c_8 => ?_) (fun c_8 => ?_)
    · have h := if_t h c_8
      refine lv_iload_n hx hb dX8_streams_26 rfl (lv_at hl 2 rfl) ?_
      refine lv_iconst (v := 1) hx hb dX8_streams_27 (by decide) ?_
      obtain ⟨x_11, h_9, h⟩ := bnd_some h
      refine g_callSi (As := [.int a1, .int 1]) (rest := []) S hW (metX8_beside h_9) (cwX8_beside S.2.2.2.2 q1779 ⟨Nat.le_of_ble_eq_true rfl, Nat.le_of_ble_eq_true rfl⟩) rfl hl.1 rfl (Nat.le_of_ble_eq_true rfl) dX8_streams_28 ⟨Nat.le_refl _, Nat.le_refl _⟩ (fun H locs hW => ?_)
      refine lv_istore_n (lv' := [(3, .int x_11), (2, .int x_1), (0, .ref (al 0)), (1, .int a1)]) hx hb dX8_streams_31 rfl hl (by decide) rfl (fun ls hl => ?_)
      refine lv_iload_n hx hb dX8_streams_32 rfl (lv_at hl 0 rfl) ?_
      refine lv_iconst (v := (-1)) hx hb dX8_streams_33 (by decide) ?_
      refine lv_icmp_eq (tgt := 54) hx hb dX8_streams_34 (by decide) (fun c_12 => ?_) (fun c_12 => ?_)
      · have h := if_t h c_12
        exact J54 a1 x_1 x_11 V0 _ _ _ h hW (lv_sub hl [2, 3, 1, 0] rfl)
      · have h := if_f h c_12
        refine lv_aload_n hx hb dX8_streams_37 rfl (lv_at hl 2 rfl) ?_
        refine lv_iload_n hx hb dX8_streams_38 rfl (lv_at hl 0 rfl) ?_
        obtain ⟨x_39, h_37, h⟩ := bnd_some h
        refine g_callVi (As := [.int x_11]) (rest := []) S hW (metX8_isFrozen h_37) (cwX8_isFrozen S.2.2.2.2 q1789 ⟨Nat.le_of_ble_eq_true rfl, Nat.le_of_ble_eq_true rfl⟩) (k := 0) rfl rfl rfl hl.1 rfl (Nat.le_of_ble_eq_true rfl) dX8_streams_39 ⟨Nat.le_refl _, Nat.le_refl _⟩ (fun H locs hW => ?_)
        refine lv_if_ne (tgt := 53) hx hb dX8_streams_42 (by decide) (fun c_40 => ?_) (fun c_40 => ?_)
        · have h := if_f h c_40
          cases h
          exact g_vret S hr hlk hW dX8_streams_53
        · have h := if_t h c_40
          refine lv_aload_n hx hb dX8_streams_45 rfl (lv_at hl 2 rfl) ?_
          refine lv_iload_n hx hb dX8_streams_46 rfl (lv_at hl 0 rfl) ?_
          obtain ⟨x_43, h_41, h⟩ := bnd_some h
          refine g_callVi (As := [.int x_11]) (rest := []) S hW (metX8_isDug h_41) (cwX8_isDug S.2.2.2.2 q1771 ⟨Nat.le_of_ble_eq_true rfl, Nat.le_of_ble_eq_true rfl⟩) (k := 0) rfl rfl rfl hl.1 rfl (Nat.le_of_ble_eq_true rfl) dX8_streams_47 ⟨Nat.le_refl _, Nat.le_refl _⟩ (fun H locs hW => ?_)
          refine lv_if_eq (tgt := 54) hx hb dX8_streams_50 (by decide) (fun c_44 => ?_) (fun c_44 => ?_)
          · have h := if_t h c_44
            exact J54 a1 x_1 x_11 V0 _ _ _ h hW (lv_sub hl [2, 3, 1, 0] rfl)
          · have h := if_f h c_44
            cases h
            exact g_vret S hr hlk hW dX8_streams_53
    · have h := if_f h c_8
      cases h
      exact g_vret S hr hlk hW dX8_streams_25
theorem cwX8_streams {R : Room} {s : State} {args : Array Value} {index : Nat} (hts : ∀ w ∈ lw_all, w.before args s = true) (hl : Cond.methodLink RX8 index yX8_streams ∈ lw_all) (hR : rmX8_streams.frames + 1 ≤ R.frames ∧ 8 + (5 + 11) + rmX8_streams.locals ≤ R.locals) : CallW R s args RX8 RX8 index yX8_streams cX8_streams 5 (none) (ws_ yX8_streams cX8_streams 5 (none)) rmX8_streams 0 0 1 := cwV 1 hts (lw_V hl q1799 qs80 q122 q1800) rfl rfl rfl (by decide +kernel) hR
def tw_isBesideShaft_B4 (x1 : Int32) (V : g_V) (rec : Int32 → Int32 → Option (Int32)) (x2 : Int32) (x3 : Int32) : Option (Int32) :=
  if 4 ≤ x3 then (some x2) else (if x2 = 0 then (bnd (tw_beside x1 x3) (fun x_7 => if x_7 = (-1) then (nmI (x3 + 1) fun x_9 => rec 0 x_9) else (bnd (tw_beside x1 x3) (fun x_13 => bnd (tw_isShaft V x_13) (fun x_16 => if x_16 = 0 then (nmI (x3 + 1) fun x_18 => rec 0 x_18) else (nmI (x3 + 1) fun x_20 => rec 1 x_20)))))) else (nmI (x3 + 1) fun x_3 => rec 1 x_3))
abbrev tw_isBesideShaft_F4 (x1 : Int32) (V : g_V) : ((Int32 × Int32) → Option (Int32)) → (Int32 × Int32) → Option (Int32) := fun rec s => tw_isBesideShaft_B4 x1 V (fun x2 x3 => rec (x2, x3)) s.1 s.2
def tw_isBesideShaft_L4 (x1 : Int32) (V : g_V) (n : Nat) (x2 : Int32) (x3 : Int32) : Option (Int32) := lp (tw_isBesideShaft_F4 x1 V) n (x2, x3)
theorem tw_isBesideShaft_L4_s (x1 : Int32) (V : g_V) (n : Nat) (x2 : Int32) (x3 : Int32) : tw_isBesideShaft_L4 x1 V (n + 1) x2 x3 = tw_isBesideShaft_B4 x1 V (fun x2 x3 => tw_isBesideShaft_L4 x1 V n x2 x3) x2 x3 := lp_s (tw_isBesideShaft_F4 x1 V) n (x2, x3)
def tw_isBesideShaft (V0 : g_V) (a1 : Int32) : Option (Int32) :=
  bnd (tw_isBesideShaft_L4 a1 V0 1000 0 0) (fun x_24 => if x_24 = 0 then (some 0) else (bnd (tw_isShaft V0 a1) (fun x_28 => if x_28 = 0 then (some 1) else (some 0))))
abbrev rmX8_isBesideShaft : Room := rm_ 3 69
set_option maxHeartbeats 4000000 in
theorem metX8_isBesideShaft {l : Launch} {gp : Nat → Nat} {nx : Nat} {D : va_G} {K : Nat → ClassId} {al : Nat → Nat} {V0 : g_V} {L0 : g_L} {a1 : Int32} {r : Int32} (h : tw_isBesideShaft V0 a1 = some r) : Met l yX8_isBesideShaft (ws_ yX8_isBesideShaft cX8_isBesideShaft 4 (some .boolean)) rmX8_isBesideShaft (twPc gp nx [.ref (al 0), .int a1] D K al V0 L0) (twQi r nx D K al V0 L0) 0 0 (g_A al twSh) := by
  refine g_met rfl (Nat.le_of_ble_eq_true rfl) ?_
  intro p e s m below meth c ls S hr hlk hnm hl hW
  have S : CallFix p m c cX8_isBesideShaft 4 s ([.ref (al 0), .int a1] : List Value).toArray lw_all RX8 := S
  have hx := S.1
  have hb := S.2.1
  have hl : lv_has ls 4 [(0, .ref (al 0)), (1, .int a1)] := hl
  have Lp4 : ∀ (x1 : Int32) (V : g_V) (L : g_L) (n : Nat) (x2 : Int32) (x3 : Int32) (out : (Int32)) (H : Heap) (locs : List Loc) (ls : Array Slot), tw_isBesideShaft_L4 x1 V n x2 x3 = some out → twW gp nx D K al s V L H locs → lv_has ls 4 [(0, .ref (al 0)), (1, .int x1), (2, .int x2), (3, .int x3)] → (∀ (o2 : Int32), out = o2 → ∀ (H : Heap) (locs : List Loc) (ls : Array Slot), twW gp nx D K al s V L H locs → lv_has ls 4 [(0, .ref (al 0)), (1, .int x1), (2, .int o2)] → W p l e rmX8_isBesideShaft s m ([.ref (al 0), .int a1] : List Value).toArray below meth c H locs 0 0 (MQ below (twQi r nx D K al V0 L0) ([.ref (al 0), .int a1] : List Value).toArray s 0 0 (g_A al twSh)) (F0 m 46 ls [])) → W p l e rmX8_isBesideShaft s m ([.ref (al 0), .int a1] : List Value).toArray below meth c H locs 0 0 (MQ below (twQi r nx D K al V0 L0) ([.ref (al 0), .int a1] : List Value).toArray s 0 0 (g_A al twSh)) (F0 m 4 ls []) := by
    intro x1 V L n
    induction n with
    | zero =>
      intro x2 x3 out H locs ls h
      exact (lp_0 h).elim
    | succ n ih =>
      intro x2 x3 out H locs ls h hW hl k1
      rw [tw_isBesideShaft_L4_s] at h
      unfold tw_isBesideShaft_B4 at h
      refine lv_iload_n hx hb dX8_isBesideShaft_4 rfl (lv_at hl 3 rfl) ?_
      refine lv_iconst (v := 4) hx hb dX8_isBesideShaft_5 (by decide) ?_
      refine lv_icmp_ge (tgt := 46) hx hb dX8_isBesideShaft_6 (by decide) (fun c_1 => ?_) (fun c_1 => ?_)
      · have h := if_t h c_1
        exact k1 _ (Option.some.inj h).symm _ _ _ hW (lv_sub hl [0, 1, 2] rfl)
      · have h := if_f h c_1
        refine lv_iload_n hx hb dX8_isBesideShaft_9 rfl (lv_at hl 2 rfl) ?_
        refine lv_if_ne (tgt := 34) hx hb dX8_isBesideShaft_10 (by decide) (fun c_2 => ?_) (fun c_2 => ?_)
        · have h := if_f h c_2
          refine lv_iconst (v := 1) hx hb dX8_isBesideShaft_34 (by decide) ?_
          refine lv_goto (tgt := 39) hx hb dX8_isBesideShaft_35 (by decide) ?_
          refine lv_istore_n (lv' := [(2, .int 1), (0, .ref (al 0)), (1, .int x1), (3, .int x3)]) hx hb dX8_isBesideShaft_39 rfl hl (by decide) rfl (fun ls hl => ?_)
          obtain ⟨x_3, e_4, h⟩ := nmI_some h
          refine lv_iinc (v := x_3) (lv' := [(3, .int x_3), (2, .int 1), (0, .ref (al 0)), (1, .int x1)]) hx hb dX8_isBesideShaft_40 hl (k := 3) rfl (by rw [e_4]; rfl) (by decide) rfl (fun ls hl => ?_)
          refine lv_goto (tgt := 4) hx hb dX8_isBesideShaft_43 (by decide) ?_
          exact ih 1 x_3 out _ _ _ h hW (lv_sub hl [2, 3, 1, 0] rfl) k1
        · have h := if_t h c_2
          refine lv_iload_n hx hb dX8_isBesideShaft_13 rfl (lv_at hl 1 rfl) ?_
          refine lv_iload_n hx hb dX8_isBesideShaft_14 rfl (lv_at hl 3 rfl) ?_
          obtain ⟨x_7, h_5, h⟩ := bnd_some h
          refine g_callSi (As := [.int x1, .int x3]) (rest := []) S hW (metX8_beside h_5) (cwX8_beside S.2.2.2.2 q1779 ⟨Nat.le_of_ble_eq_true rfl, Nat.le_of_ble_eq_true rfl⟩) rfl hl.1 rfl (Nat.le_of_ble_eq_true rfl) dX8_isBesideShaft_15 ⟨Nat.le_refl _, Nat.le_refl _⟩ (fun H locs hW => ?_)
          refine lv_iconst (v := (-1)) hx hb dX8_isBesideShaft_18 (by decide) ?_
          refine lv_icmp_eq (tgt := 38) hx hb dX8_isBesideShaft_19 (by decide) (fun c_8 => ?_) (fun c_8 => ?_)
          · have h := if_t h c_8
            refine lv_iconst (v := 0) hx hb dX8_isBesideShaft_38 (by decide) ?_
            refine lv_istore_n (lv' := [(2, .int 0), (0, .ref (al 0)), (1, .int x1), (3, .int x3)]) hx hb dX8_isBesideShaft_39 rfl hl (by decide) rfl (fun ls hl => ?_)
            obtain ⟨x_9, e_10, h⟩ := nmI_some h
            refine lv_iinc (v := x_9) (lv' := [(3, .int x_9), (2, .int 0), (0, .ref (al 0)), (1, .int x1)]) hx hb dX8_isBesideShaft_40 hl (k := 3) rfl (by rw [e_10]; rfl) (by decide) rfl (fun ls hl => ?_)
            refine lv_goto (tgt := 4) hx hb dX8_isBesideShaft_43 (by decide) ?_
            exact ih 0 x_9 out _ _ _ h hW (lv_sub hl [2, 3, 1, 0] rfl) k1
          · have h := if_f h c_8
            refine lv_aload_n hx hb dX8_isBesideShaft_22 rfl (lv_at hl 0 rfl) ?_
            refine lv_iload_n hx hb dX8_isBesideShaft_23 rfl (lv_at hl 1 rfl) ?_
            refine lv_iload_n hx hb dX8_isBesideShaft_24 rfl (lv_at hl 3 rfl) ?_
            obtain ⟨x_13, h_11, h⟩ := bnd_some h
            refine g_callSi (As := [.int x1, .int x3]) (rest := [.ref (al 0)]) S hW (metX8_beside h_11) (cwX8_beside S.2.2.2.2 q1779 ⟨Nat.le_of_ble_eq_true rfl, Nat.le_of_ble_eq_true rfl⟩) rfl hl.1 rfl (Nat.le_of_ble_eq_true rfl) dX8_isBesideShaft_25 ⟨Nat.le_refl _, Nat.le_refl _⟩ (fun H locs hW => ?_)
            obtain ⟨x_16, h_14, h⟩ := bnd_some h
            refine g_callVi (As := [.int x_13]) (rest := []) S hW (metX8_isShaft h_14) (cwX8_isShaft S.2.2.2.2 q1827 ⟨Nat.le_of_ble_eq_true rfl, Nat.le_of_ble_eq_true rfl⟩) (k := 0) rfl rfl rfl hl.1 rfl (Nat.le_of_ble_eq_true rfl) dX8_isBesideShaft_28 ⟨Nat.le_refl _, Nat.le_refl _⟩ (fun H locs hW => ?_)
            refine lv_if_eq (tgt := 38) hx hb dX8_isBesideShaft_31 (by decide) (fun c_17 => ?_) (fun c_17 => ?_)
            · have h := if_t h c_17
              refine lv_iconst (v := 0) hx hb dX8_isBesideShaft_38 (by decide) ?_
              refine lv_istore_n (lv' := [(2, .int 0), (0, .ref (al 0)), (1, .int x1), (3, .int x3)]) hx hb dX8_isBesideShaft_39 rfl hl (by decide) rfl (fun ls hl => ?_)
              obtain ⟨x_18, e_19, h⟩ := nmI_some h
              refine lv_iinc (v := x_18) (lv' := [(3, .int x_18), (2, .int 0), (0, .ref (al 0)), (1, .int x1)]) hx hb dX8_isBesideShaft_40 hl (k := 3) rfl (by rw [e_19]; rfl) (by decide) rfl (fun ls hl => ?_)
              refine lv_goto (tgt := 4) hx hb dX8_isBesideShaft_43 (by decide) ?_
              exact ih 0 x_18 out _ _ _ h hW (lv_sub hl [2, 3, 1, 0] rfl) k1
            · have h := if_f h c_17
              refine lv_iconst (v := 1) hx hb dX8_isBesideShaft_34 (by decide) ?_
              refine lv_goto (tgt := 39) hx hb dX8_isBesideShaft_35 (by decide) ?_
              refine lv_istore_n (lv' := [(2, .int 1), (0, .ref (al 0)), (1, .int x1), (3, .int x3)]) hx hb dX8_isBesideShaft_39 rfl hl (by decide) rfl (fun ls hl => ?_)
              obtain ⟨x_20, e_21, h⟩ := nmI_some h
              refine lv_iinc (v := x_20) (lv' := [(3, .int x_20), (2, .int 1), (0, .ref (al 0)), (1, .int x1)]) hx hb dX8_isBesideShaft_40 hl (k := 3) rfl (by rw [e_21]; rfl) (by decide) rfl (fun ls hl => ?_)
              refine lv_goto (tgt := 4) hx hb dX8_isBesideShaft_43 (by decide) ?_
              exact ih 1 x_20 out _ _ _ h hW (lv_sub hl [2, 3, 1, 0] rfl) k1
  unfold tw_isBesideShaft at h
  refine lv_iconst (v := 0) hx hb dX8_isBesideShaft_0 (by decide) ?_
  refine lv_istore_n (lv' := [(2, .int 0), (0, .ref (al 0)), (1, .int a1)]) hx hb dX8_isBesideShaft_1 rfl hl (by decide) rfl (fun ls hl => ?_)
  refine lv_iconst (v := 0) hx hb dX8_isBesideShaft_2 (by decide) ?_
  refine lv_istore_n (lv' := [(3, .int 0), (2, .int 0), (0, .ref (al 0)), (1, .int a1)]) hx hb dX8_isBesideShaft_3 rfl hl (by decide) rfl (fun ls hl => ?_)
  obtain ⟨x_24, h_23, h⟩ := bnd_some h
  refine Lp4 a1 V0 L0 1000 0 0  _ _ _ _ h_23 hW (lv_sub hl [2, 3, 1, 0] rfl) ?_
  intro w0 eo H locs ls hW hl
  subst eo
  refine lv_iload_n hx hb dX8_isBesideShaft_46 rfl (lv_at hl 2 rfl) ?_
  refine lv_if_eq (tgt := 62) hx hb dX8_isBesideShaft_47 (by decide) (fun c_25 => ?_) (fun c_25 => ?_)
  · have h := if_t h c_25
    refine lv_iconst (v := 0) hx hb dX8_isBesideShaft_62 (by decide) ?_
    cases h
    exact g_zret S hr hlk rfl hW dX8_isBesideShaft_63
  · have h := if_f h c_25
    refine lv_aload_n hx hb dX8_isBesideShaft_50 rfl (lv_at hl 0 rfl) ?_
    refine lv_iload_n hx hb dX8_isBesideShaft_51 rfl (lv_at hl 1 rfl) ?_
    obtain ⟨x_28, h_26, h⟩ := bnd_some h
    refine g_callVi (As := [.int a1]) (rest := []) S hW (metX8_isShaft h_26) (cwX8_isShaft S.2.2.2.2 q1827 ⟨Nat.le_of_ble_eq_true rfl, Nat.le_of_ble_eq_true rfl⟩) (k := 0) rfl rfl rfl hl.1 rfl (Nat.le_of_ble_eq_true rfl) dX8_isBesideShaft_52 ⟨Nat.le_refl _, Nat.le_refl _⟩ (fun H locs hW => ?_)
    refine lv_if_ne (tgt := 62) hx hb dX8_isBesideShaft_55 (by decide) (fun c_29 => ?_) (fun c_29 => ?_)
    · have h := if_f h c_29
      refine lv_iconst (v := 0) hx hb dX8_isBesideShaft_62 (by decide) ?_
      cases h
      exact g_zret S hr hlk rfl hW dX8_isBesideShaft_63
    · have h := if_t h c_29
      refine lv_iconst (v := 1) hx hb dX8_isBesideShaft_58 (by decide) ?_
      refine lv_goto (tgt := 63) hx hb dX8_isBesideShaft_59 (by decide) ?_
      cases h
      exact g_zret S hr hlk rfl hW dX8_isBesideShaft_63
theorem cwX8_isBesideShaft {R : Room} {s : State} {args : Array Value} {index : Nat} (hts : ∀ w ∈ lw_all, w.before args s = true) (hl : Cond.methodLink RX8 index yX8_isBesideShaft ∈ lw_all) (hR : rmX8_isBesideShaft.frames + 1 ≤ R.frames ∧ 8 + (4 + 11) + rmX8_isBesideShaft.locals ≤ R.locals) : CallW R s args RX8 RX8 index yX8_isBesideShaft cX8_isBesideShaft 4 (some .boolean) (ws_ yX8_isBesideShaft cX8_isBesideShaft 4 (some .boolean)) rmX8_isBesideShaft 0 0 1 := cwV 1 hts (lw_V hl q1833 qs88 q122 q1834) rfl rfl rfl (by decide +kernel) hR
def tw_cell (V0 : g_V) (a1 : Int32) (a2 : Int32) (a3 : Int32) : Option (Int32) :=
  bnd (tw_isPlace a1 a2) (fun x_3 => if x_3 = 0 then (some (-2000000000)) else (nmI ((12 * a2) + a1) fun x_5 => if a3 = 0 then (rdI (V0 1) 810 (48 + x_5) fun x_8 => some x_8) else (if a3 = 1 then (rdI (V0 1) 810 (192 + x_5) fun x_12 => some x_12) else (if a3 = 2 then (rdI (V0 1) 810 (336 + x_5) fun x_16 => some x_16) else (if a3 = 3 then (bnd (tw_isDug V0 x_5) (fun x_22 => if x_22 = 0 then (bnd (tw_isFrozen V0 x_5) (fun x_26 => if x_26 = 0 then (some 0) else (some 1))) else (some 2))) else (if a3 = 4 then (bnd (tw_pipeAt V0 x_5) (fun x_31 => some x_31)) else (if a3 = 5 then (bnd (tw_isShaft V0 x_5) (fun x_35 => if x_35 = 0 then (some 0) else (some 1))) else (some (-2000000000)))))))))
abbrev rmX8_cell : Room := rm_ 2 46
set_option maxHeartbeats 4000000 in
theorem metX8_cell {l : Launch} {gp : Nat → Nat} {nx : Nat} {D : va_G} {K : Nat → ClassId} {al : Nat → Nat} {V0 : g_V} {L0 : g_L} {a1 : Int32} {a2 : Int32} {a3 : Int32} {r : Int32} (h : tw_cell V0 a1 a2 a3 = some r) : Met l yX8_cell (ws_ yX8_cell cX8_cell 5 (some .int)) rmX8_cell (twPc gp nx [.ref (al 0), .int a1, .int a2, .int a3] D K al V0 L0) (twQi r nx D K al V0 L0) 0 0 (g_A al twSh) := by
  refine g_met rfl (Nat.le_of_ble_eq_true rfl) ?_
  intro p e s m below meth c ls S hr hlk hnm hl hW
  have S : CallFix p m c cX8_cell 5 s ([.ref (al 0), .int a1, .int a2, .int a3] : List Value).toArray lw_all RX8 := S
  have hx := S.1
  have hb := S.2.1
  have hl : lv_has ls 5 [(0, .ref (al 0)), (1, .int a1), (2, .int a2), (3, .int a3)] := hl
  unfold tw_cell at h
  refine lv_iload_n hx hb dX8_cell_0 rfl (lv_at hl 1 rfl) ?_
  refine lv_iload_n hx hb dX8_cell_1 rfl (lv_at hl 2 rfl) ?_
  obtain ⟨x_3, h_1, h⟩ := bnd_some h
  refine g_callSi (As := [.int a1, .int a2]) (rest := []) S hW (metX8_isPlace h_1) (cwX8_isPlace S.2.2.2.2 q1782 ⟨Nat.le_of_ble_eq_true rfl, Nat.le_of_ble_eq_true rfl⟩) rfl hl.1 rfl (Nat.le_of_ble_eq_true rfl) dX8_cell_2 ⟨Nat.le_refl _, Nat.le_refl _⟩ (fun H locs hW => ?_)
  refine lv_if_ne (tgt := 12) hx hb dX8_cell_5 (by decide) (fun c_4 => ?_) (fun c_4 => ?_)
  · have h := if_f h c_4
    refine lv_bipush (v := 12) hx hb dX8_cell_12 (by decide) ?_
    refine lv_iload_n hx hb dX8_cell_14 rfl (lv_at hl 2 rfl) ?_
    refine lv_imul hx hb dX8_cell_15 ?_
    refine lv_iload_n hx hb dX8_cell_16 rfl (lv_at hl 1 rfl) ?_
    refine lv_iadd hx hb dX8_cell_17 ?_
    obtain ⟨x_5, e_6, h⟩ := nmI_some h
    refine g_nmi e_6 ?_
    refine lv_istore (lv' := [(4, .int x_5), (0, .ref (al 0)), (1, .int a1), (2, .int a2), (3, .int a3)]) hx hb dX8_cell_18 hl (by decide) rfl (fun ls hl => ?_)
    refine lv_iload_n hx hb dX8_cell_20 rfl (lv_at hl 4 rfl) ?_
    by_cases c_7 : a3 = 0
    · have h := if_t h c_7
      refine lv_tableIn (off := 39) (tgt := 60) hx hb dX8_cell_21 (by rw [c_7]; decide) (by rw [c_7]; decide) (by rw [c_7]; decide) (by decide) ?_
      refine lv_aload_n hx hb dX8_cell_60 rfl (lv_at hl 1 rfl) ?_
      refine tw_ref S hW 1 1 (by decide) rfl q1500 rfl dX8_cell_61 ?_
      refine lv_bipush (v := 48) hx hb dX8_cell_64 (by decide) ?_
      refine lv_iload hx hb dX8_cell_66 (lv_at hl 0 rfl) ?_
      refine lv_iadd hx hb dX8_cell_68 ?_
      obtain ⟨h_9, x_8, e_10, h⟩ := rdI_some h
      refine g_iald S hW (k := 1) rfl rfl h_9 e_10 dX8_cell_69 ?_
      cases h
      exact g_iret S hr hlk hW dX8_cell_70
    have h := if_f h c_7
    by_cases c_11 : a3 = 1
    · have h := if_t h c_11
      refine lv_tableIn (off := 50) (tgt := 71) hx hb dX8_cell_21 (by rw [c_11]; decide) (by rw [c_11]; decide) (by rw [c_11]; decide) (by decide) ?_
      refine lv_aload_n hx hb dX8_cell_71 rfl (lv_at hl 1 rfl) ?_
      refine tw_ref S hW 1 1 (by decide) rfl q1500 rfl dX8_cell_72 ?_
      refine lv_sipush (v := 192) hx hb dX8_cell_75 (by decide) ?_
      refine lv_iload hx hb dX8_cell_78 (lv_at hl 0 rfl) ?_
      refine lv_iadd hx hb dX8_cell_80 ?_
      obtain ⟨h_13, x_12, e_14, h⟩ := rdI_some h
      refine g_iald S hW (k := 1) rfl rfl h_13 e_14 dX8_cell_81 ?_
      cases h
      exact g_iret S hr hlk hW dX8_cell_82
    have h := if_f h c_11
    by_cases c_15 : a3 = 2
    · have h := if_t h c_15
      refine lv_tableIn (off := 62) (tgt := 83) hx hb dX8_cell_21 (by rw [c_15]; decide) (by rw [c_15]; decide) (by rw [c_15]; decide) (by decide) ?_
      refine lv_aload_n hx hb dX8_cell_83 rfl (lv_at hl 1 rfl) ?_
      refine tw_ref S hW 1 1 (by decide) rfl q1500 rfl dX8_cell_84 ?_
      refine lv_sipush (v := 336) hx hb dX8_cell_87 (by decide) ?_
      refine lv_iload hx hb dX8_cell_90 (lv_at hl 0 rfl) ?_
      refine lv_iadd hx hb dX8_cell_92 ?_
      obtain ⟨h_17, x_16, e_18, h⟩ := rdI_some h
      refine g_iald S hW (k := 1) rfl rfl h_17 e_18 dX8_cell_93 ?_
      cases h
      exact g_iret S hr hlk hW dX8_cell_94
    have h := if_f h c_15
    by_cases c_19 : a3 = 3
    · have h := if_t h c_19
      refine lv_tableIn (off := 74) (tgt := 95) hx hb dX8_cell_21 (by rw [c_19]; decide) (by rw [c_19]; decide) (by rw [c_19]; decide) (by decide) ?_
      refine lv_aload_n hx hb dX8_cell_95 rfl (lv_at hl 1 rfl) ?_
      refine lv_iload hx hb dX8_cell_96 (lv_at hl 0 rfl) ?_
      obtain ⟨x_22, h_20, h⟩ := bnd_some h
      refine g_callVi (As := [.int x_5]) (rest := []) S hW (metX8_isDug h_20) (cwX8_isDug S.2.2.2.2 q1771 ⟨Nat.le_of_ble_eq_true rfl, Nat.le_of_ble_eq_true rfl⟩) (k := 0) rfl rfl rfl hl.1 rfl (Nat.le_of_ble_eq_true rfl) dX8_cell_98 ⟨Nat.le_refl _, Nat.le_refl _⟩ (fun H locs hW => ?_)
      refine lv_if_eq (tgt := 108) hx hb dX8_cell_101 (by decide) (fun c_23 => ?_) (fun c_23 => ?_)
      · have h := if_t h c_23
        refine lv_aload_n hx hb dX8_cell_108 rfl (lv_at hl 1 rfl) ?_
        refine lv_iload hx hb dX8_cell_109 (lv_at hl 0 rfl) ?_
        obtain ⟨x_26, h_24, h⟩ := bnd_some h
        refine g_callVi (As := [.int x_5]) (rest := []) S hW (metX8_isFrozen h_24) (cwX8_isFrozen S.2.2.2.2 q1789 ⟨Nat.le_of_ble_eq_true rfl, Nat.le_of_ble_eq_true rfl⟩) (k := 0) rfl rfl rfl hl.1 rfl (Nat.le_of_ble_eq_true rfl) dX8_cell_111 ⟨Nat.le_refl _, Nat.le_refl _⟩ (fun H locs hW => ?_)
        refine lv_if_eq (tgt := 121) hx hb dX8_cell_114 (by decide) (fun c_27 => ?_) (fun c_27 => ?_)
        · have h := if_t h c_27
          refine lv_iconst (v := 0) hx hb dX8_cell_121 (by decide) ?_
          cases h
          exact g_iret S hr hlk hW dX8_cell_122
        · have h := if_f h c_27
          refine lv_iconst (v := 1) hx hb dX8_cell_117 (by decide) ?_
          refine lv_goto (tgt := 122) hx hb dX8_cell_118 (by decide) ?_
          cases h
          exact g_iret S hr hlk hW dX8_cell_122
      · have h := if_f h c_23
        refine lv_iconst (v := 2) hx hb dX8_cell_104 (by decide) ?_
        refine lv_goto (tgt := 122) hx hb dX8_cell_105 (by decide) ?_
        cases h
        exact g_iret S hr hlk hW dX8_cell_122
    have h := if_f h c_19
    by_cases c_28 : a3 = 4
    · have h := if_t h c_28
      refine lv_tableIn (off := 102) (tgt := 123) hx hb dX8_cell_21 (by rw [c_28]; decide) (by rw [c_28]; decide) (by rw [c_28]; decide) (by decide) ?_
      refine lv_aload_n hx hb dX8_cell_123 rfl (lv_at hl 1 rfl) ?_
      refine lv_iload hx hb dX8_cell_124 (lv_at hl 0 rfl) ?_
      obtain ⟨x_31, h_29, h⟩ := bnd_some h
      refine g_callVi (As := [.int x_5]) (rest := []) S hW (metX8_pipeAt h_29) (cwX8_pipeAt S.2.2.2.2 q1843 ⟨Nat.le_of_ble_eq_true rfl, Nat.le_of_ble_eq_true rfl⟩) (k := 0) rfl rfl rfl hl.1 rfl (Nat.le_of_ble_eq_true rfl) dX8_cell_126 ⟨Nat.le_refl _, Nat.le_refl _⟩ (fun H locs hW => ?_)
      cases h
      exact g_iret S hr hlk hW dX8_cell_129
    have h := if_f h c_28
    by_cases c_32 : a3 = 5
    · have h := if_t h c_32
      refine lv_tableIn (off := 109) (tgt := 130) hx hb dX8_cell_21 (by rw [c_32]; decide) (by rw [c_32]; decide) (by rw [c_32]; decide) (by decide) ?_
      refine lv_aload_n hx hb dX8_cell_130 rfl (lv_at hl 1 rfl) ?_
      refine lv_iload hx hb dX8_cell_131 (lv_at hl 0 rfl) ?_
      obtain ⟨x_35, h_33, h⟩ := bnd_some h
      refine g_callVi (As := [.int x_5]) (rest := []) S hW (metX8_isShaft h_33) (cwX8_isShaft S.2.2.2.2 q1827 ⟨Nat.le_of_ble_eq_true rfl, Nat.le_of_ble_eq_true rfl⟩) (k := 0) rfl rfl rfl hl.1 rfl (Nat.le_of_ble_eq_true rfl) dX8_cell_133 ⟨Nat.le_refl _, Nat.le_refl _⟩ (fun H locs hW => ?_)
      refine lv_if_eq (tgt := 143) hx hb dX8_cell_136 (by decide) (fun c_36 => ?_) (fun c_36 => ?_)
      · have h := if_t h c_36
        refine lv_iconst (v := 0) hx hb dX8_cell_143 (by decide) ?_
        cases h
        exact g_iret S hr hlk hW dX8_cell_144
      · have h := if_f h c_36
        refine lv_iconst (v := 1) hx hb dX8_cell_139 (by decide) ?_
        refine lv_goto (tgt := 144) hx hb dX8_cell_140 (by decide) ?_
        cases h
        exact g_iret S hr hlk hW dX8_cell_144
    have h := if_f h c_32
    have c_7 := lv_neT (a := 0) c_7 (by decide)
    have c_11 := lv_neT (a := 1) c_11 (by decide)
    have c_15 := lv_neT (a := 2) c_15 (by decide)
    have c_19 := lv_neT (a := 3) c_19 (by decide)
    have c_28 := lv_neT (a := 4) c_28 (by decide)
    have c_32 := lv_neT (a := 5) c_32 (by decide)
    refine lv_tableOut (tgt := 145) hx hb dX8_cell_21 (by omega) (by decide) ?_
    refine lv_ldcw (v := (-2000000000)) hx hb S.2.2.2.1 (S.2.2.2.2 _ q1842) dX8_cell_145 ?_
    cases h
    exact g_iret S hr hlk hW dX8_cell_148
  · have h := if_t h c_4
    refine lv_ldcw (v := (-2000000000)) hx hb S.2.2.2.1 (S.2.2.2.2 _ q1842) dX8_cell_8 ?_
    cases h
    exact g_iret S hr hlk hW dX8_cell_11
theorem cwX8_cell {R : Room} {s : State} {args : Array Value} {index : Nat} (hts : ∀ w ∈ lw_all, w.before args s = true) (hl : Cond.methodLink RX8 index yX8_cell ∈ lw_all) (hR : rmX8_cell.frames + 1 ≤ R.frames ∧ 8 + (5 + 11) + rmX8_cell.locals ≤ R.locals) : CallW R s args RX8 RX8 index yX8_cell cX8_cell 5 (some .int) (ws_ yX8_cell cX8_cell 5 (some .int)) rmX8_cell 0 0 3 := cwV 3 hts (lw_V hl q1839 q1840 q122 q1841) rfl rfl rfl (by decide +kernel) hR
def tw_run_J36 (x2 : Int32) (x3 : Int32) (z0 : Int32) (V : g_V) : Option (Int32 × g_V) :=
  if x2 = 0 then (wrI V 1 810 x3 0 fun V_14 => if z0 = x2 then (some (0, V_14)) else (some (1, V_14))) else (wrI V 1 810 x3 1 fun V_18 => if z0 = x2 then (some (0, V_18)) else (some (1, V_18)))
def tw_run (V0 : g_V) (a1 : Int32) (a2 : Int32) : Option (Int32 × g_V) :=
  bnd (tw_isPipe V0 a1) (fun x_3 => if x_3 = 0 then (some (0, V0)) else (nmI ((624 + (6 * a1)) + 3) fun x_5 => rdI (V0 1) 810 x_5 fun x_7 => if x_7 = 1 then (tw_run_J36 a2 x_5 1 V0) else (tw_run_J36 a2 x_5 0 V0)))
abbrev rmX8_run : Room := rm_ 2 46
set_option maxHeartbeats 4000000 in
theorem metX8_run {l : Launch} {gp : Nat → Nat} {nx : Nat} {D : va_G} {K : Nat → ClassId} {al : Nat → Nat} {V0 : g_V} {L0 : g_L} {a1 : Int32} {a2 : Int32} {r : Int32} {V' : g_V} (h : tw_run V0 a1 a2 = some (r, V')) : Met l yX8_run (ws_ yX8_run cX8_run 5 (some .boolean)) rmX8_run (twPc gp nx [.ref (al 0), .int a1, .int a2] D K al V0 L0) (twQi r nx D K al V' L0) 0 0 (g_A al twSh) := by
  refine g_met rfl (Nat.le_of_ble_eq_true rfl) ?_
  intro p e s m below meth c ls S hr hlk hnm hl hW
  have S : CallFix p m c cX8_run 5 s ([.ref (al 0), .int a1, .int a2] : List Value).toArray lw_all RX8 := S
  have hx := S.1
  have hb := S.2.1
  have hl : lv_has ls 5 [(0, .ref (al 0)), (1, .int a1), (2, .int a2)] := hl
  have J36 : ∀ (x2 : Int32) (x3 : Int32) (z0 : Int32) (V : g_V) (H : Heap) (locs : List Loc) (ls : Array Slot), tw_run_J36 x2 x3 z0 V = some (r, V') → twW gp nx D K al s V L0 H locs → lv_has ls 5 [(0, .ref (al 0)), (2, .int x2), (3, .int x3)] → W p l e rmX8_run s m ([.ref (al 0), .int a1, .int a2] : List Value).toArray below meth c H locs 0 0 (MQ below (twQi r nx D K al V' L0) ([.ref (al 0), .int a1, .int a2] : List Value).toArray s 0 0 (g_A al twSh)) (F0 m 36 ls [.int z0]) := by
    intro x2 x3 z0 V H locs ls h hW hl
    unfold tw_run_J36 at h
    refine lv_istore (lv' := [(4, .int z0), (0, .ref (al 0)), (2, .int x2), (3, .int x3)]) hx hb dX8_run_36 hl (by decide) rfl (fun ls hl => ?_)
    refine lv_aload_n hx hb dX8_run_38 rfl (lv_at hl 1 rfl) ?_
    refine tw_ref S hW 1 1 (by decide) rfl q1500 rfl dX8_run_39 ?_
    refine lv_iload_n hx hb dX8_run_42 rfl (lv_at hl 3 rfl) ?_
    refine lv_iload_n hx hb dX8_run_43 rfl (lv_at hl 2 rfl) ?_
    refine lv_if_eq (tgt := 51) hx hb dX8_run_44 (by decide) (fun c_11 => ?_) (fun c_11 => ?_)
    · have h := if_t h c_11
      refine lv_iconst (v := 0) hx hb dX8_run_51 (by decide) ?_
      obtain ⟨h_12, V_14, e_13, h⟩ := wrI_some h
      refine g_iast S hW (k := 1) rfl rfl h_12 e_13 dX8_run_52 (fun H locs hW => ?_)
      refine lv_iload hx hb dX8_run_53 (lv_at hl 0 rfl) ?_
      refine lv_iload_n hx hb dX8_run_55 rfl (lv_at hl 2 rfl) ?_
      refine lv_icmp_eq (tgt := 63) hx hb dX8_run_56 (by decide) (fun c_15 => ?_) (fun c_15 => ?_)
      · have h := if_t h c_15
        refine lv_iconst (v := 0) hx hb dX8_run_63 (by decide) ?_
        cases h
        exact g_zret S hr hlk rfl hW dX8_run_64
      · have h := if_f h c_15
        refine lv_iconst (v := 1) hx hb dX8_run_59 (by decide) ?_
        refine lv_goto (tgt := 64) hx hb dX8_run_60 (by decide) ?_
        cases h
        exact g_zret S hr hlk rfl hW dX8_run_64
    · have h := if_f h c_11
      refine lv_iconst (v := 1) hx hb dX8_run_47 (by decide) ?_
      refine lv_goto (tgt := 52) hx hb dX8_run_48 (by decide) ?_
      obtain ⟨h_16, V_18, e_17, h⟩ := wrI_some h
      refine g_iast S hW (k := 1) rfl rfl h_16 e_17 dX8_run_52 (fun H locs hW => ?_)
      refine lv_iload hx hb dX8_run_53 (lv_at hl 0 rfl) ?_
      refine lv_iload_n hx hb dX8_run_55 rfl (lv_at hl 2 rfl) ?_
      refine lv_icmp_eq (tgt := 63) hx hb dX8_run_56 (by decide) (fun c_19 => ?_) (fun c_19 => ?_)
      · have h := if_t h c_19
        refine lv_iconst (v := 0) hx hb dX8_run_63 (by decide) ?_
        cases h
        exact g_zret S hr hlk rfl hW dX8_run_64
      · have h := if_f h c_19
        refine lv_iconst (v := 1) hx hb dX8_run_59 (by decide) ?_
        refine lv_goto (tgt := 64) hx hb dX8_run_60 (by decide) ?_
        cases h
        exact g_zret S hr hlk rfl hW dX8_run_64
  unfold tw_run at h
  refine lv_aload_n hx hb dX8_run_0 rfl (lv_at hl 0 rfl) ?_
  refine lv_iload_n hx hb dX8_run_1 rfl (lv_at hl 1 rfl) ?_
  obtain ⟨x_3, h_1, h⟩ := bnd_some h
  refine g_callVi (As := [.int a1]) (rest := []) S hW (metX8_isPipe h_1) (cwX8_isPipe S.2.2.2.2 q1856 ⟨Nat.le_of_ble_eq_true rfl, Nat.le_of_ble_eq_true rfl⟩) (k := 0) rfl rfl rfl hl.1 rfl (Nat.le_of_ble_eq_true rfl) dX8_run_2 ⟨Nat.le_refl _, Nat.le_refl _⟩ (fun H locs hW => ?_)
  refine lv_if_ne (tgt := 10) hx hb dX8_run_5 (by decide) (fun c_4 => ?_) (fun c_4 => ?_)
  · have h := if_f h c_4
    refine lv_sipush (v := 624) hx hb dX8_run_10 (by decide) ?_
    refine lv_bipush (v := 6) hx hb dX8_run_13 (by decide) ?_
    refine lv_iload_n hx hb dX8_run_15 rfl (lv_at hl 1 rfl) ?_
    refine lv_imul hx hb dX8_run_16 ?_
    refine lv_iadd hx hb dX8_run_17 ?_
    refine lv_iconst (v := 3) hx hb dX8_run_18 (by decide) ?_
    refine lv_iadd hx hb dX8_run_19 ?_
    obtain ⟨x_5, e_6, h⟩ := nmI_some h
    refine g_nmi e_6 ?_
    refine lv_istore_n (lv' := [(3, .int x_5), (0, .ref (al 0)), (1, .int a1), (2, .int a2)]) hx hb dX8_run_20 rfl hl (by decide) rfl (fun ls hl => ?_)
    refine lv_aload_n hx hb dX8_run_21 rfl (lv_at hl 1 rfl) ?_
    refine tw_ref S hW 1 1 (by decide) rfl q1500 rfl dX8_run_22 ?_
    refine lv_iload_n hx hb dX8_run_25 rfl (lv_at hl 0 rfl) ?_
    obtain ⟨h_8, x_7, e_9, h⟩ := rdI_some h
    refine g_iald S hW (k := 1) rfl rfl h_8 e_9 dX8_run_26 ?_
    refine lv_iconst (v := 1) hx hb dX8_run_27 (by decide) ?_
    refine lv_icmp_ne (tgt := 35) hx hb dX8_run_28 (by decide) (fun c_10 => ?_) (fun c_10 => ?_)
    · have h := if_f h c_10
      refine lv_iconst (v := 0) hx hb dX8_run_35 (by decide) ?_
      exact J36 a2 x_5 0 V0 _ _ _ h hW (lv_sub hl [1, 3, 0] rfl)
    · have h := if_t h c_10
      refine lv_iconst (v := 1) hx hb dX8_run_31 (by decide) ?_
      refine lv_goto (tgt := 36) hx hb dX8_run_32 (by decide) ?_
      exact J36 a2 x_5 1 V0 _ _ _ h hW (lv_sub hl [1, 3, 0] rfl)
  · have h := if_t h c_4
    refine lv_iconst (v := 0) hx hb dX8_run_8 (by decide) ?_
    cases h
    exact g_zret S hr hlk rfl hW dX8_run_9
theorem cwX8_run {R : Room} {s : State} {args : Array Value} {index : Nat} (hts : ∀ w ∈ lw_all, w.before args s = true) (hl : Cond.methodLink RX8 index yX8_run ∈ lw_all) (hR : rmX8_run.frames + 1 ≤ R.frames ∧ 8 + (5 + 11) + rmX8_run.locals ≤ R.locals) : CallW R s args RX8 RX8 index yX8_run cX8_run 5 (some .boolean) (ws_ yX8_run cX8_run 5 (some .boolean)) rmX8_run 0 0 2 := cwV 2 hts (lw_V hl q1853 q1854 q122 q1855) rfl rfl rfl (by decide +kernel) hR
def tw_isOpen (V0 : g_V) (a1 : Int32) : Option (Int32) :=
  bnd (tw_isShaft V0 a1) (fun x_3 => if x_3 = 0 then (bnd (tw_isFrozen V0 a1) (fun x_7 => if x_7 = 0 then (some 1) else (some 0))) else (some 0))
abbrev rmX8_isOpen : Room := rm_ 2 46
set_option maxHeartbeats 4000000 in
theorem metX8_isOpen {l : Launch} {gp : Nat → Nat} {nx : Nat} {D : va_G} {K : Nat → ClassId} {al : Nat → Nat} {V0 : g_V} {L0 : g_L} {a1 : Int32} {r : Int32} (h : tw_isOpen V0 a1 = some r) : Met l yX8_isOpen (ws_ yX8_isOpen cX8_isOpen 2 (some .boolean)) rmX8_isOpen (twPc gp nx [.ref (al 0), .int a1] D K al V0 L0) (twQi r nx D K al V0 L0) 0 0 (g_A al twSh) := by
  refine g_met rfl (Nat.le_of_ble_eq_true rfl) ?_
  intro p e s m below meth c ls S hr hlk hnm hl hW
  have S : CallFix p m c cX8_isOpen 2 s ([.ref (al 0), .int a1] : List Value).toArray lw_all RX8 := S
  have hx := S.1
  have hb := S.2.1
  have hl : lv_has ls 2 [(0, .ref (al 0)), (1, .int a1)] := hl
  unfold tw_isOpen at h
  refine lv_aload_n hx hb dX8_isOpen_0 rfl (lv_at hl 0 rfl) ?_
  refine lv_iload_n hx hb dX8_isOpen_1 rfl (lv_at hl 1 rfl) ?_
  obtain ⟨x_3, h_1, h⟩ := bnd_some h
  refine g_callVi (As := [.int a1]) (rest := []) S hW (metX8_isShaft h_1) (cwX8_isShaft S.2.2.2.2 q1827 ⟨Nat.le_of_ble_eq_true rfl, Nat.le_of_ble_eq_true rfl⟩) (k := 0) rfl rfl rfl hl.1 rfl (Nat.le_of_ble_eq_true rfl) dX8_isOpen_2 ⟨Nat.le_refl _, Nat.le_refl _⟩ (fun H locs hW => ?_)
  refine lv_if_ne (tgt := 20) hx hb dX8_isOpen_5 (by decide) (fun c_4 => ?_) (fun c_4 => ?_)
  · have h := if_f h c_4
    refine lv_iconst (v := 0) hx hb dX8_isOpen_20 (by decide) ?_
    cases h
    exact g_zret S hr hlk rfl hW dX8_isOpen_21
  · have h := if_t h c_4
    refine lv_aload_n hx hb dX8_isOpen_8 rfl (lv_at hl 0 rfl) ?_
    refine lv_iload_n hx hb dX8_isOpen_9 rfl (lv_at hl 1 rfl) ?_
    obtain ⟨x_7, h_5, h⟩ := bnd_some h
    refine g_callVi (As := [.int a1]) (rest := []) S hW (metX8_isFrozen h_5) (cwX8_isFrozen S.2.2.2.2 q1789 ⟨Nat.le_of_ble_eq_true rfl, Nat.le_of_ble_eq_true rfl⟩) (k := 0) rfl rfl rfl hl.1 rfl (Nat.le_of_ble_eq_true rfl) dX8_isOpen_10 ⟨Nat.le_refl _, Nat.le_refl _⟩ (fun H locs hW => ?_)
    refine lv_if_ne (tgt := 20) hx hb dX8_isOpen_13 (by decide) (fun c_8 => ?_) (fun c_8 => ?_)
    · have h := if_f h c_8
      refine lv_iconst (v := 0) hx hb dX8_isOpen_20 (by decide) ?_
      cases h
      exact g_zret S hr hlk rfl hW dX8_isOpen_21
    · have h := if_t h c_8
      refine lv_iconst (v := 1) hx hb dX8_isOpen_16 (by decide) ?_
      refine lv_goto (tgt := 21) hx hb dX8_isOpen_17 (by decide) ?_
      cases h
      exact g_zret S hr hlk rfl hW dX8_isOpen_21
theorem cwX8_isOpen {R : Room} {s : State} {args : Array Value} {index : Nat} (hts : ∀ w ∈ lw_all, w.before args s = true) (hl : Cond.methodLink RX8 index yX8_isOpen ∈ lw_all) (hR : rmX8_isOpen.frames + 1 ≤ R.frames ∧ 8 + (2 + 11) + rmX8_isOpen.locals ≤ R.locals) : CallW R s args RX8 RX8 index yX8_isOpen cX8_isOpen 2 (some .boolean) (ws_ yX8_isOpen cX8_isOpen 2 (some .boolean)) rmX8_isOpen 0 0 1 := cwV 1 hts (lw_V hl q1899 qs94 q122 q1900) rfl rfl rfl (by decide +kernel) hR
def tw_wayTo_B2 (x0 : Int32) (x1 : Int32) (rec : Int32 → Option (Int32)) (x2 : Int32) : Option (Int32) :=
  bnd (tw_beside x0 x2) (fun x_3 => if x_3 = x1 then (some x2) else (nmI (x2 + 1) fun x_5 => rec x_5))
abbrev tw_wayTo_F2 (x0 : Int32) (x1 : Int32) : ((Int32) → Option (Int32)) → (Int32) → Option (Int32) := fun rec s => tw_wayTo_B2 x0 x1 (fun x2 => rec x2) s
def tw_wayTo_L2 (x0 : Int32) (x1 : Int32) (n : Nat) (x2 : Int32) : Option (Int32) := lp (tw_wayTo_F2 x0 x1) n x2
theorem tw_wayTo_L2_s (x0 : Int32) (x1 : Int32) (n : Nat) (x2 : Int32) : tw_wayTo_L2 x0 x1 (n + 1) x2 = tw_wayTo_B2 x0 x1 (fun x2 => tw_wayTo_L2 x0 x1 n x2) x2 := lp_s (tw_wayTo_F2 x0 x1) n x2
def tw_wayTo (a0 : Int32) (a1 : Int32) : Option (Int32) :=
  bnd (tw_wayTo_L2 a0 a1 1000 0) (fun x_9 => some x_9)
abbrev rmX8_wayTo : Room := rm_ 3 69
set_option maxHeartbeats 4000000 in
theorem metX8_wayTo {l : Launch} {gp : Nat → Nat} {nx : Nat} {D : va_G} {K : Nat → ClassId} {al : Nat → Nat} {V0 : g_V} {L0 : g_L} {a0 : Int32} {a1 : Int32} {r : Int32} (h : tw_wayTo a0 a1 = some r) : Met l yX8_wayTo (ws_ yX8_wayTo cX8_wayTo 3 (some .int)) rmX8_wayTo (twPc gp nx [.int a0, .int a1] D K al V0 L0) (twQi r nx D K al V0 L0) 0 0 (g_A al twSh) := by
  refine g_met rfl (Nat.le_of_ble_eq_true rfl) ?_
  intro p e s m below meth c ls S hr hlk hnm hl hW
  have S : CallFix p m c cX8_wayTo 3 s ([.int a0, .int a1] : List Value).toArray lw_all RX8 := S
  have hx := S.1
  have hb := S.2.1
  have hl : lv_has ls 3 [(0, .int a0), (1, .int a1)] := hl
  have Lp2 : ∀ (x0 : Int32) (x1 : Int32) (V : g_V) (L : g_L) (n : Nat) (x2 : Int32) (out : (Int32)) (H : Heap) (locs : List Loc) (ls : Array Slot), tw_wayTo_L2 x0 x1 n x2 = some out → twW gp nx D K al s V L H locs → lv_has ls 3 [(0, .int x0), (1, .int x1), (2, .int x2)] → (∀ (o2 : Int32), out = o2 → ∀ (H : Heap) (locs : List Loc) (ls : Array Slot), twW gp nx D K al s V L H locs → lv_has ls 3 [(2, .int o2)] → W p l e rmX8_wayTo s m ([.int a0, .int a1] : List Value).toArray below meth c H locs 0 0 (MQ below (twQi r nx D K al V0 L0) ([.int a0, .int a1] : List Value).toArray s 0 0 (g_A al twSh)) (F0 m 17 ls [])) → W p l e rmX8_wayTo s m ([.int a0, .int a1] : List Value).toArray below meth c H locs 0 0 (MQ below (twQi r nx D K al V0 L0) ([.int a0, .int a1] : List Value).toArray s 0 0 (g_A al twSh)) (F0 m 2 ls []) := by
    intro x0 x1 V L n
    induction n with
    | zero =>
      intro x2 out H locs ls h
      exact (lp_0 h).elim
    | succ n ih =>
      intro x2 out H locs ls h hW hl k1
      rw [tw_wayTo_L2_s] at h
      unfold tw_wayTo_B2 at h
      refine lv_iload_n hx hb dX8_wayTo_2 rfl (lv_at hl 0 rfl) ?_
      refine lv_iload_n hx hb dX8_wayTo_3 rfl (lv_at hl 2 rfl) ?_
      obtain ⟨x_3, h_1, h⟩ := bnd_some h
      refine g_callSi (As := [.int x0, .int x2]) (rest := []) S hW (metX8_beside h_1) (cwX8_beside S.2.2.2.2 q1779 ⟨Nat.le_of_ble_eq_true rfl, Nat.le_of_ble_eq_true rfl⟩) rfl hl.1 rfl (Nat.le_of_ble_eq_true rfl) dX8_wayTo_4 ⟨Nat.le_refl _, Nat.le_refl _⟩ (fun H locs hW => ?_)
      refine lv_iload_n hx hb dX8_wayTo_7 rfl (lv_at hl 1 rfl) ?_
      refine lv_icmp_eq (tgt := 17) hx hb dX8_wayTo_8 (by decide) (fun c_4 => ?_) (fun c_4 => ?_)
      · have h := if_t h c_4
        exact k1 _ (Option.some.inj h).symm _ _ _ hW (lv_sub hl [2] rfl)
      · have h := if_f h c_4
        obtain ⟨x_5, e_6, h⟩ := nmI_some h
        refine lv_iinc (v := x_5) (lv' := [(2, .int x_5), (0, .int x0), (1, .int x1)]) hx hb dX8_wayTo_11 hl (k := 2) rfl (by rw [e_6]; rfl) (by decide) rfl (fun ls hl => ?_)
        refine lv_goto (tgt := 2) hx hb dX8_wayTo_14 (by decide) ?_
        exact ih x_5 out _ _ _ h hW (lv_sub hl [1, 2, 0] rfl) k1
  unfold tw_wayTo at h
  refine lv_iconst (v := 0) hx hb dX8_wayTo_0 (by decide) ?_
  refine lv_istore_n (lv' := [(2, .int 0), (0, .int a0), (1, .int a1)]) hx hb dX8_wayTo_1 rfl hl (by decide) rfl (fun ls hl => ?_)
  obtain ⟨x_9, h_8, h⟩ := bnd_some h
  refine Lp2 a0 a1 V0 L0 1000 0  _ _ _ _ h_8 hW (lv_sub hl [1, 2, 0] rfl) ?_
  intro w0 eo H locs ls hW hl
  subst eo
  refine lv_iload_n hx hb dX8_wayTo_17 rfl (lv_at hl 0 rfl) ?_
  cases h
  exact g_iret S hr hlk hW dX8_wayTo_18
theorem cwX8_wayTo {R : Room} {s : State} {args : Array Value} {index : Nat} (hts : ∀ w ∈ lw_all, w.before args s = true) (hl : Cond.methodLink RX8 index yX8_wayTo ∈ lw_all) (hR : rmX8_wayTo.frames + 1 ≤ R.frames ∧ 8 + (3 + 11) + rmX8_wayTo.locals ≤ R.locals) : CallB R s args RX8 index yX8_wayTo cX8_wayTo 3 (some .int) (ws_ yX8_wayTo cX8_wayTo 3 (some .int)) rmX8_wayTo 0 0 2 ∧ (Cond.static yX8_wayTo).before args s = true := va_cwS 2 hts (lw_S hl q1910 q122 q1911) rfl rfl rfl (by decide +kernel) hR
def tw_frost_B18 (x1 : Int32) (V : g_V) (rec : Int32 → Int32 → Option (Int32)) (x2 : Int32) (x3 : Int32) : Option (Int32) :=
  if 12 ≤ x3 then (some x2) else (bnd (tw_isFrozen V ((12 * x1) + x3)) (fun x_8 => if x_8 = 0 then (nmI (x2 ||| 0) fun x_10 => nmI (x3 + 1) fun x_12 => rec x_10 x_12) else (nmI (x2 ||| ((1 : Int32) <<< (x3 &&& 31))) fun x_14 => nmI (x3 + 1) fun x_16 => rec x_14 x_16)))
abbrev tw_frost_F18 (x1 : Int32) (V : g_V) : ((Int32 × Int32) → Option (Int32)) → (Int32 × Int32) → Option (Int32) := fun rec s => tw_frost_B18 x1 V (fun x2 x3 => rec (x2, x3)) s.1 s.2
def tw_frost_L18 (x1 : Int32) (V : g_V) (n : Nat) (x2 : Int32) (x3 : Int32) : Option (Int32) := lp (tw_frost_F18 x1 V) n (x2, x3)
theorem tw_frost_L18_s (x1 : Int32) (V : g_V) (n : Nat) (x2 : Int32) (x3 : Int32) : tw_frost_L18 x1 V (n + 1) x2 x3 = tw_frost_B18 x1 V (fun x2 x3 => tw_frost_L18 x1 V n x2 x3) x2 x3 := lp_s (tw_frost_F18 x1 V) n (x2, x3)
def tw_frost (V0 : g_V) (a1 : Int32) : Option (Int32) :=
  bnd (tw_in a1.toInt64 0 11) (fun x_3 => if x_3 = 0 then (some (-1)) else (bnd (tw_frost_L18 a1 V0 1000 0 0) (fun x_20 => some x_20)))
abbrev rmX8_frost : Room := rm_ 2 43
set_option maxHeartbeats 4000000 in
theorem metX8_frost {l : Launch} {gp : Nat → Nat} {nx : Nat} {D : va_G} {K : Nat → ClassId} {al : Nat → Nat} {V0 : g_V} {L0 : g_L} {a1 : Int32} {r : Int32} (h : tw_frost V0 a1 = some r) : Met l yX8_frost (ws_ yX8_frost cX8_frost 4 (some .int)) rmX8_frost (twPc gp nx [.ref (al 0), .int a1] D K al V0 L0) (twQi r nx D K al V0 L0) 0 0 (g_A al twSh) := by
  refine g_met rfl (Nat.le_of_ble_eq_true rfl) ?_
  intro p e s m below meth c ls S hr hlk hnm hl hW
  have S : CallFix p m c cX8_frost 4 s ([.ref (al 0), .int a1] : List Value).toArray lw_all RX8 := S
  have hx := S.1
  have hb := S.2.1
  have hl : lv_has ls 4 [(0, .ref (al 0)), (1, .int a1)] := hl
  have Lp18 : ∀ (x1 : Int32) (V : g_V) (L : g_L) (n : Nat) (x2 : Int32) (x3 : Int32) (out : (Int32)) (H : Heap) (locs : List Loc) (ls : Array Slot), tw_frost_L18 x1 V n x2 x3 = some out → twW gp nx D K al s V L H locs → lv_has ls 4 [(0, .ref (al 0)), (1, .int x1), (2, .int x2), (3, .int x3)] → (∀ (o2 : Int32), out = o2 → ∀ (H : Heap) (locs : List Loc) (ls : Array Slot), twW gp nx D K al s V L H locs → lv_has ls 4 [(2, .int o2)] → W p l e rmX8_frost s m ([.ref (al 0), .int a1] : List Value).toArray below meth c H locs 0 0 (MQ below (twQi r nx D K al V0 L0) ([.ref (al 0), .int a1] : List Value).toArray s 0 0 (g_A al twSh)) (F0 m 53 ls [])) → W p l e rmX8_frost s m ([.ref (al 0), .int a1] : List Value).toArray below meth c H locs 0 0 (MQ below (twQi r nx D K al V0 L0) ([.ref (al 0), .int a1] : List Value).toArray s 0 0 (g_A al twSh)) (F0 m 18 ls []) := by
    intro x1 V L n
    induction n with
    | zero =>
      intro x2 x3 out H locs ls h
      exact (lp_0 h).elim
    | succ n ih =>
      intro x2 x3 out H locs ls h hW hl k1
      rw [tw_frost_L18_s] at h
      unfold tw_frost_B18 at h
      refine lv_iload_n hx hb dX8_frost_18 rfl (lv_at hl 3 rfl) ?_
      refine lv_bipush (v := 12) hx hb dX8_frost_19 (by decide) ?_
      refine lv_icmp_ge (tgt := 53) hx hb dX8_frost_21 (by decide) (fun c_5 => ?_) (fun c_5 => ?_)
      · have h := if_t h c_5
        exact k1 _ (Option.some.inj h).symm _ _ _ hW (lv_sub hl [2] rfl)
      · have h := if_f h c_5
        refine lv_iload_n hx hb dX8_frost_24 rfl (lv_at hl 2 rfl) ?_
        refine lv_aload_n hx hb dX8_frost_25 rfl (lv_at hl 0 rfl) ?_
        refine lv_bipush (v := 12) hx hb dX8_frost_26 (by decide) ?_
        refine lv_iload_n hx hb dX8_frost_28 rfl (lv_at hl 1 rfl) ?_
        refine lv_imul hx hb dX8_frost_29 ?_
        refine lv_iload_n hx hb dX8_frost_30 rfl (lv_at hl 3 rfl) ?_
        refine lv_iadd hx hb dX8_frost_31 ?_
        obtain ⟨x_8, h_6, h⟩ := bnd_some h
        refine g_callVi (As := [.int ((12 * x1) + x3)]) (rest := [.int x2]) S hW (metX8_isFrozen h_6) (cwX8_isFrozen S.2.2.2.2 q1789 ⟨Nat.le_of_ble_eq_true rfl, Nat.le_of_ble_eq_true rfl⟩) (k := 0) rfl rfl rfl hl.1 rfl (Nat.le_of_ble_eq_true rfl) dX8_frost_32 ⟨Nat.le_refl _, Nat.le_refl _⟩ (fun H locs hW => ?_)
        refine lv_if_eq (tgt := 44) hx hb dX8_frost_35 (by decide) (fun c_9 => ?_) (fun c_9 => ?_)
        · have h := if_t h c_9
          refine lv_iconst (v := 0) hx hb dX8_frost_44 (by decide) ?_
          refine lv_ior hx hb dX8_frost_45 ?_
          obtain ⟨x_10, e_11, h⟩ := nmI_some h
          refine g_nmi e_11 ?_
          refine lv_istore_n (lv' := [(2, .int x_10), (0, .ref (al 0)), (1, .int x1), (3, .int x3)]) hx hb dX8_frost_46 rfl hl (by decide) rfl (fun ls hl => ?_)
          obtain ⟨x_12, e_13, h⟩ := nmI_some h
          refine lv_iinc (v := x_12) (lv' := [(3, .int x_12), (2, .int x_10), (0, .ref (al 0)), (1, .int x1)]) hx hb dX8_frost_47 hl (k := 3) rfl (by rw [e_13]; rfl) (by decide) rfl (fun ls hl => ?_)
          refine lv_goto (tgt := 18) hx hb dX8_frost_50 (by decide) ?_
          exact ih x_10 x_12 out _ _ _ h hW (lv_sub hl [2, 3, 1, 0] rfl) k1
        · have h := if_f h c_9
          refine lv_iconst (v := 1) hx hb dX8_frost_38 (by decide) ?_
          refine lv_iload_n hx hb dX8_frost_39 rfl (lv_at hl 3 rfl) ?_
          refine lv_ishl hx hb dX8_frost_40 ?_
          refine lv_goto (tgt := 45) hx hb dX8_frost_41 (by decide) ?_
          refine lv_ior hx hb dX8_frost_45 ?_
          obtain ⟨x_14, e_15, h⟩ := nmI_some h
          refine g_nmi e_15 ?_
          refine lv_istore_n (lv' := [(2, .int x_14), (0, .ref (al 0)), (1, .int x1), (3, .int x3)]) hx hb dX8_frost_46 rfl hl (by decide) rfl (fun ls hl => ?_)
          obtain ⟨x_16, e_17, h⟩ := nmI_some h
          refine lv_iinc (v := x_16) (lv' := [(3, .int x_16), (2, .int x_14), (0, .ref (al 0)), (1, .int x1)]) hx hb dX8_frost_47 hl (k := 3) rfl (by rw [e_17]; rfl) (by decide) rfl (fun ls hl => ?_)
          refine lv_goto (tgt := 18) hx hb dX8_frost_50 (by decide) ?_
          exact ih x_14 x_16 out _ _ _ h hW (lv_sub hl [2, 3, 1, 0] rfl) k1
  unfold tw_frost at h
  refine lv_iload_n hx hb dX8_frost_0 rfl (lv_at hl 1 rfl) ?_
  refine lv_i2l (v := a1.toInt64) hx hb dX8_frost_1 rfl ?_
  refine lv_lconst (v := 0) hx hb dX8_frost_2 (by decide) ?_
  refine lv_ldc2 (v := 11) hx hb S.2.2.2.1 (S.2.2.2.2 _ q1731) dX8_frost_3 ?_
  obtain ⟨x_3, h_1, h⟩ := bnd_some h
  refine g_callSi (As := [.long a1.toInt64, .long 0, .long 11]) (rest := []) S hW (metX8_in h_1) (cwX8_in S.2.2.2.2 q1625 ⟨Nat.le_of_ble_eq_true rfl, Nat.le_of_ble_eq_true rfl⟩) rfl hl.1 rfl (Nat.le_of_ble_eq_true rfl) dX8_frost_6 ⟨Nat.le_refl _, Nat.le_refl _⟩ (fun H locs hW => ?_)
  refine lv_if_ne (tgt := 14) hx hb dX8_frost_9 (by decide) (fun c_4 => ?_) (fun c_4 => ?_)
  · have h := if_f h c_4
    refine lv_iconst (v := 0) hx hb dX8_frost_14 (by decide) ?_
    refine lv_istore_n (lv' := [(2, .int 0), (0, .ref (al 0)), (1, .int a1)]) hx hb dX8_frost_15 rfl hl (by decide) rfl (fun ls hl => ?_)
    refine lv_iconst (v := 0) hx hb dX8_frost_16 (by decide) ?_
    refine lv_istore_n (lv' := [(3, .int 0), (2, .int 0), (0, .ref (al 0)), (1, .int a1)]) hx hb dX8_frost_17 rfl hl (by decide) rfl (fun ls hl => ?_)
    obtain ⟨x_20, h_19, h⟩ := bnd_some h
    refine Lp18 a1 V0 L0 1000 0 0  _ _ _ _ h_19 hW (lv_sub hl [2, 3, 1, 0] rfl) ?_
    intro w0 eo H locs ls hW hl
    subst eo
    refine lv_iload_n hx hb dX8_frost_53 rfl (lv_at hl 0 rfl) ?_
    cases h
    exact g_iret S hr hlk hW dX8_frost_54
  · have h := if_t h c_4
    refine lv_iconst (v := (-1)) hx hb dX8_frost_12 (by decide) ?_
    cases h
    exact g_iret S hr hlk hW dX8_frost_13
theorem cwX8_frost {R : Room} {s : State} {args : Array Value} {index : Nat} (hts : ∀ w ∈ lw_all, w.before args s = true) (hl : Cond.methodLink RX8 index yX8_frost ∈ lw_all) (hR : rmX8_frost.frames + 1 ≤ R.frames ∧ 8 + (4 + 11) + rmX8_frost.locals ≤ R.locals) : CallW R s args RX8 RX8 index yX8_frost cX8_frost 4 (some .int) (ws_ yX8_frost cX8_frost 4 (some .int)) rmX8_frost 0 0 1 := cwV 1 hts (lw_V hl q2013 q2014 q122 q2015) rfl rfl rfl (by decide +kernel) hR
def tw_count_B91 (x1 : Int32) (V : g_V) (rec : Int32 → Int32 → Option (Int32)) (x2 : Int32) (x3 : Int32) : Option (Int32) :=
  if 144 ≤ x3 then (some x2) else (if x1 = 3 then (bnd (tw_isFrozen V x3) (fun x_30 => if x_30 = 0 then (nmI (x2 + 0) fun x_32 => nmI (x3 + 1) fun x_34 => rec x_32 x_34) else (nmI (x2 + 1) fun x_36 => nmI (x3 + 1) fun x_38 => rec x_36 x_38))) else (bnd (tw_isDug V x3) (fun x_18 => if x_18 = 0 then (nmI (x2 + 0) fun x_20 => nmI (x3 + 1) fun x_22 => rec x_20 x_22) else (nmI (x2 + 1) fun x_24 => nmI (x3 + 1) fun x_26 => rec x_24 x_26))))
abbrev tw_count_F91 (x1 : Int32) (V : g_V) : ((Int32 × Int32) → Option (Int32)) → (Int32 × Int32) → Option (Int32) := fun rec s => tw_count_B91 x1 V (fun x2 x3 => rec (x2, x3)) s.1 s.2
def tw_count_L91 (x1 : Int32) (V : g_V) (n : Nat) (x2 : Int32) (x3 : Int32) : Option (Int32) := lp (tw_count_F91 x1 V) n (x2, x3)
theorem tw_count_L91_s (x1 : Int32) (V : g_V) (n : Nat) (x2 : Int32) (x3 : Int32) : tw_count_L91 x1 V (n + 1) x2 x3 = tw_count_B91 x1 V (fun x2 x3 => tw_count_L91 x1 V n x2 x3) x2 x3 := lp_s (tw_count_F91 x1 V) n (x2, x3)
def tw_count_B175 (V : g_V) (rec : Int32 → Int32 → Option (Int32)) (x2 : Int32) (x3 : Int32) : Option (Int32) :=
  if 4 ≤ x3 then (some x2) else (rdI (V 36) 4 x3 fun x_66 => if x_66 = (-1) then (nmI (x2 + 0) fun x_74 => nmI (x3 + 1) fun x_76 => rec x_74 x_76) else (nmI (x2 + 1) fun x_70 => nmI (x3 + 1) fun x_72 => rec x_70 x_72))
abbrev tw_count_F175 (V : g_V) : ((Int32 × Int32) → Option (Int32)) → (Int32 × Int32) → Option (Int32) := fun rec s => tw_count_B175 V (fun x2 x3 => rec (x2, x3)) s.1 s.2
def tw_count_L175 (V : g_V) (n : Nat) (x2 : Int32) (x3 : Int32) : Option (Int32) := lp (tw_count_F175 V) n (x2, x3)
theorem tw_count_L175_s (V : g_V) (n : Nat) (x2 : Int32) (x3 : Int32) : tw_count_L175 V (n + 1) x2 x3 = tw_count_B175 V (fun x2 x3 => tw_count_L175 V n x2 x3) x2 x3 := lp_s (tw_count_F175 V) n (x2, x3)
def tw_count (V0 : g_V) (a1 : Int32) : Option (Int32) :=
  if a1 = 0 then (rdI (V0 1) 810 0 fun x_2 => some x_2) else (if a1 = 1 then (rdI (V0 1) 810 1 fun x_6 => some x_6) else (if a1 = 2 then (rdI (V0 1) 810 2 fun x_10 => some x_10) else (if a1 = 3 then (bnd (tw_count_L91 a1 V0 1000 0 0) (fun x_42 => some x_42)) else (if a1 = 4 then (bnd (tw_count_L91 a1 V0 1000 0 0) (fun x_46 => some x_46)) else (if a1 = 5 then (rdI (V0 1) 810 4 fun x_48 => some x_48) else (if a1 = 6 then (some (V0 0 6)) else (if a1 = 7 then (rdI (V0 1) 810 3 fun x_53 => some x_53) else (if a1 = 8 then (rdI (V0 1) 810 12 fun x_57 => some x_57) else (if a1 = 9 then (rdI (V0 1) 810 6 fun x_61 => some x_61) else (if a1 = 10 then (bnd (tw_count_L175 V0 1000 0 0) (fun x_80 => some x_80)) else (if a1 = 11 then (rdI (V0 1) 810 5 fun x_82 => some x_82) else (if a1 = 12 then (rdI (V0 1) 810 13 fun x_86 => some x_86) else (some (-1))))))))))))))
abbrev rmX8_count : Room := rm_ 2 43
set_option maxHeartbeats 4000000 in
theorem metX8_count {l : Launch} {gp : Nat → Nat} {nx : Nat} {D : va_G} {K : Nat → ClassId} {al : Nat → Nat} {V0 : g_V} {L0 : g_L} {a1 : Int32} {r : Int32} (h : tw_count V0 a1 = some r) : Met l yX8_count (ws_ yX8_count cX8_count 4 (some .int)) rmX8_count (twPc gp nx [.ref (al 0), .int a1] D K al V0 L0) (twQi r nx D K al V0 L0) 0 0 (g_A al twSh) := by
  refine g_met rfl (Nat.le_of_ble_eq_true rfl) ?_
  intro p e s m below meth c ls S hr hlk hnm hl hW
  have S : CallFix p m c cX8_count 4 s ([.ref (al 0), .int a1] : List Value).toArray lw_all RX8 := S
  have hx := S.1
  have hb := S.2.1
  have hl : lv_has ls 4 [(0, .ref (al 0)), (1, .int a1)] := hl
  have Lp91 : ∀ (x1 : Int32) (V : g_V) (L : g_L) (n : Nat) (x2 : Int32) (x3 : Int32) (out : (Int32)) (H : Heap) (locs : List Loc) (ls : Array Slot), tw_count_L91 x1 V n x2 x3 = some out → twW gp nx D K al s V L H locs → lv_has ls 4 [(0, .ref (al 0)), (1, .int x1), (2, .int x2), (3, .int x3)] → (∀ (o2 : Int32), out = o2 → ∀ (H : Heap) (locs : List Loc) (ls : Array Slot), twW gp nx D K al s V L H locs → lv_has ls 4 [(2, .int o2)] → W p l e rmX8_count s m ([.ref (al 0), .int a1] : List Value).toArray below meth c H locs 0 0 (MQ below (twQi r nx D K al V0 L0) ([.ref (al 0), .int a1] : List Value).toArray s 0 0 (g_A al twSh)) (F0 m 136 ls [])) → W p l e rmX8_count s m ([.ref (al 0), .int a1] : List Value).toArray below meth c H locs 0 0 (MQ below (twQi r nx D K al V0 L0) ([.ref (al 0), .int a1] : List Value).toArray s 0 0 (g_A al twSh)) (F0 m 91 ls []) := by
    intro x1 V L n
    induction n with
    | zero =>
      intro x2 x3 out H locs ls h
      exact (lp_0 h).elim
    | succ n ih =>
      intro x2 x3 out H locs ls h hW hl k1
      rw [tw_count_L91_s] at h
      unfold tw_count_B91 at h
      refine lv_iload_n hx hb dX8_count_91 rfl (lv_at hl 3 rfl) ?_
      refine lv_sipush (v := 144) hx hb dX8_count_92 (by decide) ?_
      refine lv_icmp_ge (tgt := 136) hx hb dX8_count_95 (by decide) (fun c_14 => ?_) (fun c_14 => ?_)
      · have h := if_t h c_14
        exact k1 _ (Option.some.inj h).symm _ _ _ hW (lv_sub hl [2] rfl)
      · have h := if_f h c_14
        refine lv_iload_n hx hb dX8_count_98 rfl (lv_at hl 2 rfl) ?_
        refine lv_iload_n hx hb dX8_count_99 rfl (lv_at hl 1 rfl) ?_
        refine lv_iconst (v := 3) hx hb dX8_count_100 (by decide) ?_
        refine lv_icmp_ne (tgt := 115) hx hb dX8_count_101 (by decide) (fun c_15 => ?_) (fun c_15 => ?_)
        · have h := if_f h c_15
          refine lv_aload_n hx hb dX8_count_115 rfl (lv_at hl 0 rfl) ?_
          refine lv_iload_n hx hb dX8_count_116 rfl (lv_at hl 3 rfl) ?_
          obtain ⟨x_18, h_16, h⟩ := bnd_some h
          refine g_callVi (As := [.int x3]) (rest := [.int x2]) S hW (metX8_isDug h_16) (cwX8_isDug S.2.2.2.2 q1771 ⟨Nat.le_of_ble_eq_true rfl, Nat.le_of_ble_eq_true rfl⟩) (k := 0) rfl rfl rfl hl.1 rfl (Nat.le_of_ble_eq_true rfl) dX8_count_117 ⟨Nat.le_refl _, Nat.le_refl _⟩ (fun H locs hW => ?_)
          refine lv_if_eq (tgt := 127) hx hb dX8_count_120 (by decide) (fun c_19 => ?_) (fun c_19 => ?_)
          · have h := if_t h c_19
            refine lv_iconst (v := 0) hx hb dX8_count_127 (by decide) ?_
            refine lv_iadd hx hb dX8_count_128 ?_
            obtain ⟨x_20, e_21, h⟩ := nmI_some h
            refine g_nmi e_21 ?_
            refine lv_istore_n (lv' := [(2, .int x_20), (0, .ref (al 0)), (1, .int x1), (3, .int x3)]) hx hb dX8_count_129 rfl hl (by decide) rfl (fun ls hl => ?_)
            obtain ⟨x_22, e_23, h⟩ := nmI_some h
            refine lv_iinc (v := x_22) (lv' := [(3, .int x_22), (2, .int x_20), (0, .ref (al 0)), (1, .int x1)]) hx hb dX8_count_130 hl (k := 3) rfl (by rw [e_23]; rfl) (by decide) rfl (fun ls hl => ?_)
            refine lv_goto (tgt := 91) hx hb dX8_count_133 (by decide) ?_
            exact ih x_20 x_22 out _ _ _ h hW (lv_sub hl [2, 3, 1, 0] rfl) k1
          · have h := if_f h c_19
            refine lv_iconst (v := 1) hx hb dX8_count_123 (by decide) ?_
            refine lv_goto (tgt := 128) hx hb dX8_count_124 (by decide) ?_
            refine lv_iadd hx hb dX8_count_128 ?_
            obtain ⟨x_24, e_25, h⟩ := nmI_some h
            refine g_nmi e_25 ?_
            refine lv_istore_n (lv' := [(2, .int x_24), (0, .ref (al 0)), (1, .int x1), (3, .int x3)]) hx hb dX8_count_129 rfl hl (by decide) rfl (fun ls hl => ?_)
            obtain ⟨x_26, e_27, h⟩ := nmI_some h
            refine lv_iinc (v := x_26) (lv' := [(3, .int x_26), (2, .int x_24), (0, .ref (al 0)), (1, .int x1)]) hx hb dX8_count_130 hl (k := 3) rfl (by rw [e_27]; rfl) (by decide) rfl (fun ls hl => ?_)
            refine lv_goto (tgt := 91) hx hb dX8_count_133 (by decide) ?_
            exact ih x_24 x_26 out _ _ _ h hW (lv_sub hl [2, 3, 1, 0] rfl) k1
        · have h := if_t h c_15
          refine lv_aload_n hx hb dX8_count_104 rfl (lv_at hl 0 rfl) ?_
          refine lv_iload_n hx hb dX8_count_105 rfl (lv_at hl 3 rfl) ?_
          obtain ⟨x_30, h_28, h⟩ := bnd_some h
          refine g_callVi (As := [.int x3]) (rest := [.int x2]) S hW (metX8_isFrozen h_28) (cwX8_isFrozen S.2.2.2.2 q1789 ⟨Nat.le_of_ble_eq_true rfl, Nat.le_of_ble_eq_true rfl⟩) (k := 0) rfl rfl rfl hl.1 rfl (Nat.le_of_ble_eq_true rfl) dX8_count_106 ⟨Nat.le_refl _, Nat.le_refl _⟩ (fun H locs hW => ?_)
          refine lv_if_eq (tgt := 127) hx hb dX8_count_109 (by decide) (fun c_31 => ?_) (fun c_31 => ?_)
          · have h := if_t h c_31
            refine lv_iconst (v := 0) hx hb dX8_count_127 (by decide) ?_
            refine lv_iadd hx hb dX8_count_128 ?_
            obtain ⟨x_32, e_33, h⟩ := nmI_some h
            refine g_nmi e_33 ?_
            refine lv_istore_n (lv' := [(2, .int x_32), (0, .ref (al 0)), (1, .int x1), (3, .int x3)]) hx hb dX8_count_129 rfl hl (by decide) rfl (fun ls hl => ?_)
            obtain ⟨x_34, e_35, h⟩ := nmI_some h
            refine lv_iinc (v := x_34) (lv' := [(3, .int x_34), (2, .int x_32), (0, .ref (al 0)), (1, .int x1)]) hx hb dX8_count_130 hl (k := 3) rfl (by rw [e_35]; rfl) (by decide) rfl (fun ls hl => ?_)
            refine lv_goto (tgt := 91) hx hb dX8_count_133 (by decide) ?_
            exact ih x_32 x_34 out _ _ _ h hW (lv_sub hl [2, 3, 1, 0] rfl) k1
          · have h := if_f h c_31
            refine lv_goto (tgt := 123) hx hb dX8_count_112 (by decide) ?_
            refine lv_iconst (v := 1) hx hb dX8_count_123 (by decide) ?_
            refine lv_goto (tgt := 128) hx hb dX8_count_124 (by decide) ?_
            refine lv_iadd hx hb dX8_count_128 ?_
            obtain ⟨x_36, e_37, h⟩ := nmI_some h
            refine g_nmi e_37 ?_
            refine lv_istore_n (lv' := [(2, .int x_36), (0, .ref (al 0)), (1, .int x1), (3, .int x3)]) hx hb dX8_count_129 rfl hl (by decide) rfl (fun ls hl => ?_)
            obtain ⟨x_38, e_39, h⟩ := nmI_some h
            refine lv_iinc (v := x_38) (lv' := [(3, .int x_38), (2, .int x_36), (0, .ref (al 0)), (1, .int x1)]) hx hb dX8_count_130 hl (k := 3) rfl (by rw [e_39]; rfl) (by decide) rfl (fun ls hl => ?_)
            refine lv_goto (tgt := 91) hx hb dX8_count_133 (by decide) ?_
            exact ih x_36 x_38 out _ _ _ h hW (lv_sub hl [2, 3, 1, 0] rfl) k1
  have Lp175 : ∀ (V : g_V) (L : g_L) (n : Nat) (x2 : Int32) (x3 : Int32) (out : (Int32)) (H : Heap) (locs : List Loc) (ls : Array Slot), tw_count_L175 V n x2 x3 = some out → twW gp nx D K al s V L H locs → lv_has ls 4 [(0, .ref (al 0)), (2, .int x2), (3, .int x3)] → (∀ (o2 : Int32), out = o2 → ∀ (H : Heap) (locs : List Loc) (ls : Array Slot), twW gp nx D K al s V L H locs → lv_has ls 4 [(2, .int o2)] → W p l e rmX8_count s m ([.ref (al 0), .int a1] : List Value).toArray below meth c H locs 0 0 (MQ below (twQi r nx D K al V0 L0) ([.ref (al 0), .int a1] : List Value).toArray s 0 0 (g_A al twSh)) (F0 m 204 ls [])) → W p l e rmX8_count s m ([.ref (al 0), .int a1] : List Value).toArray below meth c H locs 0 0 (MQ below (twQi r nx D K al V0 L0) ([.ref (al 0), .int a1] : List Value).toArray s 0 0 (g_A al twSh)) (F0 m 175 ls []) := by
    intro V L n
    induction n with
    | zero =>
      intro x2 x3 out H locs ls h
      exact (lp_0 h).elim
    | succ n ih =>
      intro x2 x3 out H locs ls h hW hl k1
      rw [tw_count_L175_s] at h
      unfold tw_count_B175 at h
      refine lv_iload_n hx hb dX8_count_175 rfl (lv_at hl 2 rfl) ?_
      refine lv_iconst (v := 4) hx hb dX8_count_176 (by decide) ?_
      refine lv_icmp_ge (tgt := 204) hx hb dX8_count_177 (by decide) (fun c_65 => ?_) (fun c_65 => ?_)
      · have h := if_t h c_65
        exact k1 _ (Option.some.inj h).symm _ _ _ hW (lv_sub hl [1] rfl)
      · have h := if_f h c_65
        refine lv_iload_n hx hb dX8_count_180 rfl (lv_at hl 1 rfl) ?_
        refine lv_aload_n hx hb dX8_count_181 rfl (lv_at hl 0 rfl) ?_
        refine tw_ref S hW 36 36 (by decide) rfl q1535 rfl dX8_count_182 ?_
        refine lv_iload_n hx hb dX8_count_185 rfl (lv_at hl 2 rfl) ?_
        obtain ⟨h_67, x_66, e_68, h⟩ := rdI_some h
        refine g_iald S hW (k := 36) rfl rfl h_67 e_68 dX8_count_186 ?_
        refine lv_iconst (v := (-1)) hx hb dX8_count_187 (by decide) ?_
        refine lv_icmp_ne (tgt := 195) hx hb dX8_count_188 (by decide) (fun c_69 => ?_) (fun c_69 => ?_)
        · have h := if_f h c_69
          refine lv_iconst (v := 1) hx hb dX8_count_195 (by decide) ?_
          refine lv_iadd hx hb dX8_count_196 ?_
          obtain ⟨x_70, e_71, h⟩ := nmI_some h
          refine g_nmi e_71 ?_
          refine lv_istore_n (lv' := [(2, .int x_70), (0, .ref (al 0)), (3, .int x3)]) hx hb dX8_count_197 rfl hl (by decide) rfl (fun ls hl => ?_)
          obtain ⟨x_72, e_73, h⟩ := nmI_some h
          refine lv_iinc (v := x_72) (lv' := [(3, .int x_72), (2, .int x_70), (0, .ref (al 0))]) hx hb dX8_count_198 hl (k := 2) rfl (by rw [e_73]; rfl) (by decide) rfl (fun ls hl => ?_)
          refine lv_goto (tgt := 175) hx hb dX8_count_201 (by decide) ?_
          exact ih x_70 x_72 out _ _ _ h hW (lv_sub hl [2, 1, 0] rfl) k1
        · have h := if_t h c_69
          refine lv_iconst (v := 0) hx hb dX8_count_191 (by decide) ?_
          refine lv_goto (tgt := 196) hx hb dX8_count_192 (by decide) ?_
          refine lv_iadd hx hb dX8_count_196 ?_
          obtain ⟨x_74, e_75, h⟩ := nmI_some h
          refine g_nmi e_75 ?_
          refine lv_istore_n (lv' := [(2, .int x_74), (0, .ref (al 0)), (3, .int x3)]) hx hb dX8_count_197 rfl hl (by decide) rfl (fun ls hl => ?_)
          obtain ⟨x_76, e_77, h⟩ := nmI_some h
          refine lv_iinc (v := x_76) (lv' := [(3, .int x_76), (2, .int x_74), (0, .ref (al 0))]) hx hb dX8_count_198 hl (k := 2) rfl (by rw [e_77]; rfl) (by decide) rfl (fun ls hl => ?_)
          refine lv_goto (tgt := 175) hx hb dX8_count_201 (by decide) ?_
          exact ih x_74 x_76 out _ _ _ h hW (lv_sub hl [2, 1, 0] rfl) k1
  unfold tw_count at h
  refine lv_iconst (v := 0) hx hb dX8_count_0 (by decide) ?_
  refine lv_istore_n (lv' := [(2, .int 0), (0, .ref (al 0)), (1, .int a1)]) hx hb dX8_count_1 rfl hl (by decide) rfl (fun ls hl => ?_)
  refine lv_iload_n hx hb dX8_count_2 rfl (lv_at hl 2 rfl) ?_
  by_cases c_1 : a1 = 0
  · have h := if_t h c_1
    refine lv_tableIn (off := 65) (tgt := 68) hx hb dX8_count_3 (by rw [c_1]; decide) (by rw [c_1]; decide) (by rw [c_1]; decide) (by decide) ?_
    refine lv_aload_n hx hb dX8_count_68 rfl (lv_at hl 1 rfl) ?_
    refine tw_ref S hW 1 1 (by decide) rfl q1500 rfl dX8_count_69 ?_
    refine lv_iconst (v := 0) hx hb dX8_count_72 (by decide) ?_
    obtain ⟨h_3, x_2, e_4, h⟩ := rdI_some h
    refine g_iald S hW (k := 1) rfl rfl h_3 e_4 dX8_count_73 ?_
    cases h
    exact g_iret S hr hlk hW dX8_count_74
  have h := if_f h c_1
  by_cases c_5 : a1 = 1
  · have h := if_t h c_5
    refine lv_tableIn (off := 72) (tgt := 75) hx hb dX8_count_3 (by rw [c_5]; decide) (by rw [c_5]; decide) (by rw [c_5]; decide) (by decide) ?_
    refine lv_aload_n hx hb dX8_count_75 rfl (lv_at hl 1 rfl) ?_
    refine tw_ref S hW 1 1 (by decide) rfl q1500 rfl dX8_count_76 ?_
    refine lv_iconst (v := 1) hx hb dX8_count_79 (by decide) ?_
    obtain ⟨h_7, x_6, e_8, h⟩ := rdI_some h
    refine g_iald S hW (k := 1) rfl rfl h_7 e_8 dX8_count_80 ?_
    cases h
    exact g_iret S hr hlk hW dX8_count_81
  have h := if_f h c_5
  by_cases c_9 : a1 = 2
  · have h := if_t h c_9
    refine lv_tableIn (off := 79) (tgt := 82) hx hb dX8_count_3 (by rw [c_9]; decide) (by rw [c_9]; decide) (by rw [c_9]; decide) (by decide) ?_
    refine lv_aload_n hx hb dX8_count_82 rfl (lv_at hl 1 rfl) ?_
    refine tw_ref S hW 1 1 (by decide) rfl q1500 rfl dX8_count_83 ?_
    refine lv_iconst (v := 2) hx hb dX8_count_86 (by decide) ?_
    obtain ⟨h_11, x_10, e_12, h⟩ := rdI_some h
    refine g_iald S hW (k := 1) rfl rfl h_11 e_12 dX8_count_87 ?_
    cases h
    exact g_iret S hr hlk hW dX8_count_88
  have h := if_f h c_9
  by_cases c_13 : a1 = 3
  · have h := if_t h c_13
    refine lv_tableIn (off := 86) (tgt := 89) hx hb dX8_count_3 (by rw [c_13]; decide) (by rw [c_13]; decide) (by rw [c_13]; decide) (by decide) ?_
    refine lv_iconst (v := 0) hx hb dX8_count_89 (by decide) ?_
    refine lv_istore_n (lv' := [(3, .int 0), (2, .int 0), (0, .ref (al 0)), (1, .int a1)]) hx hb dX8_count_90 rfl hl (by decide) rfl (fun ls hl => ?_)
    obtain ⟨x_42, h_41, h⟩ := bnd_some h
    refine Lp91 a1 V0 L0 1000 0 0  _ _ _ _ h_41 hW (lv_sub hl [2, 3, 1, 0] rfl) ?_
    intro w0 eo H locs ls hW hl
    subst eo
    refine lv_iload_n hx hb dX8_count_136 rfl (lv_at hl 0 rfl) ?_
    cases h
    exact g_iret S hr hlk hW dX8_count_137
  have h := if_f h c_13
  by_cases c_43 : a1 = 4
  · have h := if_t h c_43
    refine lv_tableIn (off := 86) (tgt := 89) hx hb dX8_count_3 (by rw [c_43]; decide) (by rw [c_43]; decide) (by rw [c_43]; decide) (by decide) ?_
    refine lv_iconst (v := 0) hx hb dX8_count_89 (by decide) ?_
    refine lv_istore_n (lv' := [(3, .int 0), (2, .int 0), (0, .ref (al 0)), (1, .int a1)]) hx hb dX8_count_90 rfl hl (by decide) rfl (fun ls hl => ?_)
    obtain ⟨x_46, h_45, h⟩ := bnd_some h
    refine Lp91 a1 V0 L0 1000 0 0  _ _ _ _ h_45 hW (lv_sub hl [2, 3, 1, 0] rfl) ?_
    intro w0 eo H locs ls hW hl
    subst eo
    refine lv_iload_n hx hb dX8_count_136 rfl (lv_at hl 0 rfl) ?_
    cases h
    exact g_iret S hr hlk hW dX8_count_137
  have h := if_f h c_43
  by_cases c_47 : a1 = 5
  · have h := if_t h c_47
    refine lv_tableIn (off := 135) (tgt := 138) hx hb dX8_count_3 (by rw [c_47]; decide) (by rw [c_47]; decide) (by rw [c_47]; decide) (by decide) ?_
    refine lv_aload_n hx hb dX8_count_138 rfl (lv_at hl 1 rfl) ?_
    refine tw_ref S hW 1 1 (by decide) rfl q1500 rfl dX8_count_139 ?_
    refine lv_iconst (v := 4) hx hb dX8_count_142 (by decide) ?_
    obtain ⟨h_49, x_48, e_50, h⟩ := rdI_some h
    refine g_iald S hW (k := 1) rfl rfl h_49 e_50 dX8_count_143 ?_
    cases h
    exact g_iret S hr hlk hW dX8_count_144
  have h := if_f h c_47
  by_cases c_51 : a1 = 6
  · have h := if_t h c_51
    refine lv_tableIn (off := 142) (tgt := 145) hx hb dX8_count_3 (by rw [c_51]; decide) (by rw [c_51]; decide) (by rw [c_51]; decide) (by decide) ?_
    refine lv_aload_n hx hb dX8_count_145 rfl (lv_at hl 1 rfl) ?_
    refine tw_int S hW 6 (by decide) rfl q1505 rfl dX8_count_146 ?_
    cases h
    exact g_iret S hr hlk hW dX8_count_149
  have h := if_f h c_51
  by_cases c_52 : a1 = 7
  · have h := if_t h c_52
    refine lv_tableIn (off := 147) (tgt := 150) hx hb dX8_count_3 (by rw [c_52]; decide) (by rw [c_52]; decide) (by rw [c_52]; decide) (by decide) ?_
    refine lv_aload_n hx hb dX8_count_150 rfl (lv_at hl 1 rfl) ?_
    refine tw_ref S hW 1 1 (by decide) rfl q1500 rfl dX8_count_151 ?_
    refine lv_iconst (v := 3) hx hb dX8_count_154 (by decide) ?_
    obtain ⟨h_54, x_53, e_55, h⟩ := rdI_some h
    refine g_iald S hW (k := 1) rfl rfl h_54 e_55 dX8_count_155 ?_
    cases h
    exact g_iret S hr hlk hW dX8_count_156
  have h := if_f h c_52
  by_cases c_56 : a1 = 8
  · have h := if_t h c_56
    refine lv_tableIn (off := 154) (tgt := 157) hx hb dX8_count_3 (by rw [c_56]; decide) (by rw [c_56]; decide) (by rw [c_56]; decide) (by decide) ?_
    refine lv_aload_n hx hb dX8_count_157 rfl (lv_at hl 1 rfl) ?_
    refine tw_ref S hW 1 1 (by decide) rfl q1500 rfl dX8_count_158 ?_
    refine lv_bipush (v := 12) hx hb dX8_count_161 (by decide) ?_
    obtain ⟨h_58, x_57, e_59, h⟩ := rdI_some h
    refine g_iald S hW (k := 1) rfl rfl h_58 e_59 dX8_count_163 ?_
    cases h
    exact g_iret S hr hlk hW dX8_count_164
  have h := if_f h c_56
  by_cases c_60 : a1 = 9
  · have h := if_t h c_60
    refine lv_tableIn (off := 162) (tgt := 165) hx hb dX8_count_3 (by rw [c_60]; decide) (by rw [c_60]; decide) (by rw [c_60]; decide) (by decide) ?_
    refine lv_aload_n hx hb dX8_count_165 rfl (lv_at hl 1 rfl) ?_
    refine tw_ref S hW 1 1 (by decide) rfl q1500 rfl dX8_count_166 ?_
    refine lv_bipush (v := 6) hx hb dX8_count_169 (by decide) ?_
    obtain ⟨h_62, x_61, e_63, h⟩ := rdI_some h
    refine g_iald S hW (k := 1) rfl rfl h_62 e_63 dX8_count_171 ?_
    cases h
    exact g_iret S hr hlk hW dX8_count_172
  have h := if_f h c_60
  by_cases c_64 : a1 = 10
  · have h := if_t h c_64
    refine lv_tableIn (off := 170) (tgt := 173) hx hb dX8_count_3 (by rw [c_64]; decide) (by rw [c_64]; decide) (by rw [c_64]; decide) (by decide) ?_
    refine lv_iconst (v := 0) hx hb dX8_count_173 (by decide) ?_
    refine lv_istore_n (lv' := [(3, .int 0), (2, .int 0), (0, .ref (al 0)), (1, .int a1)]) hx hb dX8_count_174 rfl hl (by decide) rfl (fun ls hl => ?_)
    obtain ⟨x_80, h_79, h⟩ := bnd_some h
    refine Lp175 V0 L0 1000 0 0  _ _ _ _ h_79 hW (lv_sub hl [2, 1, 0] rfl) ?_
    intro w0 eo H locs ls hW hl
    subst eo
    refine lv_iload_n hx hb dX8_count_204 rfl (lv_at hl 0 rfl) ?_
    cases h
    exact g_iret S hr hlk hW dX8_count_205
  have h := if_f h c_64
  by_cases c_81 : a1 = 11
  · have h := if_t h c_81
    refine lv_tableIn (off := 203) (tgt := 206) hx hb dX8_count_3 (by rw [c_81]; decide) (by rw [c_81]; decide) (by rw [c_81]; decide) (by decide) ?_
    refine lv_aload_n hx hb dX8_count_206 rfl (lv_at hl 1 rfl) ?_
    refine tw_ref S hW 1 1 (by decide) rfl q1500 rfl dX8_count_207 ?_
    refine lv_iconst (v := 5) hx hb dX8_count_210 (by decide) ?_
    obtain ⟨h_83, x_82, e_84, h⟩ := rdI_some h
    refine g_iald S hW (k := 1) rfl rfl h_83 e_84 dX8_count_211 ?_
    cases h
    exact g_iret S hr hlk hW dX8_count_212
  have h := if_f h c_81
  by_cases c_85 : a1 = 12
  · have h := if_t h c_85
    refine lv_tableIn (off := 210) (tgt := 213) hx hb dX8_count_3 (by rw [c_85]; decide) (by rw [c_85]; decide) (by rw [c_85]; decide) (by decide) ?_
    refine lv_aload_n hx hb dX8_count_213 rfl (lv_at hl 1 rfl) ?_
    refine tw_ref S hW 1 1 (by decide) rfl q1500 rfl dX8_count_214 ?_
    refine lv_bipush (v := 13) hx hb dX8_count_217 (by decide) ?_
    obtain ⟨h_87, x_86, e_88, h⟩ := rdI_some h
    refine g_iald S hW (k := 1) rfl rfl h_87 e_88 dX8_count_219 ?_
    cases h
    exact g_iret S hr hlk hW dX8_count_220
  have h := if_f h c_85
  have c_1 := lv_neT (a := 0) c_1 (by decide)
  have c_5 := lv_neT (a := 1) c_5 (by decide)
  have c_9 := lv_neT (a := 2) c_9 (by decide)
  have c_13 := lv_neT (a := 3) c_13 (by decide)
  have c_43 := lv_neT (a := 4) c_43 (by decide)
  have c_47 := lv_neT (a := 5) c_47 (by decide)
  have c_51 := lv_neT (a := 6) c_51 (by decide)
  have c_52 := lv_neT (a := 7) c_52 (by decide)
  have c_56 := lv_neT (a := 8) c_56 (by decide)
  have c_60 := lv_neT (a := 9) c_60 (by decide)
  have c_64 := lv_neT (a := 10) c_64 (by decide)
  have c_81 := lv_neT (a := 11) c_81 (by decide)
  have c_85 := lv_neT (a := 12) c_85 (by decide)
  refine lv_tableOut (tgt := 221) hx hb dX8_count_3 (by omega) (by decide) ?_
  refine lv_iconst (v := (-1)) hx hb dX8_count_221 (by decide) ?_
  cases h
  exact g_iret S hr hlk hW dX8_count_222
theorem cwX8_count {R : Room} {s : State} {args : Array Value} {index : Nat} (hts : ∀ w ∈ lw_all, w.before args s = true) (hl : Cond.methodLink RX8 index yX8_count ∈ lw_all) (hR : rmX8_count.frames + 1 ≤ R.frames ∧ 8 + (4 + 11) + rmX8_count.locals ≤ R.locals) : CallW R s args RX8 RX8 index yX8_count cX8_count 4 (some .int) (ws_ yX8_count cX8_count 4 (some .int)) rmX8_count 0 0 1 := cwV 1 hts (lw_V hl q2017 q2018 q122 q2019) rfl rfl rfl (by decide +kernel) hR
def tw_write (V0 : g_V) (L0 : g_L) (a1 : Int32) (a2 : Int32) (a3 : Int64) : Option (Int32 × g_L) :=
  bnd (tw_isSlot a1) (fun x_3 => if x_3 = 0 then (some ((-2), L0)) else (rdI (V0 36) 4 a1 fun x_5 => if x_5 = (-1) then (some ((-6), L0)) else (rdI (V0 36) 4 a1 fun x_9 => bnd (tw_in a2.toInt64 0 ((x_9 - 1).toInt64)) (fun x_14 => if x_14 = 0 then (some ((-7), L0)) else (rdI (V0 37) 4 a1 fun x_16 => bnd (tw_cut a3 x_16) (fun x_21 => wrL L0 38 240 ((60 * a1) + a2) x_21 fun L_24 => some (0, L_24)))))))
abbrev rmX8_write : Room := rm_ 2 45
set_option maxHeartbeats 4000000 in
theorem metX8_write {l : Launch} {gp : Nat → Nat} {nx : Nat} {D : va_G} {K : Nat → ClassId} {al : Nat → Nat} {V0 : g_V} {L0 : g_L} {a1 : Int32} {a2 : Int32} {a3 : Int64} {r : Int32} {L' : g_L} (h : tw_write V0 L0 a1 a2 a3 = some (r, L')) : Met l yX8_write (ws_ yX8_write cX8_write 5 (some .int)) rmX8_write (twPc gp nx [.ref (al 0), .int a1, .int a2, .long a3] D K al V0 L0) (twQi r nx D K al V0 L') 0 0 (g_A al twSh) := by
  refine g_met rfl (Nat.le_of_ble_eq_true rfl) ?_
  intro p e s m below meth c ls S hr hlk hnm hl hW
  have S : CallFix p m c cX8_write 5 s ([.ref (al 0), .int a1, .int a2, .long a3] : List Value).toArray lw_all RX8 := S
  have hx := S.1
  have hb := S.2.1
  have hl : lv_has ls 5 [(0, .ref (al 0)), (1, .int a1), (2, .int a2), (3, .long a3)] := hl
  unfold tw_write at h
  refine lv_iload_n hx hb dX8_write_0 rfl (lv_at hl 1 rfl) ?_
  obtain ⟨x_3, h_1, h⟩ := bnd_some h
  refine g_callSi (As := [.int a1]) (rest := []) S hW (metX8_isSlot h_1) (cwX8_isSlot S.2.2.2.2 q1973 ⟨Nat.le_of_ble_eq_true rfl, Nat.le_of_ble_eq_true rfl⟩) rfl hl.1 rfl (Nat.le_of_ble_eq_true rfl) dX8_write_1 ⟨Nat.le_refl _, Nat.le_refl _⟩ (fun H locs hW => ?_)
  refine lv_if_ne (tgt := 10) hx hb dX8_write_4 (by decide) (fun c_4 => ?_) (fun c_4 => ?_)
  · have h := if_f h c_4
    refine lv_aload_n hx hb dX8_write_10 rfl (lv_at hl 0 rfl) ?_
    refine tw_ref S hW 36 36 (by decide) rfl q1535 rfl dX8_write_11 ?_
    refine lv_iload_n hx hb dX8_write_14 rfl (lv_at hl 1 rfl) ?_
    obtain ⟨h_6, x_5, e_7, h⟩ := rdI_some h
    refine g_iald S hW (k := 36) rfl rfl h_6 e_7 dX8_write_15 ?_
    refine lv_iconst (v := (-1)) hx hb dX8_write_16 (by decide) ?_
    refine lv_icmp_ne (tgt := 23) hx hb dX8_write_17 (by decide) (fun c_8 => ?_) (fun c_8 => ?_)
    · have h := if_f h c_8
      refine lv_iload_n hx hb dX8_write_23 rfl (lv_at hl 2 rfl) ?_
      refine lv_i2l (v := a2.toInt64) hx hb dX8_write_24 rfl ?_
      refine lv_lconst (v := 0) hx hb dX8_write_25 (by decide) ?_
      refine lv_aload_n hx hb dX8_write_26 rfl (lv_at hl 0 rfl) ?_
      refine tw_ref S hW 36 36 (by decide) rfl q1535 rfl dX8_write_27 ?_
      refine lv_iload_n hx hb dX8_write_30 rfl (lv_at hl 1 rfl) ?_
      obtain ⟨h_10, x_9, e_11, h⟩ := rdI_some h
      refine g_iald S hW (k := 36) rfl rfl h_10 e_11 dX8_write_31 ?_
      refine lv_iconst (v := 1) hx hb dX8_write_32 (by decide) ?_
      refine lv_isub hx hb dX8_write_33 ?_
      refine lv_i2l (v := (x_9 - 1).toInt64) hx hb dX8_write_34 rfl ?_
      obtain ⟨x_14, h_12, h⟩ := bnd_some h
      refine g_callSi (As := [.long a2.toInt64, .long 0, .long ((x_9 - 1).toInt64)]) (rest := []) S hW (metX8_in h_12) (cwX8_in S.2.2.2.2 q1625 ⟨Nat.le_of_ble_eq_true rfl, Nat.le_of_ble_eq_true rfl⟩) rfl hl.1 rfl (Nat.le_of_ble_eq_true rfl) dX8_write_35 ⟨Nat.le_refl _, Nat.le_refl _⟩ (fun H locs hW => ?_)
      refine lv_if_ne (tgt := 44) hx hb dX8_write_38 (by decide) (fun c_15 => ?_) (fun c_15 => ?_)
      · have h := if_f h c_15
        refine lv_aload_n hx hb dX8_write_44 rfl (lv_at hl 0 rfl) ?_
        refine tw_ref S hW 38 38 (by decide) rfl q1537 rfl dX8_write_45 ?_
        refine lv_bipush (v := 60) hx hb dX8_write_48 (by decide) ?_
        refine lv_iload_n hx hb dX8_write_50 rfl (lv_at hl 1 rfl) ?_
        refine lv_imul hx hb dX8_write_51 ?_
        refine lv_iload_n hx hb dX8_write_52 rfl (lv_at hl 2 rfl) ?_
        refine lv_iadd hx hb dX8_write_53 ?_
        refine lv_lload_n hx hb dX8_write_54 rfl (lv_at hl 3 rfl) ?_
        refine lv_aload_n hx hb dX8_write_55 rfl (lv_at hl 0 rfl) ?_
        refine tw_ref S hW 37 37 (by decide) rfl q1536 rfl dX8_write_56 ?_
        refine lv_iload_n hx hb dX8_write_59 rfl (lv_at hl 1 rfl) ?_
        obtain ⟨h_17, x_16, e_18, h⟩ := rdI_some h
        refine g_iald S hW (k := 37) rfl rfl h_17 e_18 dX8_write_60 ?_
        obtain ⟨x_21, h_19, h⟩ := bnd_some h
        refine g_callSl (As := [.long a3, .int x_16]) (rest := [.int ((60 * a1) + a2), .ref (al 38)]) S hW (metX8_cut h_19) (cwX8_cut S.2.2.2.2 q2028 ⟨Nat.le_of_ble_eq_true rfl, Nat.le_of_ble_eq_true rfl⟩) rfl hl.1 rfl (Nat.le_of_ble_eq_true rfl) dX8_write_61 ⟨Nat.le_refl _, Nat.le_refl _⟩ (fun H locs hW => ?_)
        obtain ⟨h_22, L_24, e_23, h⟩ := wrL_some h
        refine g_last S hW (k := 38) rfl rfl h_22 e_23 dX8_write_64 (fun H locs hW => ?_)
        refine lv_iconst (v := 0) hx hb dX8_write_65 (by decide) ?_
        cases h
        exact g_iret S hr hlk hW dX8_write_66
      · have h := if_t h c_15
        refine lv_bipush (v := (-7)) hx hb dX8_write_41 (by decide) ?_
        cases h
        exact g_iret S hr hlk hW dX8_write_43
    · have h := if_t h c_8
      refine lv_bipush (v := (-6)) hx hb dX8_write_20 (by decide) ?_
      cases h
      exact g_iret S hr hlk hW dX8_write_22
  · have h := if_t h c_4
    refine lv_bipush (v := (-2)) hx hb dX8_write_7 (by decide) ?_
    cases h
    exact g_iret S hr hlk hW dX8_write_9
theorem cwX8_write {R : Room} {s : State} {args : Array Value} {index : Nat} (hts : ∀ w ∈ lw_all, w.before args s = true) (hl : Cond.methodLink RX8 index yX8_write ∈ lw_all) (hR : rmX8_write.frames + 1 ≤ R.frames ∧ 8 + (5 + 11) + rmX8_write.locals ≤ R.locals) : CallW R s args RX8 RX8 index yX8_write cX8_write 5 (some .int) (ws_ yX8_write cX8_write 5 (some .int)) rmX8_write 0 0 3 := cwV 3 hts (lw_V hl q2025 q2026 q122 q2027) rfl rfl rfl (by decide +kernel) hR
def tw_told (w : Nat) (V0 : g_V) (a2 : Int32) (a3 : Int32) : Option (Int32 × g_V) :=
  bnd (tw_needs w V0) (fun V_3 => bnd (tw_number V_3 a2 a3) (un2 fun x_6 V_7 => some (x_6, V_7)))
abbrev rmX8_told : Room := rm_ 7 177
set_option maxHeartbeats 4000000 in
theorem metX8_told {l : Launch} {gp : Nat → Nat} {nx : Nat} {D : va_G} {K : Nat → ClassId} {al : Nat → Nat} {w : Nat} {V0 : g_V} {L0 : g_L} {a2 : Int32} {a3 : Int32} {r : Int32} {V' : g_V} (hw : w < 24) (h : tw_told w V0 a2 a3 = some (r, V')) : Met l yX8_told (ws_ yX8_told cX8_told 4 (some .int)) rmX8_told (twPc gp nx [.ref (al 0), .ref (gp w), .int a2, .int a3] D K al V0 L0) (twQi r nx D K al V' L0) 0 0 (g_A al twSh) := by
  refine g_met rfl (Nat.le_of_ble_eq_true rfl) ?_
  intro p e s m below meth c ls S hr hlk hnm hl hW
  have S : CallFix p m c cX8_told 4 s ([.ref (al 0), .ref (gp w), .int a2, .int a3] : List Value).toArray lw_all RX8 := S
  have hx := S.1
  have hb := S.2.1
  have hl : lv_has ls 4 [(0, .ref (al 0)), (1, .ref (gp w)), (2, .int a2), (3, .int a3)] := hl
  unfold tw_told at h
  refine lv_aload_n hx hb dX8_told_0 rfl (lv_at hl 0 rfl) ?_
  refine lv_aload_n hx hb dX8_told_1 rfl (lv_at hl 1 rfl) ?_
  obtain ⟨V_3, h_1, h⟩ := bnd_some h
  refine g_callVv (As := [.ref (gp w)]) (rest := []) S hW (metX8_needs hw h_1) (cwX8_needs S.2.2.2.2 q1703 ⟨Nat.le_of_ble_eq_true rfl, Nat.le_of_ble_eq_true rfl⟩) (k := 0) rfl rfl rfl hl.1 rfl (Nat.le_of_ble_eq_true rfl) dX8_told_2 ⟨Nat.le_refl _, Nat.le_refl _⟩ (fun H locs hW => ?_)
  refine lv_aload_n hx hb dX8_told_5 rfl (lv_at hl 0 rfl) ?_
  refine lv_iload_n hx hb dX8_told_6 rfl (lv_at hl 2 rfl) ?_
  refine lv_iload_n hx hb dX8_told_7 rfl (lv_at hl 3 rfl) ?_
  obtain ⟨x_6, V_7, h_4, h⟩ := bnd2_some h
  refine g_callVi (As := [.int a2, .int a3]) (rest := []) S hW (metX8_number h_4) (cwX8_number S.2.2.2.2 q1694 ⟨Nat.le_of_ble_eq_true rfl, Nat.le_of_ble_eq_true rfl⟩) (k := 0) rfl rfl rfl hl.1 rfl (Nat.le_of_ble_eq_true rfl) dX8_told_8 ⟨Nat.le_refl _, Nat.le_refl _⟩ (fun H locs hW => ?_)
  cases h
  exact g_iret S hr hlk hW dX8_told_11
theorem cwX8_told {R : Room} {s : State} {args : Array Value} {index : Nat} (hts : ∀ w ∈ lw_all, w.before args s = true) (hl : Cond.methodLink RX8 index yX8_told ∈ lw_all) (hR : rmX8_told.frames + 1 ≤ R.frames ∧ 8 + (4 + 11) + rmX8_told.locals ≤ R.locals) : CallW R s args RX8 RX8 index yX8_told cX8_told 4 (some .int) (ws_ yX8_told cX8_told 4 (some .int)) rmX8_told 0 0 3 := cwV 3 hts (lw_V hl q1701 qs63 q122 q1702) rfl rfl rfl (by decide +kernel) hR
def tw_readLay_B42 (x1 : Int32) (x2 : Int32) (rec : Int32 → g_V → Option (g_V)) (x3 : Int32) (V : g_V) : Option (g_V) :=
  if (V 0 22) < x3 then (some V) else (wrI V 15 810 ((48 + (12 * x2)) + x3) x1 fun V_20 => nmI (x3 + 1) fun x_21 => rec x_21 V_20)
abbrev tw_readLay_F42 (x1 : Int32) (x2 : Int32) : ((Int32 × g_V) → Option (g_V)) → (Int32 × g_V) → Option (g_V) := fun rec s => tw_readLay_B42 x1 x2 (fun x3 V => rec (x3, V)) s.1 s.2
def tw_readLay_L42 (x1 : Int32) (x2 : Int32) (n : Nat) (x3 : Int32) (V : g_V) : Option (g_V) := lp (tw_readLay_F42 x1 x2) n (x3, V)
theorem tw_readLay_L42_s (x1 : Int32) (x2 : Int32) (n : Nat) (x3 : Int32) (V : g_V) : tw_readLay_L42 x1 x2 (n + 1) x3 V = tw_readLay_B42 x1 x2 (fun x3 V => tw_readLay_L42 x1 x2 n x3 V) x3 V := lp_s (tw_readLay_F42 x1 x2) n (x3, V)
def tw_readLay_B29 (x1 : Int32) (rec : Int32 → g_V → Option (g_V)) (x2 : Int32) (V : g_V) : Option (g_V) :=
  if (V 0 23) < x2 then (some V) else (nmI (V 0 20) fun x_15 => bnd (tw_readLay_L42 x1 x2 1000 x_15 V) (fun V_25 => nmI (x2 + 1) fun x_26 => rec x_26 V_25))
abbrev tw_readLay_F29 (x1 : Int32) : ((Int32 × g_V) → Option (g_V)) → (Int32 × g_V) → Option (g_V) := fun rec s => tw_readLay_B29 x1 (fun x2 V => rec (x2, V)) s.1 s.2
def tw_readLay_L29 (x1 : Int32) (n : Nat) (x2 : Int32) (V : g_V) : Option (g_V) := lp (tw_readLay_F29 x1) n (x2, V)
theorem tw_readLay_L29_s (x1 : Int32) (n : Nat) (x2 : Int32) (V : g_V) : tw_readLay_L29 x1 (n + 1) x2 V = tw_readLay_B29 x1 (fun x2 V => tw_readLay_L29 x1 n x2 V) x2 V := lp_s (tw_readLay_F29 x1) n (x2, V)
def tw_readLay (V0 : g_V) : Option (g_V) :=
  bnd (tw_readBox V0 0 11) (fun V_3 => bnd (tw_told 4 V_3 0 3) (un2 fun x_6 V_7 => bnd (tw_good V_7) (fun x_10 => if x_10 = 0 then (some V_7) else (nmI (V_7 0 21) fun x_12 => bnd (tw_readLay_L29 x_6 1000 x_12 V_7) (fun V_30 => some V_30)))))
abbrev rmX8_readLay : Room := rm_ 8 200
set_option maxHeartbeats 4000000 in
theorem metX8_readLay {l : Launch} {gp : Nat → Nat} {nx : Nat} {D : va_G} {K : Nat → ClassId} {al : Nat → Nat} {V0 : g_V} {L0 : g_L} {V' : g_V} (h : tw_readLay V0 = some V') : Met l yX8_readLay (ws_ yX8_readLay cX8_readLay 4 (none)) rmX8_readLay (twPc gp nx [.ref (al 0)] D K al V0 L0) (twQv nx D K al V' L0) 0 0 (g_A al twSh) := by
  refine g_met rfl (Nat.le_of_ble_eq_true rfl) ?_
  intro p e s m below meth c ls S hr hlk hnm hl hW
  have S : CallFix p m c cX8_readLay 4 s ([.ref (al 0)] : List Value).toArray lw_all RX8 := S
  have hx := S.1
  have hb := S.2.1
  have hl : lv_has ls 4 [(0, .ref (al 0))] := hl
  have Lp42 : ∀ (x1 : Int32) (x2 : Int32) (L : g_L) (n : Nat) (x3 : Int32) (V : g_V) (out : (g_V)) (H : Heap) (locs : List Loc) (ls : Array Slot), tw_readLay_L42 x1 x2 n x3 V = some out → twW gp nx D K al s V L H locs → lv_has ls 4 [(0, .ref (al 0)), (1, .int x1), (2, .int x2), (3, .int x3)] → (∀ (oV : g_V), out = oV → ∀ (H : Heap) (locs : List Loc) (ls : Array Slot), twW gp nx D K al s oV L H locs → lv_has ls 4 [(0, .ref (al 0)), (1, .int x1), (2, .int x2)] → W p l e rmX8_readLay s m ([.ref (al 0)] : List Value).toArray below meth c H locs 0 0 (MQ below (twQv nx D K al V' L0) ([.ref (al 0)] : List Value).toArray s 0 0 (g_A al twSh)) (F0 m 71 ls [])) → W p l e rmX8_readLay s m ([.ref (al 0)] : List Value).toArray below meth c H locs 0 0 (MQ below (twQv nx D K al V' L0) ([.ref (al 0)] : List Value).toArray s 0 0 (g_A al twSh)) (F0 m 42 ls []) := by
    intro x1 x2 L n
    induction n with
    | zero =>
      intro x3 V out H locs ls h
      exact (lp_0 h).elim
    | succ n ih =>
      intro x3 V out H locs ls h hW hl k1
      rw [tw_readLay_L42_s] at h
      unfold tw_readLay_B42 at h
      refine lv_iload_n hx hb dX8_readLay_42 rfl (lv_at hl 3 rfl) ?_
      refine lv_aload_n hx hb dX8_readLay_43 rfl (lv_at hl 0 rfl) ?_
      refine tw_int S hW 22 (by decide) rfl q1521 rfl dX8_readLay_44 ?_
      refine lv_icmp_gt (tgt := 71) hx hb dX8_readLay_47 (by decide) (fun c_17 => ?_) (fun c_17 => ?_)
      · have h := if_t h c_17
        exact k1 _ (Option.some.inj h).symm _ _ _ hW (lv_sub hl [0, 1, 2] rfl)
      · have h := if_f h c_17
        refine lv_aload_n hx hb dX8_readLay_50 rfl (lv_at hl 0 rfl) ?_
        refine tw_ref S hW 15 15 (by decide) rfl q1514 rfl dX8_readLay_51 ?_
        refine lv_bipush (v := 48) hx hb dX8_readLay_54 (by decide) ?_
        refine lv_bipush (v := 12) hx hb dX8_readLay_56 (by decide) ?_
        refine lv_iload_n hx hb dX8_readLay_58 rfl (lv_at hl 2 rfl) ?_
        refine lv_imul hx hb dX8_readLay_59 ?_
        refine lv_iadd hx hb dX8_readLay_60 ?_
        refine lv_iload_n hx hb dX8_readLay_61 rfl (lv_at hl 3 rfl) ?_
        refine lv_iadd hx hb dX8_readLay_62 ?_
        refine lv_iload_n hx hb dX8_readLay_63 rfl (lv_at hl 1 rfl) ?_
        obtain ⟨h_18, V_20, e_19, h⟩ := wrI_some h
        refine g_iast S hW (k := 15) rfl rfl h_18 e_19 dX8_readLay_64 (fun H locs hW => ?_)
        obtain ⟨x_21, e_22, h⟩ := nmI_some h
        refine lv_iinc (v := x_21) (lv' := [(3, .int x_21), (0, .ref (al 0)), (1, .int x1), (2, .int x2)]) hx hb dX8_readLay_65 hl (k := 3) rfl (by rw [e_22]; rfl) (by decide) rfl (fun ls hl => ?_)
        refine lv_goto (tgt := 42) hx hb dX8_readLay_68 (by decide) ?_
        exact ih x_21 V_20 out _ _ _ h hW (lv_sub hl [1, 2, 3, 0] rfl) k1
  have Lp29 : ∀ (x1 : Int32) (L : g_L) (n : Nat) (x2 : Int32) (V : g_V) (out : (g_V)) (H : Heap) (locs : List Loc) (ls : Array Slot), tw_readLay_L29 x1 n x2 V = some out → twW gp nx D K al s V L H locs → lv_has ls 4 [(0, .ref (al 0)), (1, .int x1), (2, .int x2)] → (∀ (oV : g_V), out = oV → ∀ (H : Heap) (locs : List Loc) (ls : Array Slot), twW gp nx D K al s oV L H locs → lv_has ls 4 [] → W p l e rmX8_readLay s m ([.ref (al 0)] : List Value).toArray below meth c H locs 0 0 (MQ below (twQv nx D K al V' L0) ([.ref (al 0)] : List Value).toArray s 0 0 (g_A al twSh)) (F0 m 77 ls [])) → W p l e rmX8_readLay s m ([.ref (al 0)] : List Value).toArray below meth c H locs 0 0 (MQ below (twQv nx D K al V' L0) ([.ref (al 0)] : List Value).toArray s 0 0 (g_A al twSh)) (F0 m 29 ls []) := by
    intro x1 L n
    induction n with
    | zero =>
      intro x2 V out H locs ls h
      exact (lp_0 h).elim
    | succ n ih =>
      intro x2 V out H locs ls h hW hl k1
      rw [tw_readLay_L29_s] at h
      unfold tw_readLay_B29 at h
      refine lv_iload_n hx hb dX8_readLay_29 rfl (lv_at hl 2 rfl) ?_
      refine lv_aload_n hx hb dX8_readLay_30 rfl (lv_at hl 0 rfl) ?_
      refine tw_int S hW 23 (by decide) rfl q1522 rfl dX8_readLay_31 ?_
      refine lv_icmp_gt (tgt := 77) hx hb dX8_readLay_34 (by decide) (fun c_14 => ?_) (fun c_14 => ?_)
      · have h := if_t h c_14
        exact k1 _ (Option.some.inj h).symm _ _ _ hW (lv_sub hl [] rfl)
      · have h := if_f h c_14
        refine lv_aload_n hx hb dX8_readLay_37 rfl (lv_at hl 0 rfl) ?_
        refine tw_int S hW 20 (by decide) rfl q1519 rfl dX8_readLay_38 ?_
        obtain ⟨x_15, e_16, h⟩ := nmI_some h
        refine g_nmi e_16 ?_
        refine lv_istore_n (lv' := [(3, .int x_15), (0, .ref (al 0)), (1, .int x1), (2, .int x2)]) hx hb dX8_readLay_41 rfl hl (by decide) rfl (fun ls hl => ?_)
        obtain ⟨V_25, h_24, h⟩ := bnd_some h
        refine Lp42 x1 x2 L 1000 x_15 V  _ _ _ _ h_24 hW (lv_sub hl [1, 2, 3, 0] rfl) ?_
        intro w0 eo H locs ls hW hl
        subst eo
        obtain ⟨x_26, e_27, h⟩ := nmI_some h
        refine lv_iinc (v := x_26) (lv' := [(2, .int x_26), (0, .ref (al 0)), (1, .int x1)]) hx hb dX8_readLay_71 hl (k := 2) rfl (by rw [e_27]; rfl) (by decide) rfl (fun ls hl => ?_)
        refine lv_goto (tgt := 29) hx hb dX8_readLay_74 (by decide) ?_
        exact ih x_26 V_25 out _ _ _ h hW (lv_sub hl [1, 2, 0] rfl) k1
  unfold tw_readLay at h
  refine lv_aload_n hx hb dX8_readLay_0 rfl (lv_at hl 0 rfl) ?_
  refine lv_iconst (v := 0) hx hb dX8_readLay_1 (by decide) ?_
  refine lv_bipush (v := 11) hx hb dX8_readLay_2 (by decide) ?_
  obtain ⟨V_3, h_1, h⟩ := bnd_some h
  refine g_callVv (As := [.int 0, .int 11]) (rest := []) S hW (metX8_readBox h_1) (cwX8_readBox S.2.2.2.2 q1722 ⟨Nat.le_of_ble_eq_true rfl, Nat.le_of_ble_eq_true rfl⟩) (k := 0) rfl rfl rfl hl.1 rfl (Nat.le_of_ble_eq_true rfl) dX8_readLay_4 ⟨Nat.le_refl _, Nat.le_refl _⟩ (fun H locs hW => ?_)
  refine lv_aload_n hx hb dX8_readLay_7 rfl (lv_at hl 0 rfl) ?_
  refine g_ldcS (w := 4) (tx := "ground") S hW (List.mem_of_getElem? (i := 29) rfl) dX8_readLay_8 ?_
  refine lv_iconst (v := 0) hx hb dX8_readLay_10 (by decide) ?_
  refine lv_iconst (v := 3) hx hb dX8_readLay_11 (by decide) ?_
  obtain ⟨x_6, V_7, h_4, h⟩ := bnd2_some h
  refine g_callVi (As := [.ref (gp 4), .int 0, .int 3]) (rest := []) S hW (metX8_told (by decide) h_4) (cwX8_told S.2.2.2.2 q1699 ⟨Nat.le_of_ble_eq_true rfl, Nat.le_of_ble_eq_true rfl⟩) (k := 0) rfl rfl rfl hl.1 rfl (Nat.le_of_ble_eq_true rfl) dX8_readLay_12 ⟨Nat.le_refl _, Nat.le_refl _⟩ (fun H locs hW => ?_)
  refine lv_istore_n (lv' := [(1, .int x_6), (0, .ref (al 0))]) hx hb dX8_readLay_15 rfl hl (by decide) rfl (fun ls hl => ?_)
  refine lv_aload_n hx hb dX8_readLay_16 rfl (lv_at hl 1 rfl) ?_
  obtain ⟨x_10, h_8, h⟩ := bnd_some h
  refine g_callVi (As := []) (rest := []) S hW (metX8_good h_8) (cwX8_good S.2.2.2.2 q1658 ⟨Nat.le_of_ble_eq_true rfl, Nat.le_of_ble_eq_true rfl⟩) (k := 0) rfl rfl rfl hl.1 rfl (Nat.le_of_ble_eq_true rfl) dX8_readLay_17 ⟨Nat.le_refl _, Nat.le_refl _⟩ (fun H locs hW => ?_)
  refine lv_if_ne (tgt := 24) hx hb dX8_readLay_20 (by decide) (fun c_11 => ?_) (fun c_11 => ?_)
  · have h := if_f h c_11
    refine lv_aload_n hx hb dX8_readLay_24 rfl (lv_at hl 1 rfl) ?_
    refine tw_int S hW 21 (by decide) rfl q1520 rfl dX8_readLay_25 ?_
    obtain ⟨x_12, e_13, h⟩ := nmI_some h
    refine g_nmi e_13 ?_
    refine lv_istore_n (lv' := [(2, .int x_12), (1, .int x_6), (0, .ref (al 0))]) hx hb dX8_readLay_28 rfl hl (by decide) rfl (fun ls hl => ?_)
    obtain ⟨V_30, h_29, h⟩ := bnd_some h
    refine Lp29 x_6 L0 1000 x_12 V_7  _ _ _ _ h_29 hW (lv_sub hl [2, 1, 0] rfl) ?_
    intro w0 eo H locs ls hW hl
    subst eo
    cases h
    exact g_vret S hr hlk hW dX8_readLay_77
  · have h := if_t h c_11
    cases h
    exact g_vret S hr hlk hW dX8_readLay_23
theorem cwX8_readLay {R : Room} {s : State} {args : Array Value} {index : Nat} (hts : ∀ w ∈ lw_all, w.before args s = true) (hl : Cond.methodLink RX8 index yX8_readLay ∈ lw_all) (hR : rmX8_readLay.frames + 1 ≤ R.frames ∧ 8 + (4 + 11) + rmX8_readLay.locals ≤ R.locals) : CallW R s args RX8 RX8 index yX8_readLay cX8_readLay 4 (none) (ws_ yX8_readLay cX8_readLay 4 (none)) rmX8_readLay 0 0 0 := cwV 0 hts (lw_V hl q1720 qs67 q122 q1721) rfl rfl rfl (by decide +kernel) hR
