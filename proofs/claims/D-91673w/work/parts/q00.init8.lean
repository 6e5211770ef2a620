/-! the reference's constructor: in a dynamic world up to its calls, then in its own -/
set_option maxRecDepth 100000
def cm_X8_init (Z0 : c_S) (a0 : Nat) : Option (c_S) :=
  zNewI Z0 0 810 fun Z_1 a_2 => zPR Z_1 a0 8 40 1 (some a_2) fun Z_3 => zNewI Z_3 0 810 fun Z_4 a_5 => zPR Z_4 a0 8 40 2 (some a_5) fun Z_6 => zNewI Z_6 0 2430 fun Z_7 a_8 => zPR Z_7 a0 8 40 3 (some a_8) fun Z_9 => zNewI Z_9 2 3 fun Z_10 a_11 => zPR Z_10 a0 8 40 4 (some a_11) fun Z_12 => zNewI Z_12 1 700 fun Z_13 a_14 => zPR Z_13 a0 8 40 5 (some a_14) fun Z_15 => zNewI Z_15 0 5 fun Z_16 a_17 => zPR Z_16 a0 8 40 7 (some a_17) fun Z_18 => zPI Z_18 a0 8 40 14 (-1) fun Z_19 => zNewI Z_19 0 810 fun Z_20 a_21 => zPR Z_20 a0 8 40 15 (some a_21) fun Z_22 => zNewI Z_22 2 4 fun Z_23 a_24 => zPR Z_23 a0 8 40 16 (some a_24) fun Z_25 => zNewI Z_25 2 12 fun Z_26 a_27 => zPR Z_26 a0 8 40 17 (some a_27) fun Z_28 => zNewI Z_28 0 144 fun Z_29 a_30 => zPR Z_29 a0 8 40 24 (some a_30) fun Z_31 => zNewI Z_31 0 18 fun Z_32 a_33 => zPR Z_32 a0 8 40 25 (some a_33) fun Z_34 => zNewI Z_34 0 144 fun Z_35 a_36 => zPR Z_35 a0 8 40 26 (some a_36) fun Z_37 => zNewI Z_37 2 144 fun Z_38 a_39 => zPR Z_38 a0 8 40 27 (some a_39) fun Z_40 => zNewI Z_40 2 576 fun Z_41 a_42 => zPR Z_41 a0 8 40 28 (some a_42) fun Z_43 => zNewI Z_43 0 288 fun Z_44 a_45 => zPR Z_44 a0 8 40 29 (some a_45) fun Z_46 => zNewI Z_46 0 288 fun Z_47 a_48 => zPR Z_47 a0 8 40 30 (some a_48) fun Z_49 => zNewI Z_49 2 144 fun Z_50 a_51 => zPR Z_50 a0 8 40 32 (some a_51) fun Z_52 => zNewI Z_52 0 144 fun Z_53 a_54 => zPR Z_53 a0 8 40 33 (some a_54) fun Z_55 => zNewI Z_55 0 4 fun Z_56 a_57 => zsI Z_56 0 a_57 0 (-1) fun Z_58 => zsI Z_58 0 a_57 1 (-1) fun Z_59 => zsI Z_59 0 a_57 2 (-1) fun Z_60 => zsI Z_60 0 a_57 3 (-1) fun Z_61 => zPR Z_61 a0 8 40 36 (some a_57) fun Z_62 => zNewI Z_62 0 4 fun Z_63 a_64 => zPR Z_63 a0 8 40 37 (some a_64) fun Z_65 => zNewL Z_65 4 240 fun Z_66 a_67 => zPR Z_66 a0 8 40 38 (some a_67) fun Z_68 => zNewL Z_68 4 60 fun Z_69 a_70 => zPR Z_69 a0 8 40 39 (some a_70) fun Z_71 => some Z_71
abbrev rmX8_init : Room := rmD 8 400 22 7782
set_option maxHeartbeats 4000000 in
theorem wkX8_init {p : Program} {l : Launch} {e : Env} {s : State} {m : MethodId} {below : List Frame} {meth : Method} {c : Code} {ls : Array Slot} {gp : Nat → Nat} {D : va_G} {K : Nat → ClassId} {Z0 : c_S} {a0 : Nat} {Z' : c_S} {Q : State → Prop} (h : cm_X8_init Z0 a0 = some Z') (S : CallFix p m c cX8_init 1 s ([.ref a0] : List Value).toArray lw_all RX8) (hnm : meth.name = "<init>") (hl : lv_has ls 1 [(0, .ref a0)]) (hW : z_W gp D K (z_A Z0) s Z0 s.heap [])
    (kk : ∀ (H : Heap) (locs : List Loc), z_W gp D K (z_A Z0) s Z' H locs → W p l e rmX8_init s m ([.ref a0] : List Value).toArray below meth c H locs 22 7782 Q (F0 m 210 ls [])) : W p l e rmX8_init s m ([.ref a0] : List Value).toArray below meth c s.heap [] 0 0 Q (F0 m 0 ls []) := by
  have hx := S.1
  have hb := S.2.1
  unfold cm_X8_init at h
  refine lv_aload_n hx hb dX8_init_0 rfl (lv_at hl 0 rfl) ?_
  refine zw_oinit S q1484 hl.1 (Nat.le_of_ble_eq_true rfl) (z_ro (Nat.le_of_ble_eq_true rfl)) (Nat.le_of_ble_eq_true rfl) dX8_init_1 ?_
  refine lv_aload_n hx hb dX8_init_4 rfl (lv_at hl 0 rfl) ?_
  refine lv_sipush (v := 810) hx hb dX8_init_5 (by decide) ?_
  refine zw_newi (atype := .int) (t := 0) (N := 810) S hW q245 rfl rfl (fun h => h) (by decide) rfl (by decide) (Nat.le_of_ble_eq_true rfl) (Nat.le_of_ble_eq_true rfl) dX8_init_8 h (fun Z_1 a_2 h H hW => ?_)
  refine zw_putR (o := some a_2) S hW zC_X8 (i := 1) (by decide) (Or.inr ⟨rfl, hnm, rfl, q1500⟩) rfl (Or.inl q1500) (fun _ h => h) dX8_init_10 h (fun Z_3 h H locs hW => ?_)
  refine lv_aload_n hx hb dX8_init_13 rfl (lv_at hl 0 rfl) ?_
  refine lv_sipush (v := 810) hx hb dX8_init_14 (by decide) ?_
  refine zw_newi (atype := .int) (t := 0) (N := 810) S hW q245 rfl rfl (fun h => h) (by decide) rfl (by decide) (Nat.le_of_ble_eq_true rfl) (Nat.le_of_ble_eq_true rfl) dX8_init_17 h (fun Z_4 a_5 h H hW => ?_)
  refine zw_putR (o := some a_5) S hW zC_X8 (i := 2) (by decide) (Or.inr ⟨rfl, hnm, rfl, q1501⟩) rfl (Or.inl q1501) (fun _ h => h) dX8_init_19 h (fun Z_6 h H locs hW => ?_)
  refine lv_aload_n hx hb dX8_init_22 rfl (lv_at hl 0 rfl) ?_
  refine lv_sipush (v := 2430) hx hb dX8_init_23 (by decide) ?_
  refine zw_newi (atype := .int) (t := 0) (N := 2430) S hW q245 rfl rfl (fun h => h) (by decide) rfl (by decide) (Nat.le_of_ble_eq_true rfl) (Nat.le_of_ble_eq_true rfl) dX8_init_26 h (fun Z_7 a_8 h H hW => ?_)
  refine zw_putR (o := some a_8) S hW zC_X8 (i := 3) (by decide) (Or.inr ⟨rfl, hnm, rfl, q1502⟩) rfl (Or.inl q1502) (fun _ h => h) dX8_init_28 h (fun Z_9 h H locs hW => ?_)
  refine lv_aload_n hx hb dX8_init_31 rfl (lv_at hl 0 rfl) ?_
  refine lv_iconst (v := 3) hx hb dX8_init_32 (by decide) ?_
  refine zw_newi (atype := .boolean) (t := 2) (N := 3) S hW q567 rfl rfl (fun h => h) (by decide) rfl (by decide) (Nat.le_of_ble_eq_true rfl) (Nat.le_of_ble_eq_true rfl) dX8_init_33 h (fun Z_10 a_11 h H hW => ?_)
  refine zw_putR (o := some a_11) S hW zC_X8 (i := 4) (by decide) (Or.inr ⟨rfl, hnm, rfl, q1503⟩) rfl (Or.inl q1503) (fun _ h => h) dX8_init_35 h (fun Z_12 h H locs hW => ?_)
  refine lv_aload_n hx hb dX8_init_38 rfl (lv_at hl 0 rfl) ?_
  refine lv_sipush (v := 700) hx hb dX8_init_39 (by decide) ?_
  refine zw_newi (atype := .byte) (t := 1) (N := 700) S hW q239 rfl rfl (fun h => h) (by decide) rfl (by decide) (Nat.le_of_ble_eq_true rfl) (Nat.le_of_ble_eq_true rfl) dX8_init_42 h (fun Z_13 a_14 h H hW => ?_)
  refine zw_putR (o := some a_14) S hW zC_X8 (i := 5) (by decide) (Or.inr ⟨rfl, hnm, rfl, q1504⟩) rfl (Or.inl q1504) (fun _ h => h) dX8_init_44 h (fun Z_15 h H locs hW => ?_)
  refine lv_aload_n hx hb dX8_init_47 rfl (lv_at hl 0 rfl) ?_
  refine lv_iconst (v := 5) hx hb dX8_init_48 (by decide) ?_
  refine zw_newi (atype := .int) (t := 0) (N := 5) S hW q245 rfl rfl (fun h => h) (by decide) rfl (by decide) (Nat.le_of_ble_eq_true rfl) (Nat.le_of_ble_eq_true rfl) dX8_init_49 h (fun Z_16 a_17 h H hW => ?_)
  refine zw_putR (o := some a_17) S hW zC_X8 (i := 7) (by decide) (Or.inr ⟨rfl, hnm, rfl, q1506⟩) rfl (Or.inl q1506) (fun _ h => h) dX8_init_51 h (fun Z_18 h H locs hW => ?_)
  refine lv_aload_n hx hb dX8_init_54 rfl (lv_at hl 0 rfl) ?_
  refine lv_iconst (v := (-1)) hx hb dX8_init_55 (by decide) ?_
  refine zw_putI S hW zC_X8 (i := 14) (by decide) (Or.inl rfl) rfl rfl rfl (Or.inl q1513) (fun _ h => h) dX8_init_56 h (fun Z_19 h H locs hW => ?_)
  refine lv_aload_n hx hb dX8_init_59 rfl (lv_at hl 0 rfl) ?_
  refine lv_sipush (v := 810) hx hb dX8_init_60 (by decide) ?_
  refine zw_newi (atype := .int) (t := 0) (N := 810) S hW q245 rfl rfl (fun h => h) (by decide) rfl (by decide) (Nat.le_of_ble_eq_true rfl) (Nat.le_of_ble_eq_true rfl) dX8_init_63 h (fun Z_20 a_21 h H hW => ?_)
  refine zw_putR (o := some a_21) S hW zC_X8 (i := 15) (by decide) (Or.inr ⟨rfl, hnm, rfl, q1514⟩) rfl (Or.inl q1514) (fun _ h => h) dX8_init_65 h (fun Z_22 h H locs hW => ?_)
  refine lv_aload_n hx hb dX8_init_68 rfl (lv_at hl 0 rfl) ?_
  refine lv_iconst (v := 4) hx hb dX8_init_69 (by decide) ?_
  refine zw_newi (atype := .boolean) (t := 2) (N := 4) S hW q567 rfl rfl (fun h => h) (by decide) rfl (by decide) (Nat.le_of_ble_eq_true rfl) (Nat.le_of_ble_eq_true rfl) dX8_init_70 h (fun Z_23 a_24 h H hW => ?_)
  refine zw_putR (o := some a_24) S hW zC_X8 (i := 16) (by decide) (Or.inr ⟨rfl, hnm, rfl, q1515⟩) rfl (Or.inl q1515) (fun _ h => h) dX8_init_72 h (fun Z_25 h H locs hW => ?_)
  refine lv_aload_n hx hb dX8_init_75 rfl (lv_at hl 0 rfl) ?_
  refine lv_bipush (v := 12) hx hb dX8_init_76 (by decide) ?_
  refine zw_newi (atype := .boolean) (t := 2) (N := 12) S hW q567 rfl rfl (fun h => h) (by decide) rfl (by decide) (Nat.le_of_ble_eq_true rfl) (Nat.le_of_ble_eq_true rfl) dX8_init_78 h (fun Z_26 a_27 h H hW => ?_)
  refine zw_putR (o := some a_27) S hW zC_X8 (i := 17) (by decide) (Or.inr ⟨rfl, hnm, rfl, q1516⟩) rfl (Or.inl q1516) (fun _ h => h) dX8_init_80 h (fun Z_28 h H locs hW => ?_)
  refine lv_aload_n hx hb dX8_init_83 rfl (lv_at hl 0 rfl) ?_
  refine lv_sipush (v := 144) hx hb dX8_init_84 (by decide) ?_
  refine zw_newi (atype := .int) (t := 0) (N := 144) S hW q245 rfl rfl (fun h => h) (by decide) rfl (by decide) (Nat.le_of_ble_eq_true rfl) (Nat.le_of_ble_eq_true rfl) dX8_init_87 h (fun Z_29 a_30 h H hW => ?_)
  refine zw_putR (o := some a_30) S hW zC_X8 (i := 24) (by decide) (Or.inr ⟨rfl, hnm, rfl, q1523⟩) rfl (Or.inl q1523) (fun _ h => h) dX8_init_89 h (fun Z_31 h H locs hW => ?_)
  refine lv_aload_n hx hb dX8_init_92 rfl (lv_at hl 0 rfl) ?_
  refine lv_bipush (v := 18) hx hb dX8_init_93 (by decide) ?_
  refine zw_newi (atype := .int) (t := 0) (N := 18) S hW q245 rfl rfl (fun h => h) (by decide) rfl (by decide) (Nat.le_of_ble_eq_true rfl) (Nat.le_of_ble_eq_true rfl) dX8_init_95 h (fun Z_32 a_33 h H hW => ?_)
  refine zw_putR (o := some a_33) S hW zC_X8 (i := 25) (by decide) (Or.inr ⟨rfl, hnm, rfl, q1524⟩) rfl (Or.inl q1524) (fun _ h => h) dX8_init_97 h (fun Z_34 h H locs hW => ?_)
  refine lv_aload_n hx hb dX8_init_100 rfl (lv_at hl 0 rfl) ?_
  refine lv_sipush (v := 144) hx hb dX8_init_101 (by decide) ?_
  refine zw_newi (atype := .int) (t := 0) (N := 144) S hW q245 rfl rfl (fun h => h) (by decide) rfl (by decide) (Nat.le_of_ble_eq_true rfl) (Nat.le_of_ble_eq_true rfl) dX8_init_104 h (fun Z_35 a_36 h H hW => ?_)
  refine zw_putR (o := some a_36) S hW zC_X8 (i := 26) (by decide) (Or.inr ⟨rfl, hnm, rfl, q1525⟩) rfl (Or.inl q1525) (fun _ h => h) dX8_init_106 h (fun Z_37 h H locs hW => ?_)
  refine lv_aload_n hx hb dX8_init_109 rfl (lv_at hl 0 rfl) ?_
  refine lv_sipush (v := 144) hx hb dX8_init_110 (by decide) ?_
  refine zw_newi (atype := .boolean) (t := 2) (N := 144) S hW q567 rfl rfl (fun h => h) (by decide) rfl (by decide) (Nat.le_of_ble_eq_true rfl) (Nat.le_of_ble_eq_true rfl) dX8_init_113 h (fun Z_38 a_39 h H hW => ?_)
  refine zw_putR (o := some a_39) S hW zC_X8 (i := 27) (by decide) (Or.inr ⟨rfl, hnm, rfl, q1526⟩) rfl (Or.inl q1526) (fun _ h => h) dX8_init_115 h (fun Z_40 h H locs hW => ?_)
  refine lv_aload_n hx hb dX8_init_118 rfl (lv_at hl 0 rfl) ?_
  refine lv_sipush (v := 576) hx hb dX8_init_119 (by decide) ?_
  refine zw_newi (atype := .boolean) (t := 2) (N := 576) S hW q567 rfl rfl (fun h => h) (by decide) rfl (by decide) (Nat.le_of_ble_eq_true rfl) (Nat.le_of_ble_eq_true rfl) dX8_init_122 h (fun Z_41 a_42 h H hW => ?_)
  refine zw_putR (o := some a_42) S hW zC_X8 (i := 28) (by decide) (Or.inr ⟨rfl, hnm, rfl, q1527⟩) rfl (Or.inl q1527) (fun _ h => h) dX8_init_124 h (fun Z_43 h H locs hW => ?_)
  refine lv_aload_n hx hb dX8_init_127 rfl (lv_at hl 0 rfl) ?_
  refine lv_sipush (v := 288) hx hb dX8_init_128 (by decide) ?_
  refine zw_newi (atype := .int) (t := 0) (N := 288) S hW q245 rfl rfl (fun h => h) (by decide) rfl (by decide) (Nat.le_of_ble_eq_true rfl) (Nat.le_of_ble_eq_true rfl) dX8_init_131 h (fun Z_44 a_45 h H hW => ?_)
  refine zw_putR (o := some a_45) S hW zC_X8 (i := 29) (by decide) (Or.inr ⟨rfl, hnm, rfl, q1528⟩) rfl (Or.inl q1528) (fun _ h => h) dX8_init_133 h (fun Z_46 h H locs hW => ?_)
  refine lv_aload_n hx hb dX8_init_136 rfl (lv_at hl 0 rfl) ?_
  refine lv_sipush (v := 288) hx hb dX8_init_137 (by decide) ?_
  refine zw_newi (atype := .int) (t := 0) (N := 288) S hW q245 rfl rfl (fun h => h) (by decide) rfl (by decide) (Nat.le_of_ble_eq_true rfl) (Nat.le_of_ble_eq_true rfl) dX8_init_140 h (fun Z_47 a_48 h H hW => ?_)
  refine zw_putR (o := some a_48) S hW zC_X8 (i := 30) (by decide) (Or.inr ⟨rfl, hnm, rfl, q1529⟩) rfl (Or.inl q1529) (fun _ h => h) dX8_init_142 h (fun Z_49 h H locs hW => ?_)
  refine lv_aload_n hx hb dX8_init_145 rfl (lv_at hl 0 rfl) ?_
  refine lv_sipush (v := 144) hx hb dX8_init_146 (by decide) ?_
  refine zw_newi (atype := .boolean) (t := 2) (N := 144) S hW q567 rfl rfl (fun h => h) (by decide) rfl (by decide) (Nat.le_of_ble_eq_true rfl) (Nat.le_of_ble_eq_true rfl) dX8_init_149 h (fun Z_50 a_51 h H hW => ?_)
  refine zw_putR (o := some a_51) S hW zC_X8 (i := 32) (by decide) (Or.inr ⟨rfl, hnm, rfl, q1531⟩) rfl (Or.inl q1531) (fun _ h => h) dX8_init_151 h (fun Z_52 h H locs hW => ?_)
  refine lv_aload_n hx hb dX8_init_154 rfl (lv_at hl 0 rfl) ?_
  refine lv_sipush (v := 144) hx hb dX8_init_155 (by decide) ?_
  refine zw_newi (atype := .int) (t := 0) (N := 144) S hW q245 rfl rfl (fun h => h) (by decide) rfl (by decide) (Nat.le_of_ble_eq_true rfl) (Nat.le_of_ble_eq_true rfl) dX8_init_158 h (fun Z_53 a_54 h H hW => ?_)
  refine zw_putR (o := some a_54) S hW zC_X8 (i := 33) (by decide) (Or.inr ⟨rfl, hnm, rfl, q1532⟩) rfl (Or.inl q1532) (fun _ h => h) dX8_init_160 h (fun Z_55 h H locs hW => ?_)
  refine lv_aload_n hx hb dX8_init_163 rfl (lv_at hl 0 rfl) ?_
  refine lv_iconst (v := 4) hx hb dX8_init_164 (by decide) ?_
  refine zw_newi (atype := .int) (t := 0) (N := 4) S hW q245 rfl rfl (fun h => h) (by decide) rfl (by decide) (Nat.le_of_ble_eq_true rfl) (Nat.le_of_ble_eq_true rfl) dX8_init_165 h (fun Z_56 a_57 h H hW => ?_)
  refine lv_dup hx hb dX8_init_167 rfl ?_
  refine lv_iconst (v := 0) hx hb dX8_init_168 (by decide) ?_
  refine lv_iconst (v := (-1)) hx hb dX8_init_169 (by decide) ?_
  refine zw_iast S hW dX8_init_170 h (fun Z_58 h H locs hW => ?_)
  refine lv_dup hx hb dX8_init_171 rfl ?_
  refine lv_iconst (v := 1) hx hb dX8_init_172 (by decide) ?_
  refine lv_iconst (v := (-1)) hx hb dX8_init_173 (by decide) ?_
  refine zw_iast S hW dX8_init_174 h (fun Z_59 h H locs hW => ?_)
  refine lv_dup hx hb dX8_init_175 rfl ?_
  refine lv_iconst (v := 2) hx hb dX8_init_176 (by decide) ?_
  refine lv_iconst (v := (-1)) hx hb dX8_init_177 (by decide) ?_
  refine zw_iast S hW dX8_init_178 h (fun Z_60 h H locs hW => ?_)
  refine lv_dup hx hb dX8_init_179 rfl ?_
  refine lv_iconst (v := 3) hx hb dX8_init_180 (by decide) ?_
  refine lv_iconst (v := (-1)) hx hb dX8_init_181 (by decide) ?_
  refine zw_iast S hW dX8_init_182 h (fun Z_61 h H locs hW => ?_)
  refine zw_putR (o := some a_57) S hW zC_X8 (i := 36) (by decide) (Or.inr ⟨rfl, hnm, rfl, q1535⟩) rfl (Or.inl q1535) (fun _ h => h) dX8_init_183 h (fun Z_62 h H locs hW => ?_)
  refine lv_aload_n hx hb dX8_init_186 rfl (lv_at hl 0 rfl) ?_
  refine lv_iconst (v := 4) hx hb dX8_init_187 (by decide) ?_
  refine zw_newi (atype := .int) (t := 0) (N := 4) S hW q245 rfl rfl (fun h => h) (by decide) rfl (by decide) (Nat.le_of_ble_eq_true rfl) (Nat.le_of_ble_eq_true rfl) dX8_init_188 h (fun Z_63 a_64 h H hW => ?_)
  refine zw_putR (o := some a_64) S hW zC_X8 (i := 37) (by decide) (Or.inr ⟨rfl, hnm, rfl, q1536⟩) rfl (Or.inl q1536) (fun _ h => h) dX8_init_190 h (fun Z_65 h H locs hW => ?_)
  refine lv_aload_n hx hb dX8_init_193 rfl (lv_at hl 0 rfl) ?_
  refine lv_sipush (v := 240) hx hb dX8_init_194 (by decide) ?_
  refine zw_newl (N := 240) S hW (by decide) rfl (by decide) (Nat.le_of_ble_eq_true rfl) (Nat.le_of_ble_eq_true rfl) dX8_init_197 h (fun Z_66 a_67 h H hW => ?_)
  refine zw_putR (o := some a_67) S hW zC_X8 (i := 38) (by decide) (Or.inr ⟨rfl, hnm, rfl, q1537⟩) rfl (Or.inl q1537) (fun _ h => h) dX8_init_199 h (fun Z_68 h H locs hW => ?_)
  refine lv_aload_n hx hb dX8_init_202 rfl (lv_at hl 0 rfl) ?_
  refine lv_bipush (v := 60) hx hb dX8_init_203 (by decide) ?_
  refine zw_newl (N := 60) S hW (by decide) rfl (by decide) (Nat.le_of_ble_eq_true rfl) (Nat.le_of_ble_eq_true rfl) dX8_init_205 h (fun Z_69 a_70 h H hW => ?_)
  refine zw_putR (o := some a_70) S hW zC_X8 (i := 39) (by decide) (Or.inr ⟨rfl, hnm, rfl, q1538⟩) rfl (Or.inl q1538) (fun _ h => h) dX8_init_207 h (fun Z_71 h H locs hW => ?_)
  cases h
  exact kk _ _ hW
