/-! walks of the reference: X8_does X8_liftOf X8_anyDug X8_isShaft X8_isRim X8_pipeAt X8_heat X8_isPipe X8_pipe X8_cold X8_hasShaft X8_reach X8_gap X8_lift X8_cracks X8_house X8_saves X8_putsBack X8_isSlot -/
set_option maxRecDepth 100000
def tw_does (V0 : g_V) (a1 : Int32) : Option (g_V) :=
  bnd (tw_groundOf V0 a1 3) (fun x_3 => rdI (V0 24) 144 a1 fun x_4 => if 0 ≤ x_4 then (rdI (V0 1) 810 (192 + a1) fun x_8 => nmI (if 0 < (x_3 - x_8) then (x_3 - x_8) else 0) fun x_11 => nmI (if x_11 < x_4 then x_11 else x_4) fun x_13 => rdI (V0 1) 810 (336 + a1) fun x_15 => nmI (if x_15 < (x_4 - x_13) then x_15 else (x_4 - x_13)) fun x_18 => rdI (V0 1) 810 (336 + a1) fun x_20 => wrI V0 1 810 (336 + a1) (x_20 - x_18) fun V_25 => rdI (V_25 1) 810 (192 + a1) fun x_26 => wrI V_25 1 810 (192 + a1) (x_26 + (x_4 - x_18)) fun V_31 => some V_31) else (rdI (V0 1) 810 (192 + a1) fun x_32 => nmI (if 0 < (x_32 - x_3) then (x_32 - x_3) else 0) fun x_35 => nmI (if x_35 < (-x_4) then x_35 else (-x_4)) fun x_37 => bnd (tw_groundOf V0 a1 2) (fun x_41 => rdI (V0 1) 810 (336 + a1) fun x_42 => nmI (if (x_41 - x_42) < ((-x_4) - x_37) then (x_41 - x_42) else ((-x_4) - x_37)) fun x_45 => rdI (V0 1) 810 (336 + a1) fun x_47 => wrI V0 1 810 (336 + a1) (x_47 + x_45) fun V_52 => rdI (V_52 1) 810 (192 + a1) fun x_53 => wrI V_52 1 810 (192 + a1) (x_53 + (x_4 + x_45)) fun V_58 => some V_58)))
abbrev rmX8_does : Room := rm_ 1 22
set_option maxHeartbeats 4000000 in
theorem metX8_does {l : Launch} {gp : Nat → Nat} {nx : Nat} {D : va_G} {K : Nat → ClassId} {al : Nat → Nat} {V0 : g_V} {L0 : g_L} {a1 : Int32} {V' : g_V} (h : tw_does V0 a1 = some V') : Met l yX8_does (ws_ yX8_does cX8_does 6 (none)) rmX8_does (twPc gp nx [.ref (al 0), .int a1] D K al V0 L0) (twQv nx D K al V' L0) 0 0 (g_A al twSh) := by
  refine g_met rfl (Nat.le_of_ble_eq_true rfl) ?_
  intro p e s m below meth c ls S hr hlk hnm hl hW
  have S : CallFix p m c cX8_does 6 s ([.ref (al 0), .int a1] : List Value).toArray lw_all RX8 := S
  have hx := S.1
  have hb := S.2.1
  have hl : lv_has ls 6 [(0, .ref (al 0)), (1, .int a1)] := hl
  unfold tw_does at h
  refine lv_aload_n hx hb dX8_does_0 rfl (lv_at hl 0 rfl) ?_
  refine lv_iload_n hx hb dX8_does_1 rfl (lv_at hl 1 rfl) ?_
  refine lv_iconst (v := 3) hx hb dX8_does_2 (by decide) ?_
  obtain ⟨x_3, h_1, h⟩ := bnd_some h
  refine g_callVi (As := [.int a1, .int 3]) (rest := []) S hW (metX8_groundOf h_1) (cwX8_groundOf S.2.2.2.2 q1793 ⟨Nat.le_of_ble_eq_true rfl, Nat.le_of_ble_eq_true rfl⟩) (k := 0) rfl rfl rfl hl.1 rfl (Nat.le_of_ble_eq_true rfl) dX8_does_3 ⟨Nat.le_refl _, Nat.le_refl _⟩ (fun H locs hW => ?_)
  refine lv_istore_n (lv' := [(2, .int x_3), (0, .ref (al 0)), (1, .int a1)]) hx hb dX8_does_6 rfl hl (by decide) rfl (fun ls hl => ?_)
  refine lv_aload_n hx hb dX8_does_7 rfl (lv_at hl 1 rfl) ?_
  refine tw_ref S hW 24 24 (by decide) rfl q1523 rfl dX8_does_8 ?_
  refine lv_iload_n hx hb dX8_does_11 rfl (lv_at hl 2 rfl) ?_
  obtain ⟨h_5, x_4, e_6, h⟩ := rdI_some h
  refine g_iald S hW (k := 24) rfl rfl h_5 e_6 dX8_does_12 ?_
  refine lv_istore_n (lv' := [(3, .int x_4), (2, .int x_3), (0, .ref (al 0)), (1, .int a1)]) hx hb dX8_does_13 rfl hl (by decide) rfl (fun ls hl => ?_)
  refine lv_iload_n hx hb dX8_does_14 rfl (lv_at hl 0 rfl) ?_
  refine lv_if_ge (tgt := 103) hx hb dX8_does_15 (by decide) (fun c_7 => ?_) (fun c_7 => ?_)
  · have h := if_t h c_7
    refine lv_iload_n hx hb dX8_does_103 rfl (lv_at hl 0 rfl) ?_
    refine lv_iconst (v := 0) hx hb dX8_does_104 (by decide) ?_
    refine lv_iload_n hx hb dX8_does_105 rfl (lv_at hl 1 rfl) ?_
    refine lv_aload_n hx hb dX8_does_106 rfl (lv_at hl 2 rfl) ?_
    refine tw_ref S hW 1 1 (by decide) rfl q1500 rfl dX8_does_107 ?_
    refine lv_sipush (v := 192) hx hb dX8_does_110 (by decide) ?_
    refine lv_iload_n hx hb dX8_does_113 rfl (lv_at hl 3 rfl) ?_
    refine lv_iadd hx hb dX8_does_114 ?_
    obtain ⟨h_9, x_8, e_10, h⟩ := rdI_some h
    refine g_iald S hW (k := 1) rfl rfl h_9 e_10 dX8_does_115 ?_
    refine lv_isub hx hb dX8_does_116 ?_
    refine va_mmax hx hb (S.2.2.1.trans hl.1.symm) S.2.2.2.1 (S.2.2.2.2 _ q1809) (S.2.2.2.2 _ q595) (S.2.2.2.2 _ q117) (S.2.2.2.2 _ mc_max) (Nat.le_of_ble_eq_true rfl) (Nat.le_of_ble_eq_true rfl) (Nat.le_refl _) (Nat.le_refl _) dX8_does_117 ?_
    obtain ⟨x_11, e_12, h⟩ := nmI_some h
    refine g_nmi e_12 ?_
    refine va_mmin hx hb (S.2.2.1.trans hl.1.symm) S.2.2.2.1 (S.2.2.2.2 _ q1657) (S.2.2.2.2 _ q633) (S.2.2.2.2 _ q117) (S.2.2.2.2 _ mc_min) (Nat.le_of_ble_eq_true rfl) (Nat.le_of_ble_eq_true rfl) (Nat.le_refl _) (Nat.le_refl _) dX8_does_120 ?_
    obtain ⟨x_13, e_14, h⟩ := nmI_some h
    refine g_nmi e_14 ?_
    refine lv_istore (lv' := [(4, .int x_13), (3, .int x_4), (2, .int x_3), (0, .ref (al 0)), (1, .int a1)]) hx hb dX8_does_123 hl (by decide) rfl (fun ls hl => ?_)
    refine lv_iload_n hx hb dX8_does_125 rfl (lv_at hl 1 rfl) ?_
    refine lv_iload hx hb dX8_does_126 (lv_at hl 0 rfl) ?_
    refine lv_isub hx hb dX8_does_128 ?_
    refine lv_aload_n hx hb dX8_does_129 rfl (lv_at hl 3 rfl) ?_
    refine tw_ref S hW 1 1 (by decide) rfl q1500 rfl dX8_does_130 ?_
    refine lv_sipush (v := 336) hx hb dX8_does_133 (by decide) ?_
    refine lv_iload_n hx hb dX8_does_136 rfl (lv_at hl 4 rfl) ?_
    refine lv_iadd hx hb dX8_does_137 ?_
    obtain ⟨h_16, x_15, e_17, h⟩ := rdI_some h
    refine g_iald S hW (k := 1) rfl rfl h_16 e_17 dX8_does_138 ?_
    refine va_mmin hx hb (S.2.2.1.trans hl.1.symm) S.2.2.2.1 (S.2.2.2.2 _ q1657) (S.2.2.2.2 _ q633) (S.2.2.2.2 _ q117) (S.2.2.2.2 _ mc_min) (Nat.le_of_ble_eq_true rfl) (Nat.le_of_ble_eq_true rfl) (Nat.le_refl _) (Nat.le_refl _) dX8_does_139 ?_
    obtain ⟨x_18, e_19, h⟩ := nmI_some h
    refine g_nmi e_19 ?_
    refine lv_istore (lv' := [(5, .int x_18), (4, .int x_13), (3, .int x_4), (2, .int x_3), (0, .ref (al 0)), (1, .int a1)]) hx hb dX8_does_142 hl (by decide) rfl (fun ls hl => ?_)
    refine lv_aload_n hx hb dX8_does_144 rfl (lv_at hl 4 rfl) ?_
    refine tw_ref S hW 1 1 (by decide) rfl q1500 rfl dX8_does_145 ?_
    refine lv_sipush (v := 336) hx hb dX8_does_148 (by decide) ?_
    refine lv_iload_n hx hb dX8_does_151 rfl (lv_at hl 5 rfl) ?_
    refine lv_iadd hx hb dX8_does_152 ?_
    refine lv_dup2_11 hx hb dX8_does_153 rfl rfl ?_
    obtain ⟨h_21, x_20, e_22, h⟩ := rdI_some h
    refine g_iald S hW (k := 1) rfl rfl h_21 e_22 dX8_does_154 ?_
    refine lv_iload hx hb dX8_does_155 (lv_at hl 0 rfl) ?_
    refine lv_isub hx hb dX8_does_157 ?_
    obtain ⟨h_23, V_25, e_24, h⟩ := wrI_some h
    refine g_iast S hW (k := 1) rfl rfl h_23 e_24 dX8_does_158 (fun H locs hW => ?_)
    refine lv_aload_n hx hb dX8_does_159 rfl (lv_at hl 4 rfl) ?_
    refine tw_ref S hW 1 1 (by decide) rfl q1500 rfl dX8_does_160 ?_
    refine lv_sipush (v := 192) hx hb dX8_does_163 (by decide) ?_
    refine lv_iload_n hx hb dX8_does_166 rfl (lv_at hl 5 rfl) ?_
    refine lv_iadd hx hb dX8_does_167 ?_
    refine lv_dup2_11 hx hb dX8_does_168 rfl rfl ?_
    obtain ⟨h_27, x_26, e_28, h⟩ := rdI_some h
    refine g_iald S hW (k := 1) rfl rfl h_27 e_28 dX8_does_169 ?_
    refine lv_iload_n hx hb dX8_does_170 rfl (lv_at hl 2 rfl) ?_
    refine lv_iload hx hb dX8_does_171 (lv_at hl 0 rfl) ?_
    refine lv_isub hx hb dX8_does_173 ?_
    refine lv_iadd hx hb dX8_does_174 ?_
    obtain ⟨h_29, V_31, e_30, h⟩ := wrI_some h
    refine g_iast S hW (k := 1) rfl rfl h_29 e_30 dX8_does_175 (fun H locs hW => ?_)
    cases h
    exact g_vret S hr hlk hW dX8_does_176
  · have h := if_f h c_7
    refine lv_iload_n hx hb dX8_does_18 rfl (lv_at hl 0 rfl) ?_
    refine lv_ineg hx hb dX8_does_19 ?_
    refine lv_iconst (v := 0) hx hb dX8_does_20 (by decide) ?_
    refine lv_aload_n hx hb dX8_does_21 rfl (lv_at hl 2 rfl) ?_
    refine tw_ref S hW 1 1 (by decide) rfl q1500 rfl dX8_does_22 ?_
    refine lv_sipush (v := 192) hx hb dX8_does_25 (by decide) ?_
    refine lv_iload_n hx hb dX8_does_28 rfl (lv_at hl 3 rfl) ?_
    refine lv_iadd hx hb dX8_does_29 ?_
    obtain ⟨h_33, x_32, e_34, h⟩ := rdI_some h
    refine g_iald S hW (k := 1) rfl rfl h_33 e_34 dX8_does_30 ?_
    refine lv_iload_n hx hb dX8_does_31 rfl (lv_at hl 1 rfl) ?_
    refine lv_isub hx hb dX8_does_32 ?_
    refine va_mmax hx hb (S.2.2.1.trans hl.1.symm) S.2.2.2.1 (S.2.2.2.2 _ q1809) (S.2.2.2.2 _ q595) (S.2.2.2.2 _ q117) (S.2.2.2.2 _ mc_max) (Nat.le_of_ble_eq_true rfl) (Nat.le_of_ble_eq_true rfl) (Nat.le_refl _) (Nat.le_refl _) dX8_does_33 ?_
    obtain ⟨x_35, e_36, h⟩ := nmI_some h
    refine g_nmi e_36 ?_
    refine va_mmin hx hb (S.2.2.1.trans hl.1.symm) S.2.2.2.1 (S.2.2.2.2 _ q1657) (S.2.2.2.2 _ q633) (S.2.2.2.2 _ q117) (S.2.2.2.2 _ mc_min) (Nat.le_of_ble_eq_true rfl) (Nat.le_of_ble_eq_true rfl) (Nat.le_refl _) (Nat.le_refl _) dX8_does_36 ?_
    obtain ⟨x_37, e_38, h⟩ := nmI_some h
    refine g_nmi e_38 ?_
    refine lv_istore (lv' := [(4, .int x_37), (3, .int x_4), (2, .int x_3), (0, .ref (al 0)), (1, .int a1)]) hx hb dX8_does_39 hl (by decide) rfl (fun ls hl => ?_)
    refine lv_iload_n hx hb dX8_does_41 rfl (lv_at hl 1 rfl) ?_
    refine lv_ineg hx hb dX8_does_42 ?_
    refine lv_iload hx hb dX8_does_43 (lv_at hl 0 rfl) ?_
    refine lv_isub hx hb dX8_does_45 ?_
    refine lv_aload_n hx hb dX8_does_46 rfl (lv_at hl 3 rfl) ?_
    refine lv_iload_n hx hb dX8_does_47 rfl (lv_at hl 4 rfl) ?_
    refine lv_iconst (v := 2) hx hb dX8_does_48 (by decide) ?_
    obtain ⟨x_41, h_39, h⟩ := bnd_some h
    refine g_callVi (As := [.int a1, .int 2]) (rest := [.int ((-x_4) - x_37)]) S hW (metX8_groundOf h_39) (cwX8_groundOf S.2.2.2.2 q1793 ⟨Nat.le_of_ble_eq_true rfl, Nat.le_of_ble_eq_true rfl⟩) (k := 0) rfl rfl rfl hl.1 rfl (Nat.le_of_ble_eq_true rfl) dX8_does_49 ⟨Nat.le_refl _, Nat.le_refl _⟩ (fun H locs hW => ?_)
    refine lv_aload_n hx hb dX8_does_52 rfl (lv_at hl 3 rfl) ?_
    refine tw_ref S hW 1 1 (by decide) rfl q1500 rfl dX8_does_53 ?_
    refine lv_sipush (v := 336) hx hb dX8_does_56 (by decide) ?_
    refine lv_iload_n hx hb dX8_does_59 rfl (lv_at hl 4 rfl) ?_
    refine lv_iadd hx hb dX8_does_60 ?_
    obtain ⟨h_43, x_42, e_44, h⟩ := rdI_some h
    refine g_iald S hW (k := 1) rfl rfl h_43 e_44 dX8_does_61 ?_
    refine lv_isub hx hb dX8_does_62 ?_
    refine va_mmin hx hb (S.2.2.1.trans hl.1.symm) S.2.2.2.1 (S.2.2.2.2 _ q1657) (S.2.2.2.2 _ q633) (S.2.2.2.2 _ q117) (S.2.2.2.2 _ mc_min) (Nat.le_of_ble_eq_true rfl) (Nat.le_of_ble_eq_true rfl) (Nat.le_refl _) (Nat.le_refl _) dX8_does_63 ?_
    obtain ⟨x_45, e_46, h⟩ := nmI_some h
    refine g_nmi e_46 ?_
    refine lv_istore (lv' := [(5, .int x_45), (4, .int x_37), (3, .int x_4), (2, .int x_3), (0, .ref (al 0)), (1, .int a1)]) hx hb dX8_does_66 hl (by decide) rfl (fun ls hl => ?_)
    refine lv_aload_n hx hb dX8_does_68 rfl (lv_at hl 4 rfl) ?_
    refine tw_ref S hW 1 1 (by decide) rfl q1500 rfl dX8_does_69 ?_
    refine lv_sipush (v := 336) hx hb dX8_does_72 (by decide) ?_
    refine lv_iload_n hx hb dX8_does_75 rfl (lv_at hl 5 rfl) ?_
    refine lv_iadd hx hb dX8_does_76 ?_
    refine lv_dup2_11 hx hb dX8_does_77 rfl rfl ?_
    obtain ⟨h_48, x_47, e_49, h⟩ := rdI_some h
    refine g_iald S hW (k := 1) rfl rfl h_48 e_49 dX8_does_78 ?_
    refine lv_iload hx hb dX8_does_79 (lv_at hl 0 rfl) ?_
    refine lv_iadd hx hb dX8_does_81 ?_
    obtain ⟨h_50, V_52, e_51, h⟩ := wrI_some h
    refine g_iast S hW (k := 1) rfl rfl h_50 e_51 dX8_does_82 (fun H locs hW => ?_)
    refine lv_aload_n hx hb dX8_does_83 rfl (lv_at hl 4 rfl) ?_
    refine tw_ref S hW 1 1 (by decide) rfl q1500 rfl dX8_does_84 ?_
    refine lv_sipush (v := 192) hx hb dX8_does_87 (by decide) ?_
    refine lv_iload_n hx hb dX8_does_90 rfl (lv_at hl 5 rfl) ?_
    refine lv_iadd hx hb dX8_does_91 ?_
    refine lv_dup2_11 hx hb dX8_does_92 rfl rfl ?_
    obtain ⟨h_54, x_53, e_55, h⟩ := rdI_some h
    refine g_iald S hW (k := 1) rfl rfl h_54 e_55 dX8_does_93 ?_
    refine lv_iload_n hx hb dX8_does_94 rfl (lv_at hl 2 rfl) ?_
    refine lv_iload hx hb dX8_does_95 (lv_at hl 0 rfl) ?_
    refine lv_iadd hx hb dX8_does_97 ?_
    refine lv_iadd hx hb dX8_does_98 ?_
    obtain ⟨h_56, V_58, e_57, h⟩ := wrI_some h
    refine g_iast S hW (k := 1) rfl rfl h_56 e_57 dX8_does_99 (fun H locs hW => ?_)
    refine lv_goto (tgt := 176) hx hb dX8_does_100 (by decide) ?_
    cases h
    exact g_vret S hr hlk hW dX8_does_176
theorem cwX8_does {R : Room} {s : State} {args : Array Value} {index : Nat} (hts : ∀ w ∈ lw_all, w.before args s = true) (hl : Cond.methodLink RX8 index yX8_does ∈ lw_all) (hR : rmX8_does.frames + 1 ≤ R.frames ∧ 8 + (6 + 11) + rmX8_does.locals ≤ R.locals) : CallW R s args RX8 RX8 index yX8_does cX8_does 6 (none) (ws_ yX8_does cX8_does 6 (none)) rmX8_does 0 0 1 := cwV 1 hts (lw_V hl q1807 qs82 q122 q1808) rfl rfl rfl (by decide +kernel) hR
def tw_liftOf_B4 (x1 : Int32) (V : g_V) (rec : Int32 → Int32 → Option (Int32)) (x2 : Int32) (x3 : Int32) : Option (Int32) :=
  if 12 ≤ x3 then (some x2) else (bnd (tw_isDug V ((12 * x3) + x1)) (fun x_4 => if x_4 = 0 then (rdI (V 1) 810 ((336 + (12 * x3)) + x1) fun x_6 => nmI (x2 + (x_6 / 10)) fun x_9 => nmI (x3 + 1) fun x_11 => rec x_9 x_11) else (nmI (x2 + 0) fun x_13 => nmI (x3 + 1) fun x_15 => rec x_13 x_15)))
abbrev tw_liftOf_F4 (x1 : Int32) (V : g_V) : ((Int32 × Int32) → Option (Int32)) → (Int32 × Int32) → Option (Int32) := fun rec s => tw_liftOf_B4 x1 V (fun x2 x3 => rec (x2, x3)) s.1 s.2
def tw_liftOf_L4 (x1 : Int32) (V : g_V) (n : Nat) (x2 : Int32) (x3 : Int32) : Option (Int32) := lp (tw_liftOf_F4 x1 V) n (x2, x3)
theorem tw_liftOf_L4_s (x1 : Int32) (V : g_V) (n : Nat) (x2 : Int32) (x3 : Int32) : tw_liftOf_L4 x1 V (n + 1) x2 x3 = tw_liftOf_B4 x1 V (fun x2 x3 => tw_liftOf_L4 x1 V n x2 x3) x2 x3 := lp_s (tw_liftOf_F4 x1 V) n (x2, x3)
def tw_liftOf (V0 : g_V) (a1 : Int32) : Option (Int32) :=
  bnd (tw_liftOf_L4 a1 V0 1000 0 0) (fun x_19 => some x_19)
abbrev rmX8_liftOf : Room := rm_ 1 21
set_option maxHeartbeats 4000000 in
theorem metX8_liftOf {l : Launch} {gp : Nat → Nat} {nx : Nat} {D : va_G} {K : Nat → ClassId} {al : Nat → Nat} {V0 : g_V} {L0 : g_L} {a1 : Int32} {r : Int32} (h : tw_liftOf V0 a1 = some r) : Met l yX8_liftOf (ws_ yX8_liftOf cX8_liftOf 4 (some .int)) rmX8_liftOf (twPc gp nx [.ref (al 0), .int a1] D K al V0 L0) (twQi r nx D K al V0 L0) 0 0 (g_A al twSh) := by
  refine g_met rfl (Nat.le_of_ble_eq_true rfl) ?_
  intro p e s m below meth c ls S hr hlk hnm hl hW
  have S : CallFix p m c cX8_liftOf 4 s ([.ref (al 0), .int a1] : List Value).toArray lw_all RX8 := S
  have hx := S.1
  have hb := S.2.1
  have hl : lv_has ls 4 [(0, .ref (al 0)), (1, .int a1)] := hl
  have Lp4 : ∀ (x1 : Int32) (V : g_V) (L : g_L) (n : Nat) (x2 : Int32) (x3 : Int32) (out : (Int32)) (H : Heap) (locs : List Loc) (ls : Array Slot), tw_liftOf_L4 x1 V n x2 x3 = some out → twW gp nx D K al s V L H locs → lv_has ls 4 [(0, .ref (al 0)), (1, .int x1), (2, .int x2), (3, .int x3)] → (∀ (o2 : Int32), out = o2 → ∀ (H : Heap) (locs : List Loc) (ls : Array Slot), twW gp nx D K al s V L H locs → lv_has ls 4 [(2, .int o2)] → W p l e rmX8_liftOf s m ([.ref (al 0), .int a1] : List Value).toArray below meth c H locs 0 0 (MQ below (twQi r nx D K al V0 L0) ([.ref (al 0), .int a1] : List Value).toArray s 0 0 (g_A al twSh)) (F0 m 54 ls [])) → W p l e rmX8_liftOf s m ([.ref (al 0), .int a1] : List Value).toArray below meth c H locs 0 0 (MQ below (twQi r nx D K al V0 L0) ([.ref (al 0), .int a1] : List Value).toArray s 0 0 (g_A al twSh)) (F0 m 4 ls []) := by
    intro x1 V L n
    induction n with
    | zero =>
      intro x2 x3 out H locs ls h
      exact (lp_0 h).elim
    | succ n ih =>
      intro x2 x3 out H locs ls h hW hl k1
      rw [tw_liftOf_L4_s] at h
      unfold tw_liftOf_B4 at h
      refine lv_iload_n hx hb dX8_liftOf_4 rfl (lv_at hl 3 rfl) ?_
      refine lv_bipush (v := 12) hx hb dX8_liftOf_5 (by decide) ?_
      refine lv_icmp_ge (tgt := 54) hx hb dX8_liftOf_7 (by decide) (fun c_1 => ?_) (fun c_1 => ?_)
      · have h := if_t h c_1
        exact k1 _ (Option.some.inj h).symm _ _ _ hW (lv_sub hl [2] rfl)
      · have h := if_f h c_1
        refine lv_iload_n hx hb dX8_liftOf_10 rfl (lv_at hl 2 rfl) ?_
        refine lv_aload_n hx hb dX8_liftOf_11 rfl (lv_at hl 0 rfl) ?_
        refine lv_bipush (v := 12) hx hb dX8_liftOf_12 (by decide) ?_
        refine lv_iload_n hx hb dX8_liftOf_14 rfl (lv_at hl 3 rfl) ?_
        refine lv_imul hx hb dX8_liftOf_15 ?_
        refine lv_iload_n hx hb dX8_liftOf_16 rfl (lv_at hl 1 rfl) ?_
        refine lv_iadd hx hb dX8_liftOf_17 ?_
        obtain ⟨x_4, h_2, h⟩ := bnd_some h
        refine g_callVi (As := [.int ((12 * x3) + x1)]) (rest := [.int x2]) S hW (metX8_isDug h_2) (cwX8_isDug S.2.2.2.2 q1771 ⟨Nat.le_of_ble_eq_true rfl, Nat.le_of_ble_eq_true rfl⟩) (k := 0) rfl rfl rfl hl.1 rfl (Nat.le_of_ble_eq_true rfl) dX8_liftOf_18 ⟨Nat.le_refl _, Nat.le_refl _⟩ (fun H locs hW => ?_)
        refine lv_if_eq (tgt := 28) hx hb dX8_liftOf_21 (by decide) (fun c_5 => ?_) (fun c_5 => ?_)
        · have h := if_t h c_5
          refine lv_aload_n hx hb dX8_liftOf_28 rfl (lv_at hl 0 rfl) ?_
          refine tw_ref S hW 1 1 (by decide) rfl q1500 rfl dX8_liftOf_29 ?_
          refine lv_sipush (v := 336) hx hb dX8_liftOf_32 (by decide) ?_
          refine lv_bipush (v := 12) hx hb dX8_liftOf_35 (by decide) ?_
          refine lv_iload_n hx hb dX8_liftOf_37 rfl (lv_at hl 3 rfl) ?_
          refine lv_imul hx hb dX8_liftOf_38 ?_
          refine lv_iadd hx hb dX8_liftOf_39 ?_
          refine lv_iload_n hx hb dX8_liftOf_40 rfl (lv_at hl 1 rfl) ?_
          refine lv_iadd hx hb dX8_liftOf_41 ?_
          obtain ⟨h_7, x_6, e_8, h⟩ := rdI_some h
          refine g_iald S hW (k := 1) rfl rfl h_7 e_8 dX8_liftOf_42 ?_
          refine lv_bipush (v := 10) hx hb dX8_liftOf_43 (by decide) ?_
          refine lv_idiv hx hb dX8_liftOf_45 (by decide) ?_
          refine lv_iadd hx hb dX8_liftOf_46 ?_
          obtain ⟨x_9, e_10, h⟩ := nmI_some h
          refine g_nmi e_10 ?_
          refine lv_istore_n (lv' := [(2, .int x_9), (0, .ref (al 0)), (1, .int x1), (3, .int x3)]) hx hb dX8_liftOf_47 rfl hl (by decide) rfl (fun ls hl => ?_)
          obtain ⟨x_11, e_12, h⟩ := nmI_some h
          refine lv_iinc (v := x_11) (lv' := [(3, .int x_11), (2, .int x_9), (0, .ref (al 0)), (1, .int x1)]) hx hb dX8_liftOf_48 hl (k := 3) rfl (by rw [e_12]; rfl) (by decide) rfl (fun ls hl => ?_)
          refine lv_goto (tgt := 4) hx hb dX8_liftOf_51 (by decide) ?_
          exact ih x_9 x_11 out _ _ _ h hW (lv_sub hl [2, 3, 1, 0] rfl) k1
        · have h := if_f h c_5
          refine lv_iconst (v := 0) hx hb dX8_liftOf_24 (by decide) ?_
          refine lv_goto (tgt := 46) hx hb dX8_liftOf_25 (by decide) ?_
          refine lv_iadd hx hb dX8_liftOf_46 ?_
          obtain ⟨x_13, e_14, h⟩ := nmI_some h
          refine g_nmi e_14 ?_
          refine lv_istore_n (lv' := [(2, .int x_13), (0, .ref (al 0)), (1, .int x1), (3, .int x3)]) hx hb dX8_liftOf_47 rfl hl (by decide) rfl (fun ls hl => ?_)
          obtain ⟨x_15, e_16, h⟩ := nmI_some h
          refine lv_iinc (v := x_15) (lv' := [(3, .int x_15), (2, .int x_13), (0, .ref (al 0)), (1, .int x1)]) hx hb dX8_liftOf_48 hl (k := 3) rfl (by rw [e_16]; rfl) (by decide) rfl (fun ls hl => ?_)
          refine lv_goto (tgt := 4) hx hb dX8_liftOf_51 (by decide) ?_
          exact ih x_13 x_15 out _ _ _ h hW (lv_sub hl [2, 3, 1, 0] rfl) k1
  unfold tw_liftOf at h
  refine lv_iconst (v := 0) hx hb dX8_liftOf_0 (by decide) ?_
  refine lv_istore_n (lv' := [(2, .int 0), (0, .ref (al 0)), (1, .int a1)]) hx hb dX8_liftOf_1 rfl hl (by decide) rfl (fun ls hl => ?_)
  refine lv_iconst (v := 0) hx hb dX8_liftOf_2 (by decide) ?_
  refine lv_istore_n (lv' := [(3, .int 0), (2, .int 0), (0, .ref (al 0)), (1, .int a1)]) hx hb dX8_liftOf_3 rfl hl (by decide) rfl (fun ls hl => ?_)
  obtain ⟨x_19, h_18, h⟩ := bnd_some h
  refine Lp4 a1 V0 L0 1000 0 0  _ _ _ _ h_18 hW (lv_sub hl [2, 3, 1, 0] rfl) ?_
  intro w0 eo H locs ls hW hl
  subst eo
  refine lv_iload_n hx hb dX8_liftOf_54 rfl (lv_at hl 0 rfl) ?_
  cases h
  exact g_iret S hr hlk hW dX8_liftOf_55
theorem cwX8_liftOf {R : Room} {s : State} {args : Array Value} {index : Nat} (hts : ∀ w ∈ lw_all, w.before args s = true) (hl : Cond.methodLink RX8 index yX8_liftOf ∈ lw_all) (hR : rmX8_liftOf.frames + 1 ≤ R.frames ∧ 8 + (4 + 11) + rmX8_liftOf.locals ≤ R.locals) : CallW R s args RX8 RX8 index yX8_liftOf cX8_liftOf 4 (some .int) (ws_ yX8_liftOf cX8_liftOf 4 (some .int)) rmX8_liftOf 0 0 1 := cwV 1 hts (lw_V hl q1812 qs83 q122 q1813) rfl rfl rfl (by decide +kernel) hR
def tw_anyDug_B4 (V : g_V) (rec : Int32 → Int32 → Option (Int32)) (x1 : Int32) (x2 : Int32) : Option (Int32) :=
  if 144 ≤ x2 then (some x1) else (if x1 = 0 then (bnd (tw_isDug V x2) (fun x_7 => if x_7 = 0 then (nmI (x2 + 1) fun x_9 => rec 0 x_9) else (nmI (x2 + 1) fun x_11 => rec 1 x_11))) else (nmI (x2 + 1) fun x_3 => rec 1 x_3))
abbrev tw_anyDug_F4 (V : g_V) : ((Int32 × Int32) → Option (Int32)) → (Int32 × Int32) → Option (Int32) := fun rec s => tw_anyDug_B4 V (fun x1 x2 => rec (x1, x2)) s.1 s.2
def tw_anyDug_L4 (V : g_V) (n : Nat) (x1 : Int32) (x2 : Int32) : Option (Int32) := lp (tw_anyDug_F4 V) n (x1, x2)
theorem tw_anyDug_L4_s (V : g_V) (n : Nat) (x1 : Int32) (x2 : Int32) : tw_anyDug_L4 V (n + 1) x1 x2 = tw_anyDug_B4 V (fun x1 x2 => tw_anyDug_L4 V n x1 x2) x1 x2 := lp_s (tw_anyDug_F4 V) n (x1, x2)
def tw_anyDug (V0 : g_V) : Option (Int32) :=
  bnd (tw_anyDug_L4 V0 1000 0 0) (fun x_15 => okI (isB x_15) <| some x_15)
abbrev rmX8_anyDug : Room := rm_ 1 21
set_option maxHeartbeats 4000000 in
theorem metX8_anyDug {l : Launch} {gp : Nat → Nat} {nx : Nat} {D : va_G} {K : Nat → ClassId} {al : Nat → Nat} {V0 : g_V} {L0 : g_L} {r : Int32} (h : tw_anyDug V0 = some r) : Met l yX8_anyDug (ws_ yX8_anyDug cX8_anyDug 3 (some .boolean)) rmX8_anyDug (twPc gp nx [.ref (al 0)] D K al V0 L0) (twQi r nx D K al V0 L0) 0 0 (g_A al twSh) := by
  refine g_met rfl (Nat.le_of_ble_eq_true rfl) ?_
  intro p e s m below meth c ls S hr hlk hnm hl hW
  have S : CallFix p m c cX8_anyDug 3 s ([.ref (al 0)] : List Value).toArray lw_all RX8 := S
  have hx := S.1
  have hb := S.2.1
  have hl : lv_has ls 3 [(0, .ref (al 0))] := hl
  have Lp4 : ∀ (V : g_V) (L : g_L) (n : Nat) (x1 : Int32) (x2 : Int32) (out : (Int32)) (H : Heap) (locs : List Loc) (ls : Array Slot), tw_anyDug_L4 V n x1 x2 = some out → twW gp nx D K al s V L H locs → lv_has ls 3 [(0, .ref (al 0)), (1, .int x1), (2, .int x2)] → (∀ (o1 : Int32), out = o1 → ∀ (H : Heap) (locs : List Loc) (ls : Array Slot), twW gp nx D K al s V L H locs → lv_has ls 3 [(1, .int o1)] → W p l e rmX8_anyDug s m ([.ref (al 0)] : List Value).toArray below meth c H locs 0 0 (MQ below (twQi r nx D K al V0 L0) ([.ref (al 0)] : List Value).toArray s 0 0 (g_A al twSh)) (F0 m 35 ls [])) → W p l e rmX8_anyDug s m ([.ref (al 0)] : List Value).toArray below meth c H locs 0 0 (MQ below (twQi r nx D K al V0 L0) ([.ref (al 0)] : List Value).toArray s 0 0 (g_A al twSh)) (F0 m 4 ls []) := by
    intro V L n
    induction n with
    | zero =>
      intro x1 x2 out H locs ls h
      exact (lp_0 h).elim
    | succ n ih =>
      intro x1 x2 out H locs ls h hW hl k1
      rw [tw_anyDug_L4_s] at h
      unfold tw_anyDug_B4 at h
      refine lv_iload_n hx hb dX8_anyDug_4 rfl (lv_at hl 2 rfl) ?_
      refine lv_sipush (v := 144) hx hb dX8_anyDug_5 (by decide) ?_
      refine lv_icmp_ge (tgt := 35) hx hb dX8_anyDug_8 (by decide) (fun c_1 => ?_) (fun c_1 => ?_)
      · have h := if_t h c_1
        exact k1 _ (Option.some.inj h).symm _ _ _ hW (lv_sub hl [1] rfl)
      · have h := if_f h c_1
        refine lv_iload_n hx hb dX8_anyDug_11 rfl (lv_at hl 1 rfl) ?_
        refine lv_if_ne (tgt := 23) hx hb dX8_anyDug_12 (by decide) (fun c_2 => ?_) (fun c_2 => ?_)
        · have h := if_f h c_2
          refine lv_iconst (v := 1) hx hb dX8_anyDug_23 (by decide) ?_
          refine lv_goto (tgt := 28) hx hb dX8_anyDug_24 (by decide) ?_
          refine lv_istore_n (lv' := [(1, .int 1), (0, .ref (al 0)), (2, .int x2)]) hx hb dX8_anyDug_28 rfl hl (by decide) rfl (fun ls hl => ?_)
          obtain ⟨x_3, e_4, h⟩ := nmI_some h
          refine lv_iinc (v := x_3) (lv' := [(2, .int x_3), (1, .int 1), (0, .ref (al 0))]) hx hb dX8_anyDug_29 hl (k := 2) rfl (by rw [e_4]; rfl) (by decide) rfl (fun ls hl => ?_)
          refine lv_goto (tgt := 4) hx hb dX8_anyDug_32 (by decide) ?_
          exact ih 1 x_3 out _ _ _ h hW (lv_sub hl [2, 1, 0] rfl) k1
        · have h := if_t h c_2
          refine lv_aload_n hx hb dX8_anyDug_15 rfl (lv_at hl 0 rfl) ?_
          refine lv_iload_n hx hb dX8_anyDug_16 rfl (lv_at hl 2 rfl) ?_
          obtain ⟨x_7, h_5, h⟩ := bnd_some h
          refine g_callVi (As := [.int x2]) (rest := []) S hW (metX8_isDug h_5) (cwX8_isDug S.2.2.2.2 q1771 ⟨Nat.le_of_ble_eq_true rfl, Nat.le_of_ble_eq_true rfl⟩) (k := 0) rfl rfl rfl hl.1 rfl (Nat.le_of_ble_eq_true rfl) dX8_anyDug_17 ⟨Nat.le_refl _, Nat.le_refl _⟩ (fun H locs hW => ?_)
          refine lv_if_eq (tgt := 27) hx hb dX8_anyDug_20 (by decide) (fun c_8 => ?_) (fun c_8 => ?_)
          · have h := if_t h c_8
            refine lv_iconst (v := 0) hx hb dX8_anyDug_27 (by decide) ?_
            refine lv_istore_n (lv' := [(1, .int 0), (0, .ref (al 0)), (2, .int x2)]) hx hb dX8_anyDug_28 rfl hl (by decide) rfl (fun ls hl => ?_)
            obtain ⟨x_9, e_10, h⟩ := nmI_some h
            refine lv_iinc (v := x_9) (lv' := [(2, .int x_9), (1, .int 0), (0, .ref (al 0))]) hx hb dX8_anyDug_29 hl (k := 2) rfl (by rw [e_10]; rfl) (by decide) rfl (fun ls hl => ?_)
            refine lv_goto (tgt := 4) hx hb dX8_anyDug_32 (by decide) ?_
            exact ih 0 x_9 out _ _ _ h hW (lv_sub hl [2, 1, 0] rfl) k1
          · have h := if_f h c_8
            refine lv_iconst (v := 1) hx hb dX8_anyDug_23 (by decide) ?_
            refine lv_goto (tgt := 28) hx hb dX8_anyDug_24 (by decide) ?_
            refine lv_istore_n (lv' := [(1, .int 1), (0, .ref (al 0)), (2, .int x2)]) hx hb dX8_anyDug_28 rfl hl (by decide) rfl (fun ls hl => ?_)
            obtain ⟨x_11, e_12, h⟩ := nmI_some h
            refine lv_iinc (v := x_11) (lv' := [(2, .int x_11), (1, .int 1), (0, .ref (al 0))]) hx hb dX8_anyDug_29 hl (k := 2) rfl (by rw [e_12]; rfl) (by decide) rfl (fun ls hl => ?_)
            refine lv_goto (tgt := 4) hx hb dX8_anyDug_32 (by decide) ?_
            exact ih 1 x_11 out _ _ _ h hW (lv_sub hl [2, 1, 0] rfl) k1
  unfold tw_anyDug at h
  refine lv_iconst (v := 0) hx hb dX8_anyDug_0 (by decide) ?_
  refine lv_istore_n (lv' := [(1, .int 0), (0, .ref (al 0))]) hx hb dX8_anyDug_1 rfl hl (by decide) rfl (fun ls hl => ?_)
  refine lv_iconst (v := 0) hx hb dX8_anyDug_2 (by decide) ?_
  refine lv_istore_n (lv' := [(2, .int 0), (1, .int 0), (0, .ref (al 0))]) hx hb dX8_anyDug_3 rfl hl (by decide) rfl (fun ls hl => ?_)
  obtain ⟨x_15, h_14, h⟩ := bnd_some h
  refine Lp4 V0 L0 1000 0 0  _ _ _ _ h_14 hW (lv_sub hl [2, 1, 0] rfl) ?_
  intro w0 eo H locs ls hW hl
  subst eo
  refine lv_iload_n hx hb dX8_anyDug_35 rfl (lv_at hl 0 rfl) ?_
  obtain ⟨h_16, h⟩ := okI_some h
  cases h
  exact g_zret S hr hlk (isB_narrow h_16) hW dX8_anyDug_36
theorem cwX8_anyDug {R : Room} {s : State} {args : Array Value} {index : Nat} (hts : ∀ w ∈ lw_all, w.before args s = true) (hl : Cond.methodLink RX8 index yX8_anyDug ∈ lw_all) (hR : rmX8_anyDug.frames + 1 ≤ R.frames ∧ 8 + (3 + 11) + rmX8_anyDug.locals ≤ R.locals) : CallW R s args RX8 RX8 index yX8_anyDug cX8_anyDug 3 (some .boolean) (ws_ yX8_anyDug cX8_anyDug 3 (some .boolean)) rmX8_anyDug 0 0 0 := cwV 0 hts (lw_V hl q1817 qs84 q122 q1818) rfl rfl rfl (by decide +kernel) hR
def tw_isShaft (V0 : g_V) (a1 : Int32) : Option (Int32) :=
  rdI (V0 1) 810 7 fun x_1 => if x_1 = 1 then (rdI (V0 1) 810 8 fun x_5 => rdI (V0 1) 810 10 fun x_8 => bnd (tw_in ((a1 - a1 / 12 * 12).toInt64) x_5.toInt64 x_8.toInt64) (fun x_13 => if x_13 = 0 then (some 0) else (rdI (V0 1) 810 9 fun x_15 => rdI (V0 1) 810 11 fun x_18 => bnd (tw_in ((a1 / 12).toInt64) x_15.toInt64 x_18.toInt64) (fun x_23 => if x_23 = 0 then (some 0) else (some 1))))) else (some 0)
abbrev rmX8_isShaft : Room := rm_ 1 25
set_option maxHeartbeats 4000000 in
theorem metX8_isShaft {l : Launch} {gp : Nat → Nat} {nx : Nat} {D : va_G} {K : Nat → ClassId} {al : Nat → Nat} {V0 : g_V} {L0 : g_L} {a1 : Int32} {r : Int32} (h : tw_isShaft V0 a1 = some r) : Met l yX8_isShaft (ws_ yX8_isShaft cX8_isShaft 2 (some .boolean)) rmX8_isShaft (twPc gp nx [.ref (al 0), .int a1] D K al V0 L0) (twQi r nx D K al V0 L0) 0 0 (g_A al twSh) := by
  refine g_met rfl (Nat.le_of_ble_eq_true rfl) ?_
  intro p e s m below meth c ls S hr hlk hnm hl hW
  have S : CallFix p m c cX8_isShaft 2 s ([.ref (al 0), .int a1] : List Value).toArray lw_all RX8 := S
  have hx := S.1
  have hb := S.2.1
  have hl : lv_has ls 2 [(0, .ref (al 0)), (1, .int a1)] := hl
  unfold tw_isShaft at h
  refine lv_aload_n hx hb dX8_isShaft_0 rfl (lv_at hl 0 rfl) ?_
  refine tw_ref S hW 1 1 (by decide) rfl q1500 rfl dX8_isShaft_1 ?_
  refine lv_bipush (v := 7) hx hb dX8_isShaft_4 (by decide) ?_
  obtain ⟨h_2, x_1, e_3, h⟩ := rdI_some h
  refine g_iald S hW (k := 1) rfl rfl h_2 e_3 dX8_isShaft_6 ?_
  refine lv_iconst (v := 1) hx hb dX8_isShaft_7 (by decide) ?_
  refine lv_icmp_ne (tgt := 69) hx hb dX8_isShaft_8 (by decide) (fun c_4 => ?_) (fun c_4 => ?_)
  · have h := if_f h c_4
    refine lv_iconst (v := 0) hx hb dX8_isShaft_69 (by decide) ?_
    cases h
    exact g_zret S hr hlk rfl hW dX8_isShaft_70
  · have h := if_t h c_4
    refine lv_iload_n hx hb dX8_isShaft_11 rfl (lv_at hl 1 rfl) ?_
    refine lv_bipush (v := 12) hx hb dX8_isShaft_12 (by decide) ?_
    refine lv_irem hx hb dX8_isShaft_14 (by decide) ?_
    refine lv_i2l (v := (a1 - a1 / 12 * 12).toInt64) hx hb dX8_isShaft_15 rfl ?_
    refine lv_aload_n hx hb dX8_isShaft_16 rfl (lv_at hl 0 rfl) ?_
    refine tw_ref S hW 1 1 (by decide) rfl q1500 rfl dX8_isShaft_17 ?_
    refine lv_bipush (v := 8) hx hb dX8_isShaft_20 (by decide) ?_
    obtain ⟨h_6, x_5, e_7, h⟩ := rdI_some h
    refine g_iald S hW (k := 1) rfl rfl h_6 e_7 dX8_isShaft_22 ?_
    refine lv_i2l (v := x_5.toInt64) hx hb dX8_isShaft_23 rfl ?_
    refine lv_aload_n hx hb dX8_isShaft_24 rfl (lv_at hl 0 rfl) ?_
    refine tw_ref S hW 1 1 (by decide) rfl q1500 rfl dX8_isShaft_25 ?_
    refine lv_bipush (v := 10) hx hb dX8_isShaft_28 (by decide) ?_
    obtain ⟨h_9, x_8, e_10, h⟩ := rdI_some h
    refine g_iald S hW (k := 1) rfl rfl h_9 e_10 dX8_isShaft_30 ?_
    refine lv_i2l (v := x_8.toInt64) hx hb dX8_isShaft_31 rfl ?_
    obtain ⟨x_13, h_11, h⟩ := bnd_some h
    refine g_callSi (As := [.long ((a1 - a1 / 12 * 12).toInt64), .long x_5.toInt64, .long x_8.toInt64]) (rest := []) S hW (metX8_in h_11) (cwX8_in S.2.2.2.2 q1625 ⟨Nat.le_of_ble_eq_true rfl, Nat.le_of_ble_eq_true rfl⟩) rfl hl.1 rfl (Nat.le_of_ble_eq_true rfl) dX8_isShaft_32 ⟨Nat.le_refl _, Nat.le_refl _⟩ (fun H locs hW => ?_)
    refine lv_if_eq (tgt := 69) hx hb dX8_isShaft_35 (by decide) (fun c_14 => ?_) (fun c_14 => ?_)
    · have h := if_t h c_14
      refine lv_iconst (v := 0) hx hb dX8_isShaft_69 (by decide) ?_
      cases h
      exact g_zret S hr hlk rfl hW dX8_isShaft_70
    · have h := if_f h c_14
      refine lv_iload_n hx hb dX8_isShaft_38 rfl (lv_at hl 1 rfl) ?_
      refine lv_bipush (v := 12) hx hb dX8_isShaft_39 (by decide) ?_
      refine lv_idiv hx hb dX8_isShaft_41 (by decide) ?_
      refine lv_i2l (v := (a1 / 12).toInt64) hx hb dX8_isShaft_42 rfl ?_
      refine lv_aload_n hx hb dX8_isShaft_43 rfl (lv_at hl 0 rfl) ?_
      refine tw_ref S hW 1 1 (by decide) rfl q1500 rfl dX8_isShaft_44 ?_
      refine lv_bipush (v := 9) hx hb dX8_isShaft_47 (by decide) ?_
      obtain ⟨h_16, x_15, e_17, h⟩ := rdI_some h
      refine g_iald S hW (k := 1) rfl rfl h_16 e_17 dX8_isShaft_49 ?_
      refine lv_i2l (v := x_15.toInt64) hx hb dX8_isShaft_50 rfl ?_
      refine lv_aload_n hx hb dX8_isShaft_51 rfl (lv_at hl 0 rfl) ?_
      refine tw_ref S hW 1 1 (by decide) rfl q1500 rfl dX8_isShaft_52 ?_
      refine lv_bipush (v := 11) hx hb dX8_isShaft_55 (by decide) ?_
      obtain ⟨h_19, x_18, e_20, h⟩ := rdI_some h
      refine g_iald S hW (k := 1) rfl rfl h_19 e_20 dX8_isShaft_57 ?_
      refine lv_i2l (v := x_18.toInt64) hx hb dX8_isShaft_58 rfl ?_
      obtain ⟨x_23, h_21, h⟩ := bnd_some h
      refine g_callSi (As := [.long ((a1 / 12).toInt64), .long x_15.toInt64, .long x_18.toInt64]) (rest := []) S hW (metX8_in h_21) (cwX8_in S.2.2.2.2 q1625 ⟨Nat.le_of_ble_eq_true rfl, Nat.le_of_ble_eq_true rfl⟩) rfl hl.1 rfl (Nat.le_of_ble_eq_true rfl) dX8_isShaft_59 ⟨Nat.le_refl _, Nat.le_refl _⟩ (fun H locs hW => ?_)
      refine lv_if_eq (tgt := 69) hx hb dX8_isShaft_62 (by decide) (fun c_24 => ?_) (fun c_24 => ?_)
      · have h := if_t h c_24
        refine lv_iconst (v := 0) hx hb dX8_isShaft_69 (by decide) ?_
        cases h
        exact g_zret S hr hlk rfl hW dX8_isShaft_70
      · have h := if_f h c_24
        refine lv_iconst (v := 1) hx hb dX8_isShaft_65 (by decide) ?_
        refine lv_goto (tgt := 70) hx hb dX8_isShaft_66 (by decide) ?_
        cases h
        exact g_zret S hr hlk rfl hW dX8_isShaft_70
theorem cwX8_isShaft {R : Room} {s : State} {args : Array Value} {index : Nat} (hts : ∀ w ∈ lw_all, w.before args s = true) (hl : Cond.methodLink RX8 index yX8_isShaft ∈ lw_all) (hR : rmX8_isShaft.frames + 1 ≤ R.frames ∧ 8 + (2 + 11) + rmX8_isShaft.locals ≤ R.locals) : CallW R s args RX8 RX8 index yX8_isShaft cX8_isShaft 2 (some .boolean) (ws_ yX8_isShaft cX8_isShaft 2 (some .boolean)) rmX8_isShaft 0 0 1 := cwV 1 hts (lw_V hl q1829 qs87 q122 q1830) rfl rfl rfl (by decide +kernel) hR
def tw_isRim (a0 : Int32) : Option (Int32) :=
  if (a0 - a0 / 12 * 12) = 0 then (some 1) else (if (a0 - a0 / 12 * 12) = 11 then (some 1) else (if (a0 / 12) = 0 then (some 1) else (if (a0 / 12) = 11 then (some 1) else (some 0))))
abbrev rmX8_isRim : Room := rm_ 0 0
set_option maxHeartbeats 4000000 in
theorem metX8_isRim {l : Launch} {gp : Nat → Nat} {nx : Nat} {D : va_G} {K : Nat → ClassId} {al : Nat → Nat} {V0 : g_V} {L0 : g_L} {a0 : Int32} {r : Int32} (h : tw_isRim a0 = some r) : Met l yX8_isRim (ws_ yX8_isRim cX8_isRim 1 (some .boolean)) rmX8_isRim (twPc gp nx [.int a0] D K al V0 L0) (twQi r nx D K al V0 L0) 0 0 (g_A al twSh) := by
  refine g_met rfl (Nat.le_of_ble_eq_true rfl) ?_
  intro p e s m below meth c ls S hr hlk hnm hl hW
  have S : CallFix p m c cX8_isRim 1 s ([.int a0] : List Value).toArray lw_all RX8 := S
  have hx := S.1
  have hb := S.2.1
  have hl : lv_has ls 1 [(0, .int a0)] := hl
  unfold tw_isRim at h
  refine lv_iload_n hx hb dX8_isRim_0 rfl (lv_at hl 0 rfl) ?_
  refine lv_bipush (v := 12) hx hb dX8_isRim_1 (by decide) ?_
  refine lv_irem hx hb dX8_isRim_3 (by decide) ?_
  refine lv_if_eq (tgt := 32) hx hb dX8_isRim_4 (by decide) (fun c_1 => ?_) (fun c_1 => ?_)
  · have h := if_t h c_1
    refine lv_iconst (v := 1) hx hb dX8_isRim_32 (by decide) ?_
    refine lv_goto (tgt := 37) hx hb dX8_isRim_33 (by decide) ?_
    cases h
    exact g_zret S hr hlk rfl hW dX8_isRim_37
  · have h := if_f h c_1
    refine lv_iload_n hx hb dX8_isRim_7 rfl (lv_at hl 0 rfl) ?_
    refine lv_bipush (v := 12) hx hb dX8_isRim_8 (by decide) ?_
    refine lv_irem hx hb dX8_isRim_10 (by decide) ?_
    refine lv_bipush (v := 11) hx hb dX8_isRim_11 (by decide) ?_
    refine lv_icmp_eq (tgt := 32) hx hb dX8_isRim_13 (by decide) (fun c_2 => ?_) (fun c_2 => ?_)
    · have h := if_t h c_2
      refine lv_iconst (v := 1) hx hb dX8_isRim_32 (by decide) ?_
      refine lv_goto (tgt := 37) hx hb dX8_isRim_33 (by decide) ?_
      cases h
      exact g_zret S hr hlk rfl hW dX8_isRim_37
    · have h := if_f h c_2
      refine lv_iload_n hx hb dX8_isRim_16 rfl (lv_at hl 0 rfl) ?_
      refine lv_bipush (v := 12) hx hb dX8_isRim_17 (by decide) ?_
      refine lv_idiv hx hb dX8_isRim_19 (by decide) ?_
      refine lv_if_eq (tgt := 32) hx hb dX8_isRim_20 (by decide) (fun c_3 => ?_) (fun c_3 => ?_)
      · have h := if_t h c_3
        refine lv_iconst (v := 1) hx hb dX8_isRim_32 (by decide) ?_
        refine lv_goto (tgt := 37) hx hb dX8_isRim_33 (by decide) ?_
        cases h
        exact g_zret S hr hlk rfl hW dX8_isRim_37
      · have h := if_f h c_3
        refine lv_iload_n hx hb dX8_isRim_23 rfl (lv_at hl 0 rfl) ?_
        refine lv_bipush (v := 12) hx hb dX8_isRim_24 (by decide) ?_
        refine lv_idiv hx hb dX8_isRim_26 (by decide) ?_
        refine lv_bipush (v := 11) hx hb dX8_isRim_27 (by decide) ?_
        refine lv_icmp_ne (tgt := 36) hx hb dX8_isRim_29 (by decide) (fun c_4 => ?_) (fun c_4 => ?_)
        · have h := if_f h c_4
          refine lv_iconst (v := 0) hx hb dX8_isRim_36 (by decide) ?_
          cases h
          exact g_zret S hr hlk rfl hW dX8_isRim_37
        · have h := if_t h c_4
          refine lv_iconst (v := 1) hx hb dX8_isRim_32 (by decide) ?_
          refine lv_goto (tgt := 37) hx hb dX8_isRim_33 (by decide) ?_
          cases h
          exact g_zret S hr hlk rfl hW dX8_isRim_37
theorem cwX8_isRim {R : Room} {s : State} {args : Array Value} {index : Nat} (hts : ∀ w ∈ lw_all, w.before args s = true) (hl : Cond.methodLink RX8 index yX8_isRim ∈ lw_all) (hR : rmX8_isRim.frames + 1 ≤ R.frames ∧ 8 + (1 + 11) + rmX8_isRim.locals ≤ R.locals) : CallB R s args RX8 index yX8_isRim cX8_isRim 1 (some .boolean) (ws_ yX8_isRim cX8_isRim 1 (some .boolean)) rmX8_isRim 0 0 1 ∧ (Cond.static yX8_isRim).before args s = true := va_cwS 1 hts (lw_S hl q1836 q122 q1837) rfl rfl rfl (by decide +kernel) hR
def tw_pipeAt_B2 (x1 : Int32) (V : g_V) (rec : Int32 → Option ((Unit) ⊕ (Int32))) (x2 : Int32) : Option ((Unit) ⊕ (Int32)) :=
  rdI (V 1) 810 2 fun x_1 => if x_1 ≤ x2 then (some (.inl ())) else (rdI (V 1) 810 (624 + (6 * x2)) fun x_5 => if x_5 = x1 then (some (.inr x2)) else (nmI (x2 + 1) fun x_9 => rec x_9))
abbrev tw_pipeAt_F2 (x1 : Int32) (V : g_V) : ((Int32) → Option ((Unit) ⊕ (Int32))) → (Int32) → Option ((Unit) ⊕ (Int32)) := fun rec s => tw_pipeAt_B2 x1 V (fun x2 => rec x2) s
def tw_pipeAt_L2 (x1 : Int32) (V : g_V) (n : Nat) (x2 : Int32) : Option ((Unit) ⊕ (Int32)) := lp (tw_pipeAt_F2 x1 V) n x2
theorem tw_pipeAt_L2_s (x1 : Int32) (V : g_V) (n : Nat) (x2 : Int32) : tw_pipeAt_L2 x1 V (n + 1) x2 = tw_pipeAt_B2 x1 V (fun x2 => tw_pipeAt_L2 x1 V n x2) x2 := lp_s (tw_pipeAt_F2 x1 V) n x2
def tw_pipeAt (V0 : g_V) (a1 : Int32) : Option (Int32) :=
  bnd (tw_pipeAt_L2 a1 V0 1000 0) (cs2 (fun _ => some (-1)) (fun x_13 => some x_13))
abbrev rmX8_pipeAt : Room := rm_ 0 0
set_option maxHeartbeats 4000000 in
theorem metX8_pipeAt {l : Launch} {gp : Nat → Nat} {nx : Nat} {D : va_G} {K : Nat → ClassId} {al : Nat → Nat} {V0 : g_V} {L0 : g_L} {a1 : Int32} {r : Int32} (h : tw_pipeAt V0 a1 = some r) : Met l yX8_pipeAt (ws_ yX8_pipeAt cX8_pipeAt 3 (some .int)) rmX8_pipeAt (twPc gp nx [.ref (al 0), .int a1] D K al V0 L0) (twQi r nx D K al V0 L0) 0 0 (g_A al twSh) := by
  refine g_met rfl (Nat.le_of_ble_eq_true rfl) ?_
  intro p e s m below meth c ls S hr hlk hnm hl hW
  have S : CallFix p m c cX8_pipeAt 3 s ([.ref (al 0), .int a1] : List Value).toArray lw_all RX8 := S
  have hx := S.1
  have hb := S.2.1
  have hl : lv_has ls 3 [(0, .ref (al 0)), (1, .int a1)] := hl
  have Lp2 : ∀ (x1 : Int32) (V : g_V) (L : g_L) (n : Nat) (x2 : Int32) (out : ((Unit) ⊕ (Int32))) (H : Heap) (locs : List Loc) (ls : Array Slot), tw_pipeAt_L2 x1 V n x2 = some out → twW gp nx D K al s V L H locs → lv_has ls 3 [(0, .ref (al 0)), (1, .int x1), (2, .int x2)] → (out = (.inl ()) → ∀ (H : Heap) (locs : List Loc) (ls : Array Slot), twW gp nx D K al s V L H locs → lv_has ls 3 [] → W p l e rmX8_pipeAt s m ([.ref (al 0), .int a1] : List Value).toArray below meth c H locs 0 0 (MQ below (twQi r nx D K al V0 L0) ([.ref (al 0), .int a1] : List Value).toArray s 0 0 (g_A al twSh)) (F0 m 37 ls [])) → (∀ (o2 : Int32), out = (.inr o2) → ∀ (H : Heap) (locs : List Loc) (ls : Array Slot), twW gp nx D K al s V L H locs → lv_has ls 3 [(2, .int o2)] → W p l e rmX8_pipeAt s m ([.ref (al 0), .int a1] : List Value).toArray below meth c H locs 0 0 (MQ below (twQi r nx D K al V0 L0) ([.ref (al 0), .int a1] : List Value).toArray s 0 0 (g_A al twSh)) (F0 m 29 ls [])) → W p l e rmX8_pipeAt s m ([.ref (al 0), .int a1] : List Value).toArray below meth c H locs 0 0 (MQ below (twQi r nx D K al V0 L0) ([.ref (al 0), .int a1] : List Value).toArray s 0 0 (g_A al twSh)) (F0 m 2 ls []) := by
    intro x1 V L n
    induction n with
    | zero =>
      intro x2 out H locs ls h
      exact (lp_0 h).elim
    | succ n ih =>
      intro x2 out H locs ls h hW hl k1 k2
      rw [tw_pipeAt_L2_s] at h
      unfold tw_pipeAt_B2 at h
      refine lv_iload_n hx hb dX8_pipeAt_2 rfl (lv_at hl 2 rfl) ?_
      refine lv_aload_n hx hb dX8_pipeAt_3 rfl (lv_at hl 0 rfl) ?_
      refine tw_ref S hW 1 1 (by decide) rfl q1500 rfl dX8_pipeAt_4 ?_
      refine lv_iconst (v := 2) hx hb dX8_pipeAt_7 (by decide) ?_
      obtain ⟨h_2, x_1, e_3, h⟩ := rdI_some h
      refine g_iald S hW (k := 1) rfl rfl h_2 e_3 dX8_pipeAt_8 ?_
      refine lv_icmp_ge (tgt := 37) hx hb dX8_pipeAt_9 (by decide) (fun c_4 => ?_) (fun c_4 => ?_)
      · have h := if_t h c_4
        exact k1  (Option.some.inj h).symm _ _ _ hW (lv_sub hl [] rfl)
      · have h := if_f h c_4
        refine lv_aload_n hx hb dX8_pipeAt_12 rfl (lv_at hl 0 rfl) ?_
        refine tw_ref S hW 1 1 (by decide) rfl q1500 rfl dX8_pipeAt_13 ?_
        refine lv_sipush (v := 624) hx hb dX8_pipeAt_16 (by decide) ?_
        refine lv_bipush (v := 6) hx hb dX8_pipeAt_19 (by decide) ?_
        refine lv_iload_n hx hb dX8_pipeAt_21 rfl (lv_at hl 2 rfl) ?_
        refine lv_imul hx hb dX8_pipeAt_22 ?_
        refine lv_iadd hx hb dX8_pipeAt_23 ?_
        obtain ⟨h_6, x_5, e_7, h⟩ := rdI_some h
        refine g_iald S hW (k := 1) rfl rfl h_6 e_7 dX8_pipeAt_24 ?_
        refine lv_iload_n hx hb dX8_pipeAt_25 rfl (lv_at hl 1 rfl) ?_
        refine lv_icmp_ne (tgt := 31) hx hb dX8_pipeAt_26 (by decide) (fun c_8 => ?_) (fun c_8 => ?_)
        · have h := if_f h c_8
          obtain ⟨x_9, e_10, h⟩ := nmI_some h
          refine lv_iinc (v := x_9) (lv' := [(2, .int x_9), (0, .ref (al 0)), (1, .int x1)]) hx hb dX8_pipeAt_31 hl (k := 2) rfl (by rw [e_10]; rfl) (by decide) rfl (fun ls hl => ?_)
          refine lv_goto (tgt := 2) hx hb dX8_pipeAt_34 (by decide) ?_
          exact ih x_9 out _ _ _ h hW (lv_sub hl [1, 2, 0] rfl) k1 k2
        · have h := if_t h c_8
          exact k2 _ (Option.some.inj h).symm _ _ _ hW (lv_sub hl [2] rfl)
  unfold tw_pipeAt at h
  refine lv_iconst (v := 0) hx hb dX8_pipeAt_0 (by decide) ?_
  refine lv_istore_n (lv' := [(2, .int 0), (0, .ref (al 0)), (1, .int a1)]) hx hb dX8_pipeAt_1 rfl hl (by decide) rfl (fun ls hl => ?_)
  obtain ⟨o_11, h_12, h⟩ := bnd_some h
  have h9 := cs2_some h
  clear h
  rcases h9 with ⟨q, rfl, h⟩ | ⟨q, rfl, h⟩
  · refine Lp2 a1 V0 L0 1000 0  _ _ _ _ h_12 hW (lv_sub hl [1, 2, 0] rfl) ?_ (fun _ eo => by cases eo)
    intro  eo H locs ls hW hl
    cases eo
    refine lv_iconst (v := (-1)) hx hb dX8_pipeAt_37 (by decide) ?_
    cases h
    exact g_iret S hr hlk hW dX8_pipeAt_38
  · obtain ⟨x_13, rfl⟩ : ∃ z, z = q := ⟨q, rfl⟩
    refine Lp2 a1 V0 L0 1000 0  _ _ _ _ h_12 hW (lv_sub hl [1, 2, 0] rfl) (fun eo => by cases eo) ?_
    intro w0 eo H locs ls hW hl
    cases eo
    refine lv_iload_n hx hb dX8_pipeAt_29 rfl (lv_at hl 0 rfl) ?_
    cases h
    exact g_iret S hr hlk hW dX8_pipeAt_30
theorem cwX8_pipeAt {R : Room} {s : State} {args : Array Value} {index : Nat} (hts : ∀ w ∈ lw_all, w.before args s = true) (hl : Cond.methodLink RX8 index yX8_pipeAt ∈ lw_all) (hR : rmX8_pipeAt.frames + 1 ≤ R.frames ∧ 8 + (3 + 11) + rmX8_pipeAt.locals ≤ R.locals) : CallW R s args RX8 RX8 index yX8_pipeAt cX8_pipeAt 3 (some .int) (ws_ yX8_pipeAt cX8_pipeAt 3 (some .int)) rmX8_pipeAt 0 0 1 := cwV 1 hts (lw_V hl q1845 qs89 q122 q1846) rfl rfl rfl (by decide +kernel) hR
def tw_heat (V0 : g_V) (a1 : Int32) : Option (Int32) :=
  if a1 = 0 then (bnd (tw_heatNow V0) (fun x_11 => some x_11)) else (bnd (tw_in a1.toInt64 1 5) (fun x_4 => if x_4 = 0 then (some (-2000000000)) else (rdI (V0 1) 810 ((14 + a1) - 1) fun x_6 => some x_6)))
abbrev rmX8_heat : Room := rm_ 1 25
set_option maxHeartbeats 4000000 in
theorem metX8_heat {l : Launch} {gp : Nat → Nat} {nx : Nat} {D : va_G} {K : Nat → ClassId} {al : Nat → Nat} {V0 : g_V} {L0 : g_L} {a1 : Int32} {r : Int32} (h : tw_heat V0 a1 = some r) : Met l yX8_heat (ws_ yX8_heat cX8_heat 2 (some .int)) rmX8_heat (twPc gp nx [.ref (al 0), .int a1] D K al V0 L0) (twQi r nx D K al V0 L0) 0 0 (g_A al twSh) := by
  refine g_met rfl (Nat.le_of_ble_eq_true rfl) ?_
  intro p e s m below meth c ls S hr hlk hnm hl hW
  have S : CallFix p m c cX8_heat 2 s ([.ref (al 0), .int a1] : List Value).toArray lw_all RX8 := S
  have hx := S.1
  have hb := S.2.1
  have hl : lv_has ls 2 [(0, .ref (al 0)), (1, .int a1)] := hl
  unfold tw_heat at h
  refine lv_iload_n hx hb dX8_heat_0 rfl (lv_at hl 1 rfl) ?_
  refine lv_if_ne (tgt := 9) hx hb dX8_heat_1 (by decide) (fun c_1 => ?_) (fun c_1 => ?_)
  · have h := if_f h c_1
    refine lv_iload_n hx hb dX8_heat_9 rfl (lv_at hl 1 rfl) ?_
    refine lv_i2l (v := a1.toInt64) hx hb dX8_heat_10 rfl ?_
    refine lv_lconst (v := 1) hx hb dX8_heat_11 (by decide) ?_
    refine lv_ldc2 (v := 5) hx hb S.2.2.2.1 (S.2.2.2.2 _ q1851) dX8_heat_12 ?_
    obtain ⟨x_4, h_2, h⟩ := bnd_some h
    refine g_callSi (As := [.long a1.toInt64, .long 1, .long 5]) (rest := []) S hW (metX8_in h_2) (cwX8_in S.2.2.2.2 q1625 ⟨Nat.le_of_ble_eq_true rfl, Nat.le_of_ble_eq_true rfl⟩) rfl hl.1 rfl (Nat.le_of_ble_eq_true rfl) dX8_heat_15 ⟨Nat.le_refl _, Nat.le_refl _⟩ (fun H locs hW => ?_)
    refine lv_if_eq (tgt := 35) hx hb dX8_heat_18 (by decide) (fun c_5 => ?_) (fun c_5 => ?_)
    · have h := if_t h c_5
      refine lv_ldcw (v := (-2000000000)) hx hb S.2.2.2.1 (S.2.2.2.2 _ q1842) dX8_heat_35 ?_
      cases h
      exact g_iret S hr hlk hW dX8_heat_38
    · have h := if_f h c_5
      refine lv_aload_n hx hb dX8_heat_21 rfl (lv_at hl 0 rfl) ?_
      refine tw_ref S hW 1 1 (by decide) rfl q1500 rfl dX8_heat_22 ?_
      refine lv_bipush (v := 14) hx hb dX8_heat_25 (by decide) ?_
      refine lv_iload_n hx hb dX8_heat_27 rfl (lv_at hl 1 rfl) ?_
      refine lv_iadd hx hb dX8_heat_28 ?_
      refine lv_iconst (v := 1) hx hb dX8_heat_29 (by decide) ?_
      refine lv_isub hx hb dX8_heat_30 ?_
      obtain ⟨h_7, x_6, e_8, h⟩ := rdI_some h
      refine g_iald S hW (k := 1) rfl rfl h_7 e_8 dX8_heat_31 ?_
      refine lv_goto (tgt := 38) hx hb dX8_heat_32 (by decide) ?_
      cases h
      exact g_iret S hr hlk hW dX8_heat_38
  · have h := if_t h c_1
    refine lv_aload_n hx hb dX8_heat_4 rfl (lv_at hl 0 rfl) ?_
    obtain ⟨x_11, h_9, h⟩ := bnd_some h
    refine g_callVi (As := []) (rest := []) S hW (metX8_heatNow h_9) (cwX8_heatNow S.2.2.2.2 q1496 ⟨Nat.le_of_ble_eq_true rfl, Nat.le_of_ble_eq_true rfl⟩) (k := 0) rfl rfl rfl hl.1 rfl (Nat.le_of_ble_eq_true rfl) dX8_heat_5 ⟨Nat.le_refl _, Nat.le_refl _⟩ (fun H locs hW => ?_)
    cases h
    exact g_iret S hr hlk hW dX8_heat_8
theorem cwX8_heat {R : Room} {s : State} {args : Array Value} {index : Nat} (hts : ∀ w ∈ lw_all, w.before args s = true) (hl : Cond.methodLink RX8 index yX8_heat ∈ lw_all) (hR : rmX8_heat.frames + 1 ≤ R.frames ∧ 8 + (2 + 11) + rmX8_heat.locals ≤ R.locals) : CallW R s args RX8 RX8 index yX8_heat cX8_heat 2 (some .int) (ws_ yX8_heat cX8_heat 2 (some .int)) rmX8_heat 0 0 1 := cwV 1 hts (lw_V hl q1848 q1849 q122 q1850) rfl rfl rfl (by decide +kernel) hR
def tw_isPipe (V0 : g_V) (a1 : Int32) : Option (Int32) :=
  rdI (V0 1) 810 2 fun x_1 => bnd (tw_in a1.toInt64 0 ((x_1 - 1).toInt64)) (fun x_6 => okI (isB x_6) <| some x_6)
abbrev rmX8_isPipe : Room := rm_ 1 25
set_option maxHeartbeats 4000000 in
theorem metX8_isPipe {l : Launch} {gp : Nat → Nat} {nx : Nat} {D : va_G} {K : Nat → ClassId} {al : Nat → Nat} {V0 : g_V} {L0 : g_L} {a1 : Int32} {r : Int32} (h : tw_isPipe V0 a1 = some r) : Met l yX8_isPipe (ws_ yX8_isPipe cX8_isPipe 2 (some .boolean)) rmX8_isPipe (twPc gp nx [.ref (al 0), .int a1] D K al V0 L0) (twQi r nx D K al V0 L0) 0 0 (g_A al twSh) := by
  refine g_met rfl (Nat.le_of_ble_eq_true rfl) ?_
  intro p e s m below meth c ls S hr hlk hnm hl hW
  have S : CallFix p m c cX8_isPipe 2 s ([.ref (al 0), .int a1] : List Value).toArray lw_all RX8 := S
  have hx := S.1
  have hb := S.2.1
  have hl : lv_has ls 2 [(0, .ref (al 0)), (1, .int a1)] := hl
  unfold tw_isPipe at h
  refine lv_iload_n hx hb dX8_isPipe_0 rfl (lv_at hl 1 rfl) ?_
  refine lv_i2l (v := a1.toInt64) hx hb dX8_isPipe_1 rfl ?_
  refine lv_lconst (v := 0) hx hb dX8_isPipe_2 (by decide) ?_
  refine lv_aload_n hx hb dX8_isPipe_3 rfl (lv_at hl 0 rfl) ?_
  refine tw_ref S hW 1 1 (by decide) rfl q1500 rfl dX8_isPipe_4 ?_
  refine lv_iconst (v := 2) hx hb dX8_isPipe_7 (by decide) ?_
  obtain ⟨h_2, x_1, e_3, h⟩ := rdI_some h
  refine g_iald S hW (k := 1) rfl rfl h_2 e_3 dX8_isPipe_8 ?_
  refine lv_iconst (v := 1) hx hb dX8_isPipe_9 (by decide) ?_
  refine lv_isub hx hb dX8_isPipe_10 ?_
  refine lv_i2l (v := (x_1 - 1).toInt64) hx hb dX8_isPipe_11 rfl ?_
  obtain ⟨x_6, h_4, h⟩ := bnd_some h
  refine g_callSi (As := [.long a1.toInt64, .long 0, .long ((x_1 - 1).toInt64)]) (rest := []) S hW (metX8_in h_4) (cwX8_in S.2.2.2.2 q1625 ⟨Nat.le_of_ble_eq_true rfl, Nat.le_of_ble_eq_true rfl⟩) rfl hl.1 rfl (Nat.le_of_ble_eq_true rfl) dX8_isPipe_12 ⟨Nat.le_refl _, Nat.le_refl _⟩ (fun H locs hW => ?_)
  obtain ⟨h_7, h⟩ := okI_some h
  cases h
  exact g_zret S hr hlk (isB_narrow h_7) hW dX8_isPipe_15
theorem cwX8_isPipe {R : Room} {s : State} {args : Array Value} {index : Nat} (hts : ∀ w ∈ lw_all, w.before args s = true) (hl : Cond.methodLink RX8 index yX8_isPipe ∈ lw_all) (hR : rmX8_isPipe.frames + 1 ≤ R.frames ∧ 8 + (2 + 11) + rmX8_isPipe.locals ≤ R.locals) : CallW R s args RX8 RX8 index yX8_isPipe cX8_isPipe 2 (some .boolean) (ws_ yX8_isPipe cX8_isPipe 2 (some .boolean)) rmX8_isPipe 0 0 1 := cwV 1 hts (lw_V hl q1858 qs90 q122 q1859) rfl rfl rfl (by decide +kernel) hR
def tw_pipe (V0 : g_V) (a1 : Int32) (a2 : Int32) : Option (Int32) :=
  bnd (tw_isPipe V0 a1) (fun x_3 => if x_3 = 0 then (some (-2000000000)) else (bnd (tw_in a2.toInt64 0 5) (fun x_7 => if x_7 = 0 then (some (-2000000000)) else (rdI (V0 1) 810 ((624 + (6 * a1)) + a2) fun x_9 => some x_9))))
abbrev rmX8_pipe : Room := rm_ 2 46
set_option maxHeartbeats 4000000 in
theorem metX8_pipe {l : Launch} {gp : Nat → Nat} {nx : Nat} {D : va_G} {K : Nat → ClassId} {al : Nat → Nat} {V0 : g_V} {L0 : g_L} {a1 : Int32} {a2 : Int32} {r : Int32} (h : tw_pipe V0 a1 a2 = some r) : Met l yX8_pipe (ws_ yX8_pipe cX8_pipe 3 (some .int)) rmX8_pipe (twPc gp nx [.ref (al 0), .int a1, .int a2] D K al V0 L0) (twQi r nx D K al V0 L0) 0 0 (g_A al twSh) := by
  refine g_met rfl (Nat.le_of_ble_eq_true rfl) ?_
  intro p e s m below meth c ls S hr hlk hnm hl hW
  have S : CallFix p m c cX8_pipe 3 s ([.ref (al 0), .int a1, .int a2] : List Value).toArray lw_all RX8 := S
  have hx := S.1
  have hb := S.2.1
  have hl : lv_has ls 3 [(0, .ref (al 0)), (1, .int a1), (2, .int a2)] := hl
  unfold tw_pipe at h
  refine lv_aload_n hx hb dX8_pipe_0 rfl (lv_at hl 0 rfl) ?_
  refine lv_iload_n hx hb dX8_pipe_1 rfl (lv_at hl 1 rfl) ?_
  obtain ⟨x_3, h_1, h⟩ := bnd_some h
  refine g_callVi (As := [.int a1]) (rest := []) S hW (metX8_isPipe h_1) (cwX8_isPipe S.2.2.2.2 q1856 ⟨Nat.le_of_ble_eq_true rfl, Nat.le_of_ble_eq_true rfl⟩) (k := 0) rfl rfl rfl hl.1 rfl (Nat.le_of_ble_eq_true rfl) dX8_pipe_2 ⟨Nat.le_refl _, Nat.le_refl _⟩ (fun H locs hW => ?_)
  refine lv_if_eq (tgt := 38) hx hb dX8_pipe_5 (by decide) (fun c_4 => ?_) (fun c_4 => ?_)
  · have h := if_t h c_4
    refine lv_ldcw (v := (-2000000000)) hx hb S.2.2.2.1 (S.2.2.2.2 _ q1842) dX8_pipe_38 ?_
    cases h
    exact g_iret S hr hlk hW dX8_pipe_41
  · have h := if_f h c_4
    refine lv_iload_n hx hb dX8_pipe_8 rfl (lv_at hl 2 rfl) ?_
    refine lv_i2l (v := a2.toInt64) hx hb dX8_pipe_9 rfl ?_
    refine lv_lconst (v := 0) hx hb dX8_pipe_10 (by decide) ?_
    refine lv_ldc2 (v := 5) hx hb S.2.2.2.1 (S.2.2.2.2 _ q1851) dX8_pipe_11 ?_
    obtain ⟨x_7, h_5, h⟩ := bnd_some h
    refine g_callSi (As := [.long a2.toInt64, .long 0, .long 5]) (rest := []) S hW (metX8_in h_5) (cwX8_in S.2.2.2.2 q1625 ⟨Nat.le_of_ble_eq_true rfl, Nat.le_of_ble_eq_true rfl⟩) rfl hl.1 rfl (Nat.le_of_ble_eq_true rfl) dX8_pipe_14 ⟨Nat.le_refl _, Nat.le_refl _⟩ (fun H locs hW => ?_)
    refine lv_if_eq (tgt := 38) hx hb dX8_pipe_17 (by decide) (fun c_8 => ?_) (fun c_8 => ?_)
    · have h := if_t h c_8
      refine lv_ldcw (v := (-2000000000)) hx hb S.2.2.2.1 (S.2.2.2.2 _ q1842) dX8_pipe_38 ?_
      cases h
      exact g_iret S hr hlk hW dX8_pipe_41
    · have h := if_f h c_8
      refine lv_aload_n hx hb dX8_pipe_20 rfl (lv_at hl 0 rfl) ?_
      refine tw_ref S hW 1 1 (by decide) rfl q1500 rfl dX8_pipe_21 ?_
      refine lv_sipush (v := 624) hx hb dX8_pipe_24 (by decide) ?_
      refine lv_bipush (v := 6) hx hb dX8_pipe_27 (by decide) ?_
      refine lv_iload_n hx hb dX8_pipe_29 rfl (lv_at hl 1 rfl) ?_
      refine lv_imul hx hb dX8_pipe_30 ?_
      refine lv_iadd hx hb dX8_pipe_31 ?_
      refine lv_iload_n hx hb dX8_pipe_32 rfl (lv_at hl 2 rfl) ?_
      refine lv_iadd hx hb dX8_pipe_33 ?_
      obtain ⟨h_10, x_9, e_11, h⟩ := rdI_some h
      refine g_iald S hW (k := 1) rfl rfl h_10 e_11 dX8_pipe_34 ?_
      refine lv_goto (tgt := 41) hx hb dX8_pipe_35 (by decide) ?_
      cases h
      exact g_iret S hr hlk hW dX8_pipe_41
theorem cwX8_pipe {R : Room} {s : State} {args : Array Value} {index : Nat} (hts : ∀ w ∈ lw_all, w.before args s = true) (hl : Cond.methodLink RX8 index yX8_pipe ∈ lw_all) (hR : rmX8_pipe.frames + 1 ≤ R.frames ∧ 8 + (3 + 11) + rmX8_pipe.locals ≤ R.locals) : CallW R s args RX8 RX8 index yX8_pipe cX8_pipe 3 (some .int) (ws_ yX8_pipe cX8_pipe 3 (some .int)) rmX8_pipe 0 0 2 := cwV 2 hts (lw_V hl q1861 q1862 q122 q1863) rfl rfl rfl (by decide +kernel) hR
def tw_cold (V0 : g_V) (a1 : Int32) : Option (Int32 × g_V) :=
  bnd (tw_in a1.toInt64 0 99999) (fun x_3 => if x_3 = 0 then (some ((-2), V0)) else (rdI (V0 1) 810 6 fun x_5 => wrI V0 1 810 6 a1 fun V_10 => some (x_5, V_10)))
abbrev rmX8_cold : Room := rm_ 1 25
set_option maxHeartbeats 4000000 in
theorem metX8_cold {l : Launch} {gp : Nat → Nat} {nx : Nat} {D : va_G} {K : Nat → ClassId} {al : Nat → Nat} {V0 : g_V} {L0 : g_L} {a1 : Int32} {r : Int32} {V' : g_V} (h : tw_cold V0 a1 = some (r, V')) : Met l yX8_cold (ws_ yX8_cold cX8_cold 3 (some .int)) rmX8_cold (twPc gp nx [.ref (al 0), .int a1] D K al V0 L0) (twQi r nx D K al V' L0) 0 0 (g_A al twSh) := by
  refine g_met rfl (Nat.le_of_ble_eq_true rfl) ?_
  intro p e s m below meth c ls S hr hlk hnm hl hW
  have S : CallFix p m c cX8_cold 3 s ([.ref (al 0), .int a1] : List Value).toArray lw_all RX8 := S
  have hx := S.1
  have hb := S.2.1
  have hl : lv_has ls 3 [(0, .ref (al 0)), (1, .int a1)] := hl
  unfold tw_cold at h
  refine lv_iload_n hx hb dX8_cold_0 rfl (lv_at hl 1 rfl) ?_
  refine lv_i2l (v := a1.toInt64) hx hb dX8_cold_1 rfl ?_
  refine lv_lconst (v := 0) hx hb dX8_cold_2 (by decide) ?_
  refine lv_ldc2 (v := 99999) hx hb S.2.2.2.1 (S.2.2.2.2 _ q1868) dX8_cold_3 ?_
  obtain ⟨x_3, h_1, h⟩ := bnd_some h
  refine g_callSi (As := [.long a1.toInt64, .long 0, .long 99999]) (rest := []) S hW (metX8_in h_1) (cwX8_in S.2.2.2.2 q1625 ⟨Nat.le_of_ble_eq_true rfl, Nat.le_of_ble_eq_true rfl⟩) rfl hl.1 rfl (Nat.le_of_ble_eq_true rfl) dX8_cold_6 ⟨Nat.le_refl _, Nat.le_refl _⟩ (fun H locs hW => ?_)
  refine lv_if_ne (tgt := 15) hx hb dX8_cold_9 (by decide) (fun c_4 => ?_) (fun c_4 => ?_)
  · have h := if_f h c_4
    refine lv_aload_n hx hb dX8_cold_15 rfl (lv_at hl 0 rfl) ?_
    refine tw_ref S hW 1 1 (by decide) rfl q1500 rfl dX8_cold_16 ?_
    refine lv_bipush (v := 6) hx hb dX8_cold_19 (by decide) ?_
    obtain ⟨h_6, x_5, e_7, h⟩ := rdI_some h
    refine g_iald S hW (k := 1) rfl rfl h_6 e_7 dX8_cold_21 ?_
    refine lv_istore_n (lv' := [(2, .int x_5), (0, .ref (al 0)), (1, .int a1)]) hx hb dX8_cold_22 rfl hl (by decide) rfl (fun ls hl => ?_)
    refine lv_aload_n hx hb dX8_cold_23 rfl (lv_at hl 1 rfl) ?_
    refine tw_ref S hW 1 1 (by decide) rfl q1500 rfl dX8_cold_24 ?_
    refine lv_bipush (v := 6) hx hb dX8_cold_27 (by decide) ?_
    refine lv_iload_n hx hb dX8_cold_29 rfl (lv_at hl 2 rfl) ?_
    obtain ⟨h_8, V_10, e_9, h⟩ := wrI_some h
    refine g_iast S hW (k := 1) rfl rfl h_8 e_9 dX8_cold_30 (fun H locs hW => ?_)
    refine lv_iload_n hx hb dX8_cold_31 rfl (lv_at hl 0 rfl) ?_
    cases h
    exact g_iret S hr hlk hW dX8_cold_32
  · have h := if_t h c_4
    refine lv_bipush (v := (-2)) hx hb dX8_cold_12 (by decide) ?_
    cases h
    exact g_iret S hr hlk hW dX8_cold_14
theorem cwX8_cold {R : Room} {s : State} {args : Array Value} {index : Nat} (hts : ∀ w ∈ lw_all, w.before args s = true) (hl : Cond.methodLink RX8 index yX8_cold ∈ lw_all) (hR : rmX8_cold.frames + 1 ≤ R.frames ∧ 8 + (3 + 11) + rmX8_cold.locals ≤ R.locals) : CallW R s args RX8 RX8 index yX8_cold cX8_cold 3 (some .int) (ws_ yX8_cold cX8_cold 3 (some .int)) rmX8_cold 0 0 1 := cwV 1 hts (lw_V hl q1865 q1866 q122 q1867) rfl rfl rfl (by decide +kernel) hR
def tw_hasShaft (V0 : g_V) : Option (Int32) :=
  rdI (V0 1) 810 7 fun x_1 => if x_1 = 1 then (some 1) else (some 0)
abbrev rmX8_hasShaft : Room := rm_ 0 0
set_option maxHeartbeats 4000000 in
theorem metX8_hasShaft {l : Launch} {gp : Nat → Nat} {nx : Nat} {D : va_G} {K : Nat → ClassId} {al : Nat → Nat} {V0 : g_V} {L0 : g_L} {r : Int32} (h : tw_hasShaft V0 = some r) : Met l yX8_hasShaft (ws_ yX8_hasShaft cX8_hasShaft 1 (some .boolean)) rmX8_hasShaft (twPc gp nx [.ref (al 0)] D K al V0 L0) (twQi r nx D K al V0 L0) 0 0 (g_A al twSh) := by
  refine g_met rfl (Nat.le_of_ble_eq_true rfl) ?_
  intro p e s m below meth c ls S hr hlk hnm hl hW
  have S : CallFix p m c cX8_hasShaft 1 s ([.ref (al 0)] : List Value).toArray lw_all RX8 := S
  have hx := S.1
  have hb := S.2.1
  have hl : lv_has ls 1 [(0, .ref (al 0))] := hl
  unfold tw_hasShaft at h
  refine lv_aload_n hx hb dX8_hasShaft_0 rfl (lv_at hl 0 rfl) ?_
  refine tw_ref S hW 1 1 (by decide) rfl q1500 rfl dX8_hasShaft_1 ?_
  refine lv_bipush (v := 7) hx hb dX8_hasShaft_4 (by decide) ?_
  obtain ⟨h_2, x_1, e_3, h⟩ := rdI_some h
  refine g_iald S hW (k := 1) rfl rfl h_2 e_3 dX8_hasShaft_6 ?_
  refine lv_iconst (v := 1) hx hb dX8_hasShaft_7 (by decide) ?_
  refine lv_icmp_ne (tgt := 15) hx hb dX8_hasShaft_8 (by decide) (fun c_4 => ?_) (fun c_4 => ?_)
  · have h := if_f h c_4
    refine lv_iconst (v := 0) hx hb dX8_hasShaft_15 (by decide) ?_
    cases h
    exact g_zret S hr hlk rfl hW dX8_hasShaft_16
  · have h := if_t h c_4
    refine lv_iconst (v := 1) hx hb dX8_hasShaft_11 (by decide) ?_
    refine lv_goto (tgt := 16) hx hb dX8_hasShaft_12 (by decide) ?_
    cases h
    exact g_zret S hr hlk rfl hW dX8_hasShaft_16
theorem cwX8_hasShaft {R : Room} {s : State} {args : Array Value} {index : Nat} (hts : ∀ w ∈ lw_all, w.before args s = true) (hl : Cond.methodLink RX8 index yX8_hasShaft ∈ lw_all) (hR : rmX8_hasShaft.frames + 1 ≤ R.frames ∧ 8 + (1 + 11) + rmX8_hasShaft.locals ≤ R.locals) : CallW R s args RX8 RX8 index yX8_hasShaft cX8_hasShaft 1 (some .boolean) (ws_ yX8_hasShaft cX8_hasShaft 1 (some .boolean)) rmX8_hasShaft 0 0 0 := cwV 0 hts (lw_V hl q1875 qs91 q122 q1876) rfl rfl rfl (by decide +kernel) hR
def tw_reach (V0 : g_V) (a1 : Int32) (a2 : Int32) : Option (g_V) :=
  rdI (V0 29) 288 a1 fun x_1 => if x_1 = (-1) then (wrI V0 29 288 a1 a2 fun V_7 => wrI V_7 30 288 (V_7 0 31) a1 fun V_10 => ptI V_10 0 31 ((V_10 0 31) + 1) fun V_11 => some V_11) else (some V0)
abbrev rmX8_reach : Room := rm_ 0 0
set_option maxHeartbeats 4000000 in
theorem metX8_reach {l : Launch} {gp : Nat → Nat} {nx : Nat} {D : va_G} {K : Nat → ClassId} {al : Nat → Nat} {V0 : g_V} {L0 : g_L} {a1 : Int32} {a2 : Int32} {V' : g_V} (h : tw_reach V0 a1 a2 = some V') : Met l yX8_reach (ws_ yX8_reach cX8_reach 3 (none)) rmX8_reach (twPc gp nx [.ref (al 0), .int a1, .int a2] D K al V0 L0) (twQv nx D K al V' L0) 0 0 (g_A al twSh) := by
  refine g_met rfl (Nat.le_of_ble_eq_true rfl) ?_
  intro p e s m below meth c ls S hr hlk hnm hl hW
  have S : CallFix p m c cX8_reach 3 s ([.ref (al 0), .int a1, .int a2] : List Value).toArray lw_all RX8 := S
  have hx := S.1
  have hb := S.2.1
  have hl : lv_has ls 3 [(0, .ref (al 0)), (1, .int a1), (2, .int a2)] := hl
  unfold tw_reach at h
  refine lv_aload_n hx hb dX8_reach_0 rfl (lv_at hl 0 rfl) ?_
  refine tw_ref S hW 29 29 (by decide) rfl q1528 rfl dX8_reach_1 ?_
  refine lv_iload_n hx hb dX8_reach_4 rfl (lv_at hl 1 rfl) ?_
  obtain ⟨h_2, x_1, e_3, h⟩ := rdI_some h
  refine g_iald S hW (k := 29) rfl rfl h_2 e_3 dX8_reach_5 ?_
  refine lv_iconst (v := (-1)) hx hb dX8_reach_6 (by decide) ?_
  refine lv_icmp_eq (tgt := 11) hx hb dX8_reach_7 (by decide) (fun c_4 => ?_) (fun c_4 => ?_)
  · have h := if_t h c_4
    refine lv_aload_n hx hb dX8_reach_11 rfl (lv_at hl 0 rfl) ?_
    refine tw_ref S hW 29 29 (by decide) rfl q1528 rfl dX8_reach_12 ?_
    refine lv_iload_n hx hb dX8_reach_15 rfl (lv_at hl 1 rfl) ?_
    refine lv_iload_n hx hb dX8_reach_16 rfl (lv_at hl 2 rfl) ?_
    obtain ⟨h_5, V_7, e_6, h⟩ := wrI_some h
    refine g_iast S hW (k := 29) rfl rfl h_5 e_6 dX8_reach_17 (fun H locs hW => ?_)
    refine lv_aload_n hx hb dX8_reach_18 rfl (lv_at hl 0 rfl) ?_
    refine tw_ref S hW 30 30 (by decide) rfl q1529 rfl dX8_reach_19 ?_
    refine lv_aload_n hx hb dX8_reach_22 rfl (lv_at hl 0 rfl) ?_
    refine tw_int S hW 31 (by decide) rfl q1530 rfl dX8_reach_23 ?_
    refine lv_iload_n hx hb dX8_reach_26 rfl (lv_at hl 1 rfl) ?_
    obtain ⟨h_8, V_10, e_9, h⟩ := wrI_some h
    refine g_iast S hW (k := 30) rfl rfl h_8 e_9 dX8_reach_27 (fun H locs hW => ?_)
    refine lv_aload_n hx hb dX8_reach_28 rfl (lv_at hl 0 rfl) ?_
    refine lv_dup hx hb dX8_reach_29 rfl ?_
    refine tw_int S hW 31 (by decide) rfl q1530 rfl dX8_reach_30 ?_
    refine lv_iconst (v := 1) hx hb dX8_reach_33 (by decide) ?_
    refine lv_iadd hx hb dX8_reach_34 ?_
    obtain ⟨V_11, e_12, h⟩ := ptI_some h
    refine tw_puti S hW 31 (by decide) rfl rfl rfl rfl rfl q1530 e_12 dX8_reach_35 (fun H locs hW => ?_)
    cases h
    exact g_vret S hr hlk hW dX8_reach_38
  · have h := if_f h c_4
    cases h
    exact g_vret S hr hlk hW dX8_reach_10
theorem cwX8_reach {R : Room} {s : State} {args : Array Value} {index : Nat} (hts : ∀ w ∈ lw_all, w.before args s = true) (hl : Cond.methodLink RX8 index yX8_reach ∈ lw_all) (hR : rmX8_reach.frames + 1 ≤ R.frames ∧ 8 + (3 + 11) + rmX8_reach.locals ≤ R.locals) : CallW R s args RX8 RX8 index yX8_reach cX8_reach 3 (none) (ws_ yX8_reach cX8_reach 3 (none)) rmX8_reach 0 0 2 := cwV 2 hts (lw_V hl q1903 qs95 q122 q1904) rfl rfl rfl (by decide +kernel) hR
def tw_gap (V0 : g_V) (a1 : Int32) : Option (Int32) :=
  bnd (tw_in a1.toInt64 0 (((V0 0 34) - 1).toInt64)) (fun x_3 => if x_3 = 0 then (some (-1)) else (rdI (V0 33) 144 a1 fun x_5 => some x_5))
abbrev rmX8_gap : Room := rm_ 1 25
set_option maxHeartbeats 4000000 in
theorem metX8_gap {l : Launch} {gp : Nat → Nat} {nx : Nat} {D : va_G} {K : Nat → ClassId} {al : Nat → Nat} {V0 : g_V} {L0 : g_L} {a1 : Int32} {r : Int32} (h : tw_gap V0 a1 = some r) : Met l yX8_gap (ws_ yX8_gap cX8_gap 2 (some .int)) rmX8_gap (twPc gp nx [.ref (al 0), .int a1] D K al V0 L0) (twQi r nx D K al V0 L0) 0 0 (g_A al twSh) := by
  refine g_met rfl (Nat.le_of_ble_eq_true rfl) ?_
  intro p e s m below meth c ls S hr hlk hnm hl hW
  have S : CallFix p m c cX8_gap 2 s ([.ref (al 0), .int a1] : List Value).toArray lw_all RX8 := S
  have hx := S.1
  have hb := S.2.1
  have hl : lv_has ls 2 [(0, .ref (al 0)), (1, .int a1)] := hl
  unfold tw_gap at h
  refine lv_iload_n hx hb dX8_gap_0 rfl (lv_at hl 1 rfl) ?_
  refine lv_i2l (v := a1.toInt64) hx hb dX8_gap_1 rfl ?_
  refine lv_lconst (v := 0) hx hb dX8_gap_2 (by decide) ?_
  refine lv_aload_n hx hb dX8_gap_3 rfl (lv_at hl 0 rfl) ?_
  refine tw_int S hW 34 (by decide) rfl q1533 rfl dX8_gap_4 ?_
  refine lv_iconst (v := 1) hx hb dX8_gap_7 (by decide) ?_
  refine lv_isub hx hb dX8_gap_8 ?_
  refine lv_i2l (v := ((V0 0 34) - 1).toInt64) hx hb dX8_gap_9 rfl ?_
  obtain ⟨x_3, h_1, h⟩ := bnd_some h
  refine g_callSi (As := [.long a1.toInt64, .long 0, .long (((V0 0 34) - 1).toInt64)]) (rest := []) S hW (metX8_in h_1) (cwX8_in S.2.2.2.2 q1625 ⟨Nat.le_of_ble_eq_true rfl, Nat.le_of_ble_eq_true rfl⟩) rfl hl.1 rfl (Nat.le_of_ble_eq_true rfl) dX8_gap_10 ⟨Nat.le_refl _, Nat.le_refl _⟩ (fun H locs hW => ?_)
  refine lv_if_eq (tgt := 25) hx hb dX8_gap_13 (by decide) (fun c_4 => ?_) (fun c_4 => ?_)
  · have h := if_t h c_4
    refine lv_iconst (v := (-1)) hx hb dX8_gap_25 (by decide) ?_
    cases h
    exact g_iret S hr hlk hW dX8_gap_26
  · have h := if_f h c_4
    refine lv_aload_n hx hb dX8_gap_16 rfl (lv_at hl 0 rfl) ?_
    refine tw_ref S hW 33 33 (by decide) rfl q1532 rfl dX8_gap_17 ?_
    refine lv_iload_n hx hb dX8_gap_20 rfl (lv_at hl 1 rfl) ?_
    obtain ⟨h_6, x_5, e_7, h⟩ := rdI_some h
    refine g_iald S hW (k := 33) rfl rfl h_6 e_7 dX8_gap_21 ?_
    refine lv_goto (tgt := 26) hx hb dX8_gap_22 (by decide) ?_
    cases h
    exact g_iret S hr hlk hW dX8_gap_26
theorem cwX8_gap {R : Room} {s : State} {args : Array Value} {index : Nat} (hts : ∀ w ∈ lw_all, w.before args s = true) (hl : Cond.methodLink RX8 index yX8_gap ∈ lw_all) (hR : rmX8_gap.frames + 1 ≤ R.frames ∧ 8 + (2 + 11) + rmX8_gap.locals ≤ R.locals) : CallW R s args RX8 RX8 index yX8_gap cX8_gap 2 (some .int) (ws_ yX8_gap cX8_gap 2 (some .int)) rmX8_gap 0 0 1 := cwV 1 hts (lw_V hl q1913 q1914 q122 q1915) rfl rfl rfl (by decide +kernel) hR
def tw_lift (V0 : g_V) (a1 : Int32) : Option (Int32) :=
  bnd (tw_in a1.toInt64 0 11) (fun x_3 => if x_3 = 0 then (some (-2000000000)) else (bnd (tw_liftOf V0 a1) (fun x_7 => some x_7)))
abbrev rmX8_lift : Room := rm_ 2 44
set_option maxHeartbeats 4000000 in
theorem metX8_lift {l : Launch} {gp : Nat → Nat} {nx : Nat} {D : va_G} {K : Nat → ClassId} {al : Nat → Nat} {V0 : g_V} {L0 : g_L} {a1 : Int32} {r : Int32} (h : tw_lift V0 a1 = some r) : Met l yX8_lift (ws_ yX8_lift cX8_lift 2 (some .int)) rmX8_lift (twPc gp nx [.ref (al 0), .int a1] D K al V0 L0) (twQi r nx D K al V0 L0) 0 0 (g_A al twSh) := by
  refine g_met rfl (Nat.le_of_ble_eq_true rfl) ?_
  intro p e s m below meth c ls S hr hlk hnm hl hW
  have S : CallFix p m c cX8_lift 2 s ([.ref (al 0), .int a1] : List Value).toArray lw_all RX8 := S
  have hx := S.1
  have hb := S.2.1
  have hl : lv_has ls 2 [(0, .ref (al 0)), (1, .int a1)] := hl
  unfold tw_lift at h
  refine lv_iload_n hx hb dX8_lift_0 rfl (lv_at hl 1 rfl) ?_
  refine lv_i2l (v := a1.toInt64) hx hb dX8_lift_1 rfl ?_
  refine lv_lconst (v := 0) hx hb dX8_lift_2 (by decide) ?_
  refine lv_ldc2 (v := 11) hx hb S.2.2.2.1 (S.2.2.2.2 _ q1731) dX8_lift_3 ?_
  obtain ⟨x_3, h_1, h⟩ := bnd_some h
  refine g_callSi (As := [.long a1.toInt64, .long 0, .long 11]) (rest := []) S hW (metX8_in h_1) (cwX8_in S.2.2.2.2 q1625 ⟨Nat.le_of_ble_eq_true rfl, Nat.le_of_ble_eq_true rfl⟩) rfl hl.1 rfl (Nat.le_of_ble_eq_true rfl) dX8_lift_6 ⟨Nat.le_refl _, Nat.le_refl _⟩ (fun H locs hW => ?_)
  refine lv_if_eq (tgt := 20) hx hb dX8_lift_9 (by decide) (fun c_4 => ?_) (fun c_4 => ?_)
  · have h := if_t h c_4
    refine lv_ldcw (v := (-2000000000)) hx hb S.2.2.2.1 (S.2.2.2.2 _ q1842) dX8_lift_20 ?_
    cases h
    exact g_iret S hr hlk hW dX8_lift_23
  · have h := if_f h c_4
    refine lv_aload_n hx hb dX8_lift_12 rfl (lv_at hl 0 rfl) ?_
    refine lv_iload_n hx hb dX8_lift_13 rfl (lv_at hl 1 rfl) ?_
    obtain ⟨x_7, h_5, h⟩ := bnd_some h
    refine g_callVi (As := [.int a1]) (rest := []) S hW (metX8_liftOf h_5) (cwX8_liftOf S.2.2.2.2 q1810 ⟨Nat.le_of_ble_eq_true rfl, Nat.le_of_ble_eq_true rfl⟩) (k := 0) rfl rfl rfl hl.1 rfl (Nat.le_of_ble_eq_true rfl) dX8_lift_14 ⟨Nat.le_refl _, Nat.le_refl _⟩ (fun H locs hW => ?_)
    refine lv_goto (tgt := 23) hx hb dX8_lift_17 (by decide) ?_
    cases h
    exact g_iret S hr hlk hW dX8_lift_23
theorem cwX8_lift {R : Room} {s : State} {args : Array Value} {index : Nat} (hts : ∀ w ∈ lw_all, w.before args s = true) (hl : Cond.methodLink RX8 index yX8_lift ∈ lw_all) (hR : rmX8_lift.frames + 1 ≤ R.frames ∧ 8 + (2 + 11) + rmX8_lift.locals ≤ R.locals) : CallW R s args RX8 RX8 index yX8_lift cX8_lift 2 (some .int) (ws_ yX8_lift cX8_lift 2 (some .int)) rmX8_lift 0 0 1 := cwV 1 hts (lw_V hl q1942 q1943 q122 q1944) rfl rfl rfl (by decide +kernel) hR
def tw_cracks_B4 (V : g_V) (rec : Int32 → Int32 → Option (Int32)) (x1 : Int32) (x2 : Int32) : Option (Int32) :=
  rdI (V 1) 810 3 fun x_1 => if x_1 ≤ x2 then (some x1) else (rdI (V 1) 810 ((732 + (3 * x2)) + 2) fun x_5 => if x_5 = (-1) then (nmI (x1 ||| 0) fun x_13 => nmI (x2 + 1) fun x_15 => rec x_13 x_15) else (nmI (x1 ||| ((1 : Int32) <<< (x2 &&& 31))) fun x_9 => nmI (x2 + 1) fun x_11 => rec x_9 x_11))
abbrev tw_cracks_F4 (V : g_V) : ((Int32 × Int32) → Option (Int32)) → (Int32 × Int32) → Option (Int32) := fun rec s => tw_cracks_B4 V (fun x1 x2 => rec (x1, x2)) s.1 s.2
def tw_cracks_L4 (V : g_V) (n : Nat) (x1 : Int32) (x2 : Int32) : Option (Int32) := lp (tw_cracks_F4 V) n (x1, x2)
theorem tw_cracks_L4_s (V : g_V) (n : Nat) (x1 : Int32) (x2 : Int32) : tw_cracks_L4 V (n + 1) x1 x2 = tw_cracks_B4 V (fun x1 x2 => tw_cracks_L4 V n x1 x2) x1 x2 := lp_s (tw_cracks_F4 V) n (x1, x2)
def tw_cracks (V0 : g_V) : Option (Int32) :=
  bnd (tw_cracks_L4 V0 1000 0 0) (fun x_19 => some x_19)
abbrev rmX8_cracks : Room := rm_ 0 0
set_option maxHeartbeats 4000000 in
theorem metX8_cracks {l : Launch} {gp : Nat → Nat} {nx : Nat} {D : va_G} {K : Nat → ClassId} {al : Nat → Nat} {V0 : g_V} {L0 : g_L} {r : Int32} (h : tw_cracks V0 = some r) : Met l yX8_cracks (ws_ yX8_cracks cX8_cracks 3 (some .int)) rmX8_cracks (twPc gp nx [.ref (al 0)] D K al V0 L0) (twQi r nx D K al V0 L0) 0 0 (g_A al twSh) := by
  refine g_met rfl (Nat.le_of_ble_eq_true rfl) ?_
  intro p e s m below meth c ls S hr hlk hnm hl hW
  have S : CallFix p m c cX8_cracks 3 s ([.ref (al 0)] : List Value).toArray lw_all RX8 := S
  have hx := S.1
  have hb := S.2.1
  have hl : lv_has ls 3 [(0, .ref (al 0))] := hl
  have Lp4 : ∀ (V : g_V) (L : g_L) (n : Nat) (x1 : Int32) (x2 : Int32) (out : (Int32)) (H : Heap) (locs : List Loc) (ls : Array Slot), tw_cracks_L4 V n x1 x2 = some out → twW gp nx D K al s V L H locs → lv_has ls 3 [(0, .ref (al 0)), (1, .int x1), (2, .int x2)] → (∀ (o1 : Int32), out = o1 → ∀ (H : Heap) (locs : List Loc) (ls : Array Slot), twW gp nx D K al s V L H locs → lv_has ls 3 [(1, .int o1)] → W p l e rmX8_cracks s m ([.ref (al 0)] : List Value).toArray below meth c H locs 0 0 (MQ below (twQi r nx D K al V0 L0) ([.ref (al 0)] : List Value).toArray s 0 0 (g_A al twSh)) (F0 m 48 ls [])) → W p l e rmX8_cracks s m ([.ref (al 0)] : List Value).toArray below meth c H locs 0 0 (MQ below (twQi r nx D K al V0 L0) ([.ref (al 0)] : List Value).toArray s 0 0 (g_A al twSh)) (F0 m 4 ls []) := by
    intro V L n
    induction n with
    | zero =>
      intro x1 x2 out H locs ls h
      exact (lp_0 h).elim
    | succ n ih =>
      intro x1 x2 out H locs ls h hW hl k1
      rw [tw_cracks_L4_s] at h
      unfold tw_cracks_B4 at h
      refine lv_iload_n hx hb dX8_cracks_4 rfl (lv_at hl 2 rfl) ?_
      refine lv_aload_n hx hb dX8_cracks_5 rfl (lv_at hl 0 rfl) ?_
      refine tw_ref S hW 1 1 (by decide) rfl q1500 rfl dX8_cracks_6 ?_
      refine lv_iconst (v := 3) hx hb dX8_cracks_9 (by decide) ?_
      obtain ⟨h_2, x_1, e_3, h⟩ := rdI_some h
      refine g_iald S hW (k := 1) rfl rfl h_2 e_3 dX8_cracks_10 ?_
      refine lv_icmp_ge (tgt := 48) hx hb dX8_cracks_11 (by decide) (fun c_4 => ?_) (fun c_4 => ?_)
      · have h := if_t h c_4
        exact k1 _ (Option.some.inj h).symm _ _ _ hW (lv_sub hl [1] rfl)
      · have h := if_f h c_4
        refine lv_iload_n hx hb dX8_cracks_14 rfl (lv_at hl 1 rfl) ?_
        refine lv_aload_n hx hb dX8_cracks_15 rfl (lv_at hl 0 rfl) ?_
        refine tw_ref S hW 1 1 (by decide) rfl q1500 rfl dX8_cracks_16 ?_
        refine lv_sipush (v := 732) hx hb dX8_cracks_19 (by decide) ?_
        refine lv_iconst (v := 3) hx hb dX8_cracks_22 (by decide) ?_
        refine lv_iload_n hx hb dX8_cracks_23 rfl (lv_at hl 2 rfl) ?_
        refine lv_imul hx hb dX8_cracks_24 ?_
        refine lv_iadd hx hb dX8_cracks_25 ?_
        refine lv_iconst (v := 2) hx hb dX8_cracks_26 (by decide) ?_
        refine lv_iadd hx hb dX8_cracks_27 ?_
        obtain ⟨h_6, x_5, e_7, h⟩ := rdI_some h
        refine g_iald S hW (k := 1) rfl rfl h_6 e_7 dX8_cracks_28 ?_
        refine lv_iconst (v := (-1)) hx hb dX8_cracks_29 (by decide) ?_
        refine lv_icmp_ne (tgt := 37) hx hb dX8_cracks_30 (by decide) (fun c_8 => ?_) (fun c_8 => ?_)
        · have h := if_f h c_8
          refine lv_iconst (v := 1) hx hb dX8_cracks_37 (by decide) ?_
          refine lv_iload_n hx hb dX8_cracks_38 rfl (lv_at hl 2 rfl) ?_
          refine lv_ishl hx hb dX8_cracks_39 ?_
          refine lv_ior hx hb dX8_cracks_40 ?_
          obtain ⟨x_9, e_10, h⟩ := nmI_some h
          refine g_nmi e_10 ?_
          refine lv_istore_n (lv' := [(1, .int x_9), (0, .ref (al 0)), (2, .int x2)]) hx hb dX8_cracks_41 rfl hl (by decide) rfl (fun ls hl => ?_)
          obtain ⟨x_11, e_12, h⟩ := nmI_some h
          refine lv_iinc (v := x_11) (lv' := [(2, .int x_11), (1, .int x_9), (0, .ref (al 0))]) hx hb dX8_cracks_42 hl (k := 2) rfl (by rw [e_12]; rfl) (by decide) rfl (fun ls hl => ?_)
          refine lv_goto (tgt := 4) hx hb dX8_cracks_45 (by decide) ?_
          exact ih x_9 x_11 out _ _ _ h hW (lv_sub hl [2, 1, 0] rfl) k1
        · have h := if_t h c_8
          refine lv_iconst (v := 0) hx hb dX8_cracks_33 (by decide) ?_
          refine lv_goto (tgt := 40) hx hb dX8_cracks_34 (by decide) ?_
          refine lv_ior hx hb dX8_cracks_40 ?_
          obtain ⟨x_13, e_14, h⟩ := nmI_some h
          refine g_nmi e_14 ?_
          refine lv_istore_n (lv' := [(1, .int x_13), (0, .ref (al 0)), (2, .int x2)]) hx hb dX8_cracks_41 rfl hl (by decide) rfl (fun ls hl => ?_)
          obtain ⟨x_15, e_16, h⟩ := nmI_some h
          refine lv_iinc (v := x_15) (lv' := [(2, .int x_15), (1, .int x_13), (0, .ref (al 0))]) hx hb dX8_cracks_42 hl (k := 2) rfl (by rw [e_16]; rfl) (by decide) rfl (fun ls hl => ?_)
          refine lv_goto (tgt := 4) hx hb dX8_cracks_45 (by decide) ?_
          exact ih x_13 x_15 out _ _ _ h hW (lv_sub hl [2, 1, 0] rfl) k1
  unfold tw_cracks at h
  refine lv_iconst (v := 0) hx hb dX8_cracks_0 (by decide) ?_
  refine lv_istore_n (lv' := [(1, .int 0), (0, .ref (al 0))]) hx hb dX8_cracks_1 rfl hl (by decide) rfl (fun ls hl => ?_)
  refine lv_iconst (v := 0) hx hb dX8_cracks_2 (by decide) ?_
  refine lv_istore_n (lv' := [(2, .int 0), (1, .int 0), (0, .ref (al 0))]) hx hb dX8_cracks_3 rfl hl (by decide) rfl (fun ls hl => ?_)
  obtain ⟨x_19, h_18, h⟩ := bnd_some h
  refine Lp4 V0 L0 1000 0 0  _ _ _ _ h_18 hW (lv_sub hl [2, 1, 0] rfl) ?_
  intro w0 eo H locs ls hW hl
  subst eo
  refine lv_iload_n hx hb dX8_cracks_48 rfl (lv_at hl 0 rfl) ?_
  cases h
  exact g_iret S hr hlk hW dX8_cracks_49
theorem cwX8_cracks {R : Room} {s : State} {args : Array Value} {index : Nat} (hts : ∀ w ∈ lw_all, w.before args s = true) (hl : Cond.methodLink RX8 index yX8_cracks ∈ lw_all) (hR : rmX8_cracks.frames + 1 ≤ R.frames ∧ 8 + (3 + 11) + rmX8_cracks.locals ≤ R.locals) : CallW R s args RX8 RX8 index yX8_cracks cX8_cracks 3 (some .int) (ws_ yX8_cracks cX8_cracks 3 (some .int)) rmX8_cracks 0 0 0 := cwV 0 hts (lw_V hl q1946 q1947 q122 q1948) rfl rfl rfl (by decide +kernel) hR
def tw_house (V0 : g_V) (a1 : Int32) (a2 : Int32) : Option (Int32) :=
  rdI (V0 1) 810 3 fun x_1 => bnd (tw_in a1.toInt64 0 ((x_1 - 1).toInt64)) (fun x_6 => if x_6 = 0 then (some (-2000000000)) else (bnd (tw_in a2.toInt64 0 2) (fun x_10 => if x_10 = 0 then (some (-2000000000)) else (rdI (V0 1) 810 ((732 + (3 * a1)) + a2) fun x_12 => some x_12))))
abbrev rmX8_house : Room := rm_ 1 25
set_option maxHeartbeats 4000000 in
theorem metX8_house {l : Launch} {gp : Nat → Nat} {nx : Nat} {D : va_G} {K : Nat → ClassId} {al : Nat → Nat} {V0 : g_V} {L0 : g_L} {a1 : Int32} {a2 : Int32} {r : Int32} (h : tw_house V0 a1 a2 = some r) : Met l yX8_house (ws_ yX8_house cX8_house 3 (some .int)) rmX8_house (twPc gp nx [.ref (al 0), .int a1, .int a2] D K al V0 L0) (twQi r nx D K al V0 L0) 0 0 (g_A al twSh) := by
  refine g_met rfl (Nat.le_of_ble_eq_true rfl) ?_
  intro p e s m below meth c ls S hr hlk hnm hl hW
  have S : CallFix p m c cX8_house 3 s ([.ref (al 0), .int a1, .int a2] : List Value).toArray lw_all RX8 := S
  have hx := S.1
  have hb := S.2.1
  have hl : lv_has ls 3 [(0, .ref (al 0)), (1, .int a1), (2, .int a2)] := hl
  unfold tw_house at h
  refine lv_iload_n hx hb dX8_house_0 rfl (lv_at hl 1 rfl) ?_
  refine lv_i2l (v := a1.toInt64) hx hb dX8_house_1 rfl ?_
  refine lv_lconst (v := 0) hx hb dX8_house_2 (by decide) ?_
  refine lv_aload_n hx hb dX8_house_3 rfl (lv_at hl 0 rfl) ?_
  refine tw_ref S hW 1 1 (by decide) rfl q1500 rfl dX8_house_4 ?_
  refine lv_iconst (v := 3) hx hb dX8_house_7 (by decide) ?_
  obtain ⟨h_2, x_1, e_3, h⟩ := rdI_some h
  refine g_iald S hW (k := 1) rfl rfl h_2 e_3 dX8_house_8 ?_
  refine lv_iconst (v := 1) hx hb dX8_house_9 (by decide) ?_
  refine lv_isub hx hb dX8_house_10 ?_
  refine lv_i2l (v := (x_1 - 1).toInt64) hx hb dX8_house_11 rfl ?_
  obtain ⟨x_6, h_4, h⟩ := bnd_some h
  refine g_callSi (As := [.long a1.toInt64, .long 0, .long ((x_1 - 1).toInt64)]) (rest := []) S hW (metX8_in h_4) (cwX8_in S.2.2.2.2 q1625 ⟨Nat.le_of_ble_eq_true rfl, Nat.le_of_ble_eq_true rfl⟩) rfl hl.1 rfl (Nat.le_of_ble_eq_true rfl) dX8_house_12 ⟨Nat.le_refl _, Nat.le_refl _⟩ (fun H locs hW => ?_)
  refine lv_if_eq (tgt := 47) hx hb dX8_house_15 (by decide) (fun c_7 => ?_) (fun c_7 => ?_)
  · have h := if_t h c_7
    refine lv_ldcw (v := (-2000000000)) hx hb S.2.2.2.1 (S.2.2.2.2 _ q1842) dX8_house_47 ?_
    cases h
    exact g_iret S hr hlk hW dX8_house_50
  · have h := if_f h c_7
    refine lv_iload_n hx hb dX8_house_18 rfl (lv_at hl 2 rfl) ?_
    refine lv_i2l (v := a2.toInt64) hx hb dX8_house_19 rfl ?_
    refine lv_lconst (v := 0) hx hb dX8_house_20 (by decide) ?_
    refine lv_ldc2 (v := 2) hx hb S.2.2.2.1 (S.2.2.2.2 _ q1624) dX8_house_21 ?_
    obtain ⟨x_10, h_8, h⟩ := bnd_some h
    refine g_callSi (As := [.long a2.toInt64, .long 0, .long 2]) (rest := []) S hW (metX8_in h_8) (cwX8_in S.2.2.2.2 q1625 ⟨Nat.le_of_ble_eq_true rfl, Nat.le_of_ble_eq_true rfl⟩) rfl hl.1 rfl (Nat.le_of_ble_eq_true rfl) dX8_house_24 ⟨Nat.le_refl _, Nat.le_refl _⟩ (fun H locs hW => ?_)
    refine lv_if_eq (tgt := 47) hx hb dX8_house_27 (by decide) (fun c_11 => ?_) (fun c_11 => ?_)
    · have h := if_t h c_11
      refine lv_ldcw (v := (-2000000000)) hx hb S.2.2.2.1 (S.2.2.2.2 _ q1842) dX8_house_47 ?_
      cases h
      exact g_iret S hr hlk hW dX8_house_50
    · have h := if_f h c_11
      refine lv_aload_n hx hb dX8_house_30 rfl (lv_at hl 0 rfl) ?_
      refine tw_ref S hW 1 1 (by decide) rfl q1500 rfl dX8_house_31 ?_
      refine lv_sipush (v := 732) hx hb dX8_house_34 (by decide) ?_
      refine lv_iconst (v := 3) hx hb dX8_house_37 (by decide) ?_
      refine lv_iload_n hx hb dX8_house_38 rfl (lv_at hl 1 rfl) ?_
      refine lv_imul hx hb dX8_house_39 ?_
      refine lv_iadd hx hb dX8_house_40 ?_
      refine lv_iload_n hx hb dX8_house_41 rfl (lv_at hl 2 rfl) ?_
      refine lv_iadd hx hb dX8_house_42 ?_
      obtain ⟨h_13, x_12, e_14, h⟩ := rdI_some h
      refine g_iald S hW (k := 1) rfl rfl h_13 e_14 dX8_house_43 ?_
      refine lv_goto (tgt := 50) hx hb dX8_house_44 (by decide) ?_
      cases h
      exact g_iret S hr hlk hW dX8_house_50
theorem cwX8_house {R : Room} {s : State} {args : Array Value} {index : Nat} (hts : ∀ w ∈ lw_all, w.before args s = true) (hl : Cond.methodLink RX8 index yX8_house ∈ lw_all) (hR : rmX8_house.frames + 1 ≤ R.frames ∧ 8 + (3 + 11) + rmX8_house.locals ≤ R.locals) : CallW R s args RX8 RX8 index yX8_house cX8_house 3 (some .int) (ws_ yX8_house cX8_house 3 (some .int)) rmX8_house 0 0 2 := cwV 2 hts (lw_V hl q1950 q1951 q122 q1952) rfl rfl rfl (by decide +kernel) hR
def tw_saves_B2 (rec : Int32 → g_V → Option (g_V)) (x1 : Int32) (V : g_V) : Option (g_V) :=
  if 810 ≤ x1 then (some V) else (rdI (V 1) 810 x1 fun x_2 => wrI V 2 810 x1 x_2 fun V_7 => nmI (x1 + 1) fun x_8 => rec x_8 V_7)
abbrev tw_saves_F2 : ((Int32 × g_V) → Option (g_V)) → (Int32 × g_V) → Option (g_V) := fun rec s => tw_saves_B2 (fun x1 V => rec (x1, V)) s.1 s.2
def tw_saves_L2 (n : Nat) (x1 : Int32) (V : g_V) : Option (g_V) := lp (tw_saves_F2) n (x1, V)
theorem tw_saves_L2_s (n : Nat) (x1 : Int32) (V : g_V) : tw_saves_L2 (n + 1) x1 V = tw_saves_B2 (fun x1 V => tw_saves_L2 n x1 V) x1 V := lp_s (tw_saves_F2) n (x1, V)
def tw_saves (V0 : g_V) : Option (g_V) :=
  bnd (tw_saves_L2 1000 0 V0) (fun V_12 => some V_12)
abbrev rmX8_saves : Room := rm_ 0 0
set_option maxHeartbeats 4000000 in
theorem metX8_saves {l : Launch} {gp : Nat → Nat} {nx : Nat} {D : va_G} {K : Nat → ClassId} {al : Nat → Nat} {V0 : g_V} {L0 : g_L} {V' : g_V} (h : tw_saves V0 = some V') : Met l yX8_saves (ws_ yX8_saves cX8_saves 2 (none)) rmX8_saves (twPc gp nx [.ref (al 0)] D K al V0 L0) (twQv nx D K al V' L0) 0 0 (g_A al twSh) := by
  refine g_met rfl (Nat.le_of_ble_eq_true rfl) ?_
  intro p e s m below meth c ls S hr hlk hnm hl hW
  have S : CallFix p m c cX8_saves 2 s ([.ref (al 0)] : List Value).toArray lw_all RX8 := S
  have hx := S.1
  have hb := S.2.1
  have hl : lv_has ls 2 [(0, .ref (al 0))] := hl
  have Lp2 : ∀ (L : g_L) (n : Nat) (x1 : Int32) (V : g_V) (out : (g_V)) (H : Heap) (locs : List Loc) (ls : Array Slot), tw_saves_L2 n x1 V = some out → twW gp nx D K al s V L H locs → lv_has ls 2 [(0, .ref (al 0)), (1, .int x1)] → (∀ (oV : g_V), out = oV → ∀ (H : Heap) (locs : List Loc) (ls : Array Slot), twW gp nx D K al s oV L H locs → lv_has ls 2 [] → W p l e rmX8_saves s m ([.ref (al 0)] : List Value).toArray below meth c H locs 0 0 (MQ below (twQv nx D K al V' L0) ([.ref (al 0)] : List Value).toArray s 0 0 (g_A al twSh)) (F0 m 27 ls [])) → W p l e rmX8_saves s m ([.ref (al 0)] : List Value).toArray below meth c H locs 0 0 (MQ below (twQv nx D K al V' L0) ([.ref (al 0)] : List Value).toArray s 0 0 (g_A al twSh)) (F0 m 2 ls []) := by
    intro L n
    induction n with
    | zero =>
      intro x1 V out H locs ls h
      exact (lp_0 h).elim
    | succ n ih =>
      intro x1 V out H locs ls h hW hl k1
      rw [tw_saves_L2_s] at h
      unfold tw_saves_B2 at h
      refine lv_iload_n hx hb dX8_saves_2 rfl (lv_at hl 1 rfl) ?_
      refine lv_sipush (v := 810) hx hb dX8_saves_3 (by decide) ?_
      refine lv_icmp_ge (tgt := 27) hx hb dX8_saves_6 (by decide) (fun c_1 => ?_) (fun c_1 => ?_)
      · have h := if_t h c_1
        exact k1 _ (Option.some.inj h).symm _ _ _ hW (lv_sub hl [] rfl)
      · have h := if_f h c_1
        refine lv_aload_n hx hb dX8_saves_9 rfl (lv_at hl 0 rfl) ?_
        refine tw_ref S hW 2 2 (by decide) rfl q1501 rfl dX8_saves_10 ?_
        refine lv_iload_n hx hb dX8_saves_13 rfl (lv_at hl 1 rfl) ?_
        refine lv_aload_n hx hb dX8_saves_14 rfl (lv_at hl 0 rfl) ?_
        refine tw_ref S hW 1 1 (by decide) rfl q1500 rfl dX8_saves_15 ?_
        refine lv_iload_n hx hb dX8_saves_18 rfl (lv_at hl 1 rfl) ?_
        obtain ⟨h_3, x_2, e_4, h⟩ := rdI_some h
        refine g_iald S hW (k := 1) rfl rfl h_3 e_4 dX8_saves_19 ?_
        obtain ⟨h_5, V_7, e_6, h⟩ := wrI_some h
        refine g_iast S hW (k := 2) rfl rfl h_5 e_6 dX8_saves_20 (fun H locs hW => ?_)
        obtain ⟨x_8, e_9, h⟩ := nmI_some h
        refine lv_iinc (v := x_8) (lv' := [(1, .int x_8), (0, .ref (al 0))]) hx hb dX8_saves_21 hl (k := 1) rfl (by rw [e_9]; rfl) (by decide) rfl (fun ls hl => ?_)
        refine lv_goto (tgt := 2) hx hb dX8_saves_24 (by decide) ?_
        exact ih x_8 V_7 out _ _ _ h hW (lv_sub hl [1, 0] rfl) k1
  unfold tw_saves at h
  refine lv_iconst (v := 0) hx hb dX8_saves_0 (by decide) ?_
  refine lv_istore_n (lv' := [(1, .int 0), (0, .ref (al 0))]) hx hb dX8_saves_1 rfl hl (by decide) rfl (fun ls hl => ?_)
  obtain ⟨V_12, h_11, h⟩ := bnd_some h
  refine Lp2 L0 1000 0 V0  _ _ _ _ h_11 hW (lv_sub hl [1, 0] rfl) ?_
  intro w0 eo H locs ls hW hl
  subst eo
  cases h
  exact g_vret S hr hlk hW dX8_saves_27
theorem cwX8_saves {R : Room} {s : State} {args : Array Value} {index : Nat} (hts : ∀ w ∈ lw_all, w.before args s = true) (hl : Cond.methodLink RX8 index yX8_saves ∈ lw_all) (hR : rmX8_saves.frames + 1 ≤ R.frames ∧ 8 + (2 + 11) + rmX8_saves.locals ≤ R.locals) : CallW R s args RX8 RX8 index yX8_saves cX8_saves 2 (none) (ws_ yX8_saves cX8_saves 2 (none)) rmX8_saves 0 0 0 := cwV 0 hts (lw_V hl q1959 qs100 q122 q1960) rfl rfl rfl (by decide +kernel) hR
def tw_putsBack_B2 (rec : Int32 → g_V → Option (g_V)) (x1 : Int32) (V : g_V) : Option (g_V) :=
  if 810 ≤ x1 then (some V) else (rdI (V 2) 810 x1 fun x_2 => wrI V 1 810 x1 x_2 fun V_7 => nmI (x1 + 1) fun x_8 => rec x_8 V_7)
abbrev tw_putsBack_F2 : ((Int32 × g_V) → Option (g_V)) → (Int32 × g_V) → Option (g_V) := fun rec s => tw_putsBack_B2 (fun x1 V => rec (x1, V)) s.1 s.2
def tw_putsBack_L2 (n : Nat) (x1 : Int32) (V : g_V) : Option (g_V) := lp (tw_putsBack_F2) n (x1, V)
theorem tw_putsBack_L2_s (n : Nat) (x1 : Int32) (V : g_V) : tw_putsBack_L2 (n + 1) x1 V = tw_putsBack_B2 (fun x1 V => tw_putsBack_L2 n x1 V) x1 V := lp_s (tw_putsBack_F2) n (x1, V)
def tw_putsBack (V0 : g_V) : Option (g_V) :=
  bnd (tw_putsBack_L2 1000 0 V0) (fun V_12 => some V_12)
abbrev rmX8_putsBack : Room := rm_ 0 0
set_option maxHeartbeats 4000000 in
theorem metX8_putsBack {l : Launch} {gp : Nat → Nat} {nx : Nat} {D : va_G} {K : Nat → ClassId} {al : Nat → Nat} {V0 : g_V} {L0 : g_L} {V' : g_V} (h : tw_putsBack V0 = some V') : Met l yX8_putsBack (ws_ yX8_putsBack cX8_putsBack 2 (none)) rmX8_putsBack (twPc gp nx [.ref (al 0)] D K al V0 L0) (twQv nx D K al V' L0) 0 0 (g_A al twSh) := by
  refine g_met rfl (Nat.le_of_ble_eq_true rfl) ?_
  intro p e s m below meth c ls S hr hlk hnm hl hW
  have S : CallFix p m c cX8_putsBack 2 s ([.ref (al 0)] : List Value).toArray lw_all RX8 := S
  have hx := S.1
  have hb := S.2.1
  have hl : lv_has ls 2 [(0, .ref (al 0))] := hl
  have Lp2 : ∀ (L : g_L) (n : Nat) (x1 : Int32) (V : g_V) (out : (g_V)) (H : Heap) (locs : List Loc) (ls : Array Slot), tw_putsBack_L2 n x1 V = some out → twW gp nx D K al s V L H locs → lv_has ls 2 [(0, .ref (al 0)), (1, .int x1)] → (∀ (oV : g_V), out = oV → ∀ (H : Heap) (locs : List Loc) (ls : Array Slot), twW gp nx D K al s oV L H locs → lv_has ls 2 [] → W p l e rmX8_putsBack s m ([.ref (al 0)] : List Value).toArray below meth c H locs 0 0 (MQ below (twQv nx D K al V' L0) ([.ref (al 0)] : List Value).toArray s 0 0 (g_A al twSh)) (F0 m 27 ls [])) → W p l e rmX8_putsBack s m ([.ref (al 0)] : List Value).toArray below meth c H locs 0 0 (MQ below (twQv nx D K al V' L0) ([.ref (al 0)] : List Value).toArray s 0 0 (g_A al twSh)) (F0 m 2 ls []) := by
    intro L n
    induction n with
    | zero =>
      intro x1 V out H locs ls h
      exact (lp_0 h).elim
    | succ n ih =>
      intro x1 V out H locs ls h hW hl k1
      rw [tw_putsBack_L2_s] at h
      unfold tw_putsBack_B2 at h
      refine lv_iload_n hx hb dX8_putsBack_2 rfl (lv_at hl 1 rfl) ?_
      refine lv_sipush (v := 810) hx hb dX8_putsBack_3 (by decide) ?_
      refine lv_icmp_ge (tgt := 27) hx hb dX8_putsBack_6 (by decide) (fun c_1 => ?_) (fun c_1 => ?_)
      · have h := if_t h c_1
        exact k1 _ (Option.some.inj h).symm _ _ _ hW (lv_sub hl [] rfl)
      · have h := if_f h c_1
        refine lv_aload_n hx hb dX8_putsBack_9 rfl (lv_at hl 0 rfl) ?_
        refine tw_ref S hW 1 1 (by decide) rfl q1500 rfl dX8_putsBack_10 ?_
        refine lv_iload_n hx hb dX8_putsBack_13 rfl (lv_at hl 1 rfl) ?_
        refine lv_aload_n hx hb dX8_putsBack_14 rfl (lv_at hl 0 rfl) ?_
        refine tw_ref S hW 2 2 (by decide) rfl q1501 rfl dX8_putsBack_15 ?_
        refine lv_iload_n hx hb dX8_putsBack_18 rfl (lv_at hl 1 rfl) ?_
        obtain ⟨h_3, x_2, e_4, h⟩ := rdI_some h
        refine g_iald S hW (k := 2) rfl rfl h_3 e_4 dX8_putsBack_19 ?_
        obtain ⟨h_5, V_7, e_6, h⟩ := wrI_some h
        refine g_iast S hW (k := 1) rfl rfl h_5 e_6 dX8_putsBack_20 (fun H locs hW => ?_)
        obtain ⟨x_8, e_9, h⟩ := nmI_some h
        refine lv_iinc (v := x_8) (lv' := [(1, .int x_8), (0, .ref (al 0))]) hx hb dX8_putsBack_21 hl (k := 1) rfl (by rw [e_9]; rfl) (by decide) rfl (fun ls hl => ?_)
        refine lv_goto (tgt := 2) hx hb dX8_putsBack_24 (by decide) ?_
        exact ih x_8 V_7 out _ _ _ h hW (lv_sub hl [1, 0] rfl) k1
  unfold tw_putsBack at h
  refine lv_iconst (v := 0) hx hb dX8_putsBack_0 (by decide) ?_
  refine lv_istore_n (lv' := [(1, .int 0), (0, .ref (al 0))]) hx hb dX8_putsBack_1 rfl hl (by decide) rfl (fun ls hl => ?_)
  obtain ⟨V_12, h_11, h⟩ := bnd_some h
  refine Lp2 L0 1000 0 V0  _ _ _ _ h_11 hW (lv_sub hl [1, 0] rfl) ?_
  intro w0 eo H locs ls hW hl
  subst eo
  cases h
  exact g_vret S hr hlk hW dX8_putsBack_27
theorem cwX8_putsBack {R : Room} {s : State} {args : Array Value} {index : Nat} (hts : ∀ w ∈ lw_all, w.before args s = true) (hl : Cond.methodLink RX8 index yX8_putsBack ∈ lw_all) (hR : rmX8_putsBack.frames + 1 ≤ R.frames ∧ 8 + (2 + 11) + rmX8_putsBack.locals ≤ R.locals) : CallW R s args RX8 RX8 index yX8_putsBack cX8_putsBack 2 (none) (ws_ yX8_putsBack cX8_putsBack 2 (none)) rmX8_putsBack 0 0 0 := cwV 0 hts (lw_V hl q1963 qs101 q122 q1964) rfl rfl rfl (by decide +kernel) hR
def tw_isSlot (a0 : Int32) : Option (Int32) :=
  bnd (tw_in a0.toInt64 0 3) (fun x_3 => okI (isB x_3) <| some x_3)
abbrev rmX8_isSlot : Room := rm_ 1 25
set_option maxHeartbeats 4000000 in
theorem metX8_isSlot {l : Launch} {gp : Nat → Nat} {nx : Nat} {D : va_G} {K : Nat → ClassId} {al : Nat → Nat} {V0 : g_V} {L0 : g_L} {a0 : Int32} {r : Int32} (h : tw_isSlot a0 = some r) : Met l yX8_isSlot (ws_ yX8_isSlot cX8_isSlot 1 (some .boolean)) rmX8_isSlot (twPc gp nx [.int a0] D K al V0 L0) (twQi r nx D K al V0 L0) 0 0 (g_A al twSh) := by
  refine g_met rfl (Nat.le_of_ble_eq_true rfl) ?_
  intro p e s m below meth c ls S hr hlk hnm hl hW
  have S : CallFix p m c cX8_isSlot 1 s ([.int a0] : List Value).toArray lw_all RX8 := S
  have hx := S.1
  have hb := S.2.1
  have hl : lv_has ls 1 [(0, .int a0)] := hl
  unfold tw_isSlot at h
  refine lv_iload_n hx hb dX8_isSlot_0 rfl (lv_at hl 0 rfl) ?_
  refine lv_i2l (v := a0.toInt64) hx hb dX8_isSlot_1 rfl ?_
  refine lv_lconst (v := 0) hx hb dX8_isSlot_2 (by decide) ?_
  refine lv_ldc2 (v := 3) hx hb S.2.2.2.1 (S.2.2.2.2 _ q1693) dX8_isSlot_3 ?_
  obtain ⟨x_3, h_1, h⟩ := bnd_some h
  refine g_callSi (As := [.long a0.toInt64, .long 0, .long 3]) (rest := []) S hW (metX8_in h_1) (cwX8_in S.2.2.2.2 q1625 ⟨Nat.le_of_ble_eq_true rfl, Nat.le_of_ble_eq_true rfl⟩) rfl hl.1 rfl (Nat.le_of_ble_eq_true rfl) dX8_isSlot_6 ⟨Nat.le_refl _, Nat.le_refl _⟩ (fun H locs hW => ?_)
  obtain ⟨h_4, h⟩ := okI_some h
  cases h
  exact g_zret S hr hlk (isB_narrow h_4) hW dX8_isSlot_9
theorem cwX8_isSlot {R : Room} {s : State} {args : Array Value} {index : Nat} (hts : ∀ w ∈ lw_all, w.before args s = true) (hl : Cond.methodLink RX8 index yX8_isSlot ∈ lw_all) (hR : rmX8_isSlot.frames + 1 ≤ R.frames ∧ 8 + (1 + 11) + rmX8_isSlot.locals ≤ R.locals) : CallB R s args RX8 index yX8_isSlot cX8_isSlot 1 (some .boolean) (ws_ yX8_isSlot cX8_isSlot 1 (some .boolean)) rmX8_isSlot 0 0 1 ∧ (Cond.static yX8_isSlot).before args s = true := va_cwS 1 hts (lw_S hl q1974 q122 q1975) rfl rfl rfl (by decide +kernel) hR
