/-! walks of the component: X1_becomes X3_pipe X3_rule -/
set_option maxRecDepth 100000
def cm_X1_becomes_B106 (gp : Nat → Nat) (x0 : Nat) (x1 : Nat) (rec : Int32 → c_S → Option (c_S)) (x2 : Int32) (Z : c_S) : Option (c_S) :=
  cA Z.Sh x1 1 20 5 fun a_31 => zK Z a_31 14 3 <| bnd (cm_J2_size Z a_31) (fun x_35 => if x_35 ≤ x2 then (some Z) else (cA Z.Sh x0 1 20 5 fun a_37 => cA Z.Sh x1 1 20 5 fun a_38 => zK Z a_38 14 3 <| bnd (cm_J2_get Z a_38 x2) (fun o_42 => zCk Z o_42 5 6 <| nn o_42 fun a_43 => zK Z a_43 5 6 <| bnd (cm_X5_copy Z a_43) (un2 fun o_47 Z_48 => nn o_47 fun a_49 => zK Z_48 a_37 14 3 <| bnd (cm_J2_add gp Z_48 a_37 a_49) (un2 fun x_53 Z_54 => nmI (x2 + 1) fun x_55 => rec x_55 Z_54)))))
abbrev cm_X1_becomes_F106 (gp : Nat → Nat) (x0 : Nat) (x1 : Nat) : (((Int32) × (c_S)) → Option (c_S)) → ((Int32) × (c_S)) → Option (c_S) := fun rec s => cm_X1_becomes_B106 gp x0 x1 (fun x2 Z => rec (x2, Z)) s.1 s.2
def cm_X1_becomes_L106 (gp : Nat → Nat) (x0 : Nat) (x1 : Nat) (n : Nat) (x2 : Int32) (Z : c_S) : Option (c_S) := lp (cm_X1_becomes_F106 gp x0 x1) n (x2, Z)
theorem cm_X1_becomes_L106_s (gp : Nat → Nat) (x0 : Nat) (x1 : Nat) (n : Nat) (x2 : Int32) (Z : c_S) : cm_X1_becomes_L106 gp x0 x1 (n + 1) x2 Z = cm_X1_becomes_B106 gp x0 x1 (fun x2 Z => cm_X1_becomes_L106 gp x0 x1 n x2 Z) x2 Z := lp_s (cm_X1_becomes_F106 gp x0 x1) n (x2, Z)
def cm_X1_becomes_B153 (gp : Nat → Nat) (x0 : Nat) (x1 : Nat) (rec : Int32 → c_S → Option (c_S)) (x2 : Int32) (Z : c_S) : Option (c_S) :=
  cA Z.Sh x1 1 20 6 fun a_60 => zK Z a_60 14 3 <| bnd (cm_J2_size Z a_60) (fun x_64 => if x_64 ≤ x2 then (some Z) else (cA Z.Sh x0 1 20 6 fun a_66 => cA Z.Sh x1 1 20 6 fun a_67 => zK Z a_67 14 3 <| bnd (cm_J2_get Z a_67 x2) (fun o_71 => zCk Z o_71 6 3 <| nn o_71 fun a_72 => zK Z a_72 6 3 <| bnd (cm_X6_copy Z a_72) (un2 fun o_76 Z_77 => nn o_76 fun a_78 => zK Z_77 a_66 14 3 <| bnd (cm_J2_add gp Z_77 a_66 a_78) (un2 fun x_82 Z_83 => nmI (x2 + 1) fun x_84 => rec x_84 Z_83)))))
abbrev cm_X1_becomes_F153 (gp : Nat → Nat) (x0 : Nat) (x1 : Nat) : (((Int32) × (c_S)) → Option (c_S)) → ((Int32) × (c_S)) → Option (c_S) := fun rec s => cm_X1_becomes_B153 gp x0 x1 (fun x2 Z => rec (x2, Z)) s.1 s.2
def cm_X1_becomes_L153 (gp : Nat → Nat) (x0 : Nat) (x1 : Nat) (n : Nat) (x2 : Int32) (Z : c_S) : Option (c_S) := lp (cm_X1_becomes_F153 gp x0 x1) n (x2, Z)
theorem cm_X1_becomes_L153_s (gp : Nat → Nat) (x0 : Nat) (x1 : Nat) (n : Nat) (x2 : Int32) (Z : c_S) : cm_X1_becomes_L153 gp x0 x1 (n + 1) x2 Z = cm_X1_becomes_B153 gp x0 x1 (fun x2 Z => cm_X1_becomes_L153 gp x0 x1 n x2 Z) x2 Z := lp_s (cm_X1_becomes_F153 gp x0 x1) n (x2, Z)
def cm_X1_becomes (gp : Nat → Nat) (Z0 : c_S) (a0 : Nat) (a1 : Nat) : Option (c_S) :=
  cA Z0.Sh a1 1 20 0 fun a_1 => zK Z0 a0 1 20 <| bnd (cm_X1_begins gp Z0 a0 a_1) (fun Z_5 => cA Z_5.Sh a1 1 20 1 fun a_6 => cA Z_5.Sh a0 1 20 1 fun a_7 => zCpI Z_5 0 a_6 0 a_7 0 144 fun Z_8 => cA Z_8.Sh a1 1 20 2 fun a_9 => cA Z_8.Sh a0 1 20 2 fun a_10 => zCpI Z_8 0 a_9 0 a_10 0 144 fun Z_11 => cA Z_11.Sh a1 1 20 4 fun a_12 => cA Z_11.Sh a0 1 20 4 fun a_13 => zCpI Z_11 2 a_12 0 a_13 0 144 fun Z_14 => cA Z_14.Sh a1 1 20 7 fun a_15 => cA Z_14.Sh a0 1 20 7 fun a_16 => zCpI Z_14 0 a_15 0 a_16 0 10 fun Z_17 => cA Z_17.Sh a1 1 20 8 fun a_18 => cA Z_17.Sh a0 1 20 8 fun a_19 => zCpI Z_17 0 a_18 0 a_19 0 10 fun Z_20 => cA Z_20.Sh a0 1 20 5 fun a_21 => zK Z_20 a_21 14 3 <| bnd (cm_J2_clear Z_20 a_21) (fun Z_25 => cA Z_25.Sh a0 1 20 6 fun a_26 => zK Z_25 a_26 14 3 <| bnd (cm_J2_clear Z_25 a_26) (fun Z_30 => bnd (cm_X1_becomes_L106 gp a0 a1 13 0 Z_30) (fun Z_59 => bnd (cm_X1_becomes_L153 gp a0 a1 7 0 Z_59) (fun Z_88 => cI Z_88.Sh Z_88.V a1 1 20 9 fun x_89 => zPI Z_88 a0 1 20 9 x_89 fun Z_90 => cI Z_90.Sh Z_90.V a1 1 20 10 fun x_91 => zPI Z_90 a0 1 20 10 x_91 fun Z_92 => cI Z_92.Sh Z_92.V a1 1 20 11 fun x_93 => zPI Z_92 a0 1 20 11 x_93 fun Z_94 => cI Z_94.Sh Z_94.V a1 1 20 12 fun x_95 => zPI Z_94 a0 1 20 12 x_95 fun Z_96 => cI Z_96.Sh Z_96.V a1 1 20 13 fun x_97 => zPI Z_96 a0 1 20 13 x_97 fun Z_98 => cI Z_98.Sh Z_98.V a1 1 20 14 fun x_99 => zPI Z_98 a0 1 20 14 x_99 fun Z_100 => cI Z_100.Sh Z_100.V a1 1 20 16 fun x_101 => zPI Z_100 a0 1 20 16 x_101 fun Z_102 => cI Z_102.Sh Z_102.V a1 1 20 17 fun x_103 => okI (isB x_103) <| zPI Z_102 a0 1 20 17 x_103 fun Z_104 => some Z_104)))))
abbrev rmX1_becomes : Room := rmD 8 213 80 958
theorem cwX1_begins_V {own : String} {R : Room} {s : State} {args : Array Value} {index : Nat} (hts : ∀ w ∈ lw_all, w.before args s = true) (hl : Cond.methodLink own index yX1_begins ∈ lw_all) (hR : rmX1_begins.frames + 1 ≤ R.frames ∧ 8 + (3 + 11) + rmX1_begins.locals ≤ R.locals) : CallW R s args own RX1 index yX1_begins cX1_begins 3 (none) (ws_ yX1_begins cX1_begins 3 (none)) rmX1_begins 40 479 1 := cwV 1 hts (lw_V hl q483 q484 q106 q485) rfl rfl rfl (by decide +kernel) hR
set_option maxHeartbeats 4000000 in
theorem metX1_becomes {l : Launch} {gp : Nat → Nat} {D : va_G} {K : Nat → ClassId} {Z0 : c_S} {a0 : Nat} {a1 : Nat} {Z' : c_S} (h : cm_X1_becomes gp Z0 a0 a1 = some Z') : Met l yX1_becomes (ws_ yX1_becomes cX1_becomes 3 (none)) rmX1_becomes (z_Pc gp [.ref a0, .ref a1] D K Z0) (z_Q (.returned (none)) D K (z_A Z0) Z') 80 958 (z_A Z0) := by
  refine d_met rfl (Nat.le_of_ble_eq_true rfl) ?_
  intro p e s m below meth c ls S hr hlk hnm hl hW hsz
  have S : CallFix p m c cX1_becomes 3 s ([.ref a0, .ref a1] : List Value).toArray lw_all RX1 := S
  have hx := S.1
  have hb := S.2.1
  have hl : lv_has ls 3 [(0, .ref a0), (1, .ref a1)] := hl
  have hnm : meth.name = "becomes" := hnm
  have Lp106 : ∀ (x0 : Nat) (x1 : Nat) (E G : Nat) (n : Nat) (x2 : Int32) (Z : c_S) (out : (c_S)) (cells slots : Nat) (H : Heap) (locs : List Loc) (ls : Array Slot), cm_X1_becomes_L106 gp x0 x1 n x2 Z = some out → z_W gp D K (z_A Z0) s Z H locs → lv_has ls 3 [(0, .ref x0), (1, .ref x1), (2, .int x2)] → cells + n * 2 ≤ E → slots + n * 25 ≤ G → E ≤ 80 → G ≤ 958 → (∀ (oZ : c_S), out = oZ → ∀ (H : Heap) (locs : List Loc) (ls : Array Slot), z_W gp D K (z_A Z0) s oZ H locs → lv_has ls 3 [(0, .ref x0), (1, .ref x1)] → W p l e rmX1_becomes s m ([.ref a0, .ref a1] : List Value).toArray below meth c H locs E G (MQ below (z_Q (.returned (none)) D K (z_A Z0) Z') ([.ref a0, .ref a1] : List Value).toArray s 80 958 (z_A Z0)) (F0 m 151 ls [])) → W p l e rmX1_becomes s m ([.ref a0, .ref a1] : List Value).toArray below meth c H locs cells slots (MQ below (z_Q (.returned (none)) D K (z_A Z0) Z') ([.ref a0, .ref a1] : List Value).toArray s 80 958 (z_A Z0)) (F0 m 106 ls []) := by
    intro x0 x1 E G n
    induction n with
    | zero =>
      intro x2 Z out cells slots H locs ls h
      exact (lp_0 h).elim
    | succ n ih =>
      intro x2 Z out cells slots H locs ls h hW hl hcl hsl hE hG k1
      have hcl := nsucc hcl
      have hsl := nsucc hsl
      rw [cm_X1_becomes_L106_s] at h
      unfold cm_X1_becomes_B106 at h
      refine lv_iload_n hx hb dX1_becomes_106 rfl (lv_at hl 2 rfl) ?_
      refine lv_aload_n hx hb dX1_becomes_107 rfl (lv_at hl 1 rfl) ?_
      refine zw_getA S hW zC_X1 (i := 5) (by decide) (Or.inl q675) (fun _ h => h) dX1_becomes_108 h (fun a_31 h => ?_)
      obtain ⟨⟨_, k_32⟩, h⟩ := zK_some h
      obtain ⟨x_35, h_33, h⟩ := bnd_some h
      refine d_callF (As := []) (rest := [.int x2]) S hW (metJ2_size h_33) (cwJ2_size_F S.2.2.2.2 q497 (hW.1.2.2.2.2.1.2.2.2.2.2.2.1 _ (List.mem_of_getElem? (i := 1) rfl)) ⟨Nat.le_of_ble_eq_true rfl, Nat.le_of_ble_eq_true rfl⟩) k_32 rfl rfl hl.1 rfl (Nat.le_of_ble_eq_true rfl) dX1_becomes_111 ⟨(show _ ≤ 80 from by omega), (show _ ≤ 958 from by omega)⟩ rfl (fun H locs hW => ?_)
      refine lv_icmp_ge (tgt := 151) hx hb dX1_becomes_116 (by decide) (fun c_36 => ?_) (fun c_36 => ?_)
      · have h := if_t h c_36
        exact W.widen (by omega) (by omega) (k1 _ (Option.some.inj h).symm _ _ _ hW (lv_sub hl [0, 1] rfl))
      · have h := if_f h c_36
        refine lv_aload_n hx hb dX1_becomes_119 rfl (lv_at hl 0 rfl) ?_
        refine zw_getA S hW zC_X1 (i := 5) (by decide) (Or.inl q675) (fun _ h => h) dX1_becomes_120 h (fun a_37 h => ?_)
        refine lv_aload_n hx hb dX1_becomes_123 rfl (lv_at hl 1 rfl) ?_
        refine zw_getA S hW zC_X1 (i := 5) (by decide) (Or.inl q675) (fun _ h => h) dX1_becomes_124 h (fun a_38 h => ?_)
        refine lv_iload_n hx hb dX1_becomes_127 rfl (lv_at hl 2 rfl) ?_
        obtain ⟨⟨_, k_39⟩, h⟩ := zK_some h
        obtain ⟨o_42, h_40, h⟩ := bnd_some h
        refine d_callF (As := [.int x2]) (rest := [.ref a_37]) S hW (metJ2_get h_40) (cwJ2_get_F S.2.2.2.2 q506 (hW.1.2.2.2.2.1.2.2.2.2.2.2.1 _ (List.mem_of_getElem? (i := 2) rfl)) ⟨Nat.le_of_ble_eq_true rfl, Nat.le_of_ble_eq_true rfl⟩) k_39 rfl rfl hl.1 rfl (Nat.le_of_ble_eq_true rfl) dX1_becomes_128 ⟨(show _ ≤ 80 from by omega), (show _ ≤ 958 from by omega)⟩ rfl (fun H locs hW => ?_)
        refine zw_ck (o := o_42) S hW zC_X5 q524 dX1_becomes_133 h (fun h => ?_)
        have h9 := nn_some h
        clear h
        obtain ⟨a_43, rfl, h8⟩ := h9
        have h := h8
        clear h8
        obtain ⟨⟨_, k_44⟩, h⟩ := zK_some h
        obtain ⟨o_47, Z_48, h_45, h⟩ := bnd2_some h
        refine d_callV (As := []) (rest := [.ref a_37]) S hW (metX5_copy h_45) (cwX5_copy_V S.2.2.2.2 q525 ⟨Nat.le_of_ble_eq_true rfl, Nat.le_of_ble_eq_true rfl⟩) k_44 rfl rfl hl.1 rfl (Nat.le_of_ble_eq_true rfl) dX1_becomes_136 ⟨(show _ ≤ 80 from by omega), (show _ ≤ 958 from by omega)⟩ rfl (fun H locs hW => ?_)
        have h9 := nn_some h
        clear h
        obtain ⟨a_49, rfl, h8⟩ := h9
        have h := h8
        clear h8
        obtain ⟨⟨_, k_50⟩, h⟩ := zK_some h
        obtain ⟨x_53, Z_54, h_51, h⟩ := bnd2_some h
        refine d_callF (As := [.ref a_49]) (rest := []) S hW (metJ2_add h_51) (cwJ2_add_F S.2.2.2.2 q569 (hW.1.2.2.2.2.1.2.2.2.2.2.2.1 _ (List.mem_of_getElem? (i := 3) rfl)) ⟨Nat.le_of_ble_eq_true rfl, Nat.le_of_ble_eq_true rfl⟩) k_50 rfl rfl hl.1 rfl (Nat.le_of_ble_eq_true rfl) dX1_becomes_139 ⟨(show _ ≤ 80 from by omega), (show _ ≤ 958 from by omega)⟩ rfl (fun H locs hW => ?_)
        refine lv_pop hx hb dX1_becomes_144 rfl ?_
        obtain ⟨x_55, e_56, h⟩ := nmI_some h
        refine lv_iinc (v := x_55) (lv' := [(2, .int x_55), (0, .ref x0), (1, .ref x1)]) hx hb dX1_becomes_145 hl (k := 2) rfl (by rw [e_56]; rfl) (by decide) rfl (fun ls hl => ?_)
        refine lv_goto (tgt := 106) hx hb dX1_becomes_148 (by decide) ?_
        exact ih x_55 Z_54 out (cells + 2) (slots + 25) _ _ _ h hW (lv_sub hl [1, 2, 0] rfl) (by omega) (by omega) hE hG k1
  have Lp153 : ∀ (x0 : Nat) (x1 : Nat) (E G : Nat) (n : Nat) (x2 : Int32) (Z : c_S) (out : (c_S)) (cells slots : Nat) (H : Heap) (locs : List Loc) (ls : Array Slot), cm_X1_becomes_L153 gp x0 x1 n x2 Z = some out → z_W gp D K (z_A Z0) s Z H locs → lv_has ls 3 [(0, .ref x0), (1, .ref x1), (2, .int x2)] → cells + n * 2 ≤ E → slots + n * 22 ≤ G → E ≤ 80 → G ≤ 958 → (∀ (oZ : c_S), out = oZ → ∀ (H : Heap) (locs : List Loc) (ls : Array Slot), z_W gp D K (z_A Z0) s oZ H locs → lv_has ls 3 [(0, .ref x0), (1, .ref x1)] → W p l e rmX1_becomes s m ([.ref a0, .ref a1] : List Value).toArray below meth c H locs E G (MQ below (z_Q (.returned (none)) D K (z_A Z0) Z') ([.ref a0, .ref a1] : List Value).toArray s 80 958 (z_A Z0)) (F0 m 198 ls [])) → W p l e rmX1_becomes s m ([.ref a0, .ref a1] : List Value).toArray below meth c H locs cells slots (MQ below (z_Q (.returned (none)) D K (z_A Z0) Z') ([.ref a0, .ref a1] : List Value).toArray s 80 958 (z_A Z0)) (F0 m 153 ls []) := by
    intro x0 x1 E G n
    induction n with
    | zero =>
      intro x2 Z out cells slots H locs ls h
      exact (lp_0 h).elim
    | succ n ih =>
      intro x2 Z out cells slots H locs ls h hW hl hcl hsl hE hG k1
      have hcl := nsucc hcl
      have hsl := nsucc hsl
      rw [cm_X1_becomes_L153_s] at h
      unfold cm_X1_becomes_B153 at h
      refine lv_iload_n hx hb dX1_becomes_153 rfl (lv_at hl 2 rfl) ?_
      refine lv_aload_n hx hb dX1_becomes_154 rfl (lv_at hl 1 rfl) ?_
      refine zw_getA S hW zC_X1 (i := 6) (by decide) (Or.inl q677) (fun _ h => h) dX1_becomes_155 h (fun a_60 h => ?_)
      obtain ⟨⟨_, k_61⟩, h⟩ := zK_some h
      obtain ⟨x_64, h_62, h⟩ := bnd_some h
      refine d_callF (As := []) (rest := [.int x2]) S hW (metJ2_size h_62) (cwJ2_size_F S.2.2.2.2 q497 (hW.1.2.2.2.2.1.2.2.2.2.2.2.1 _ (List.mem_of_getElem? (i := 1) rfl)) ⟨Nat.le_of_ble_eq_true rfl, Nat.le_of_ble_eq_true rfl⟩) k_61 rfl rfl hl.1 rfl (Nat.le_of_ble_eq_true rfl) dX1_becomes_158 ⟨(show _ ≤ 80 from by omega), (show _ ≤ 958 from by omega)⟩ rfl (fun H locs hW => ?_)
      refine lv_icmp_ge (tgt := 198) hx hb dX1_becomes_163 (by decide) (fun c_65 => ?_) (fun c_65 => ?_)
      · have h := if_t h c_65
        exact W.widen (by omega) (by omega) (k1 _ (Option.some.inj h).symm _ _ _ hW (lv_sub hl [0, 1] rfl))
      · have h := if_f h c_65
        refine lv_aload_n hx hb dX1_becomes_166 rfl (lv_at hl 0 rfl) ?_
        refine zw_getA S hW zC_X1 (i := 6) (by decide) (Or.inl q677) (fun _ h => h) dX1_becomes_167 h (fun a_66 h => ?_)
        refine lv_aload_n hx hb dX1_becomes_170 rfl (lv_at hl 1 rfl) ?_
        refine zw_getA S hW zC_X1 (i := 6) (by decide) (Or.inl q677) (fun _ h => h) dX1_becomes_171 h (fun a_67 h => ?_)
        refine lv_iload_n hx hb dX1_becomes_174 rfl (lv_at hl 2 rfl) ?_
        obtain ⟨⟨_, k_68⟩, h⟩ := zK_some h
        obtain ⟨o_71, h_69, h⟩ := bnd_some h
        refine d_callF (As := [.int x2]) (rest := [.ref a_66]) S hW (metJ2_get h_69) (cwJ2_get_F S.2.2.2.2 q506 (hW.1.2.2.2.2.1.2.2.2.2.2.2.1 _ (List.mem_of_getElem? (i := 2) rfl)) ⟨Nat.le_of_ble_eq_true rfl, Nat.le_of_ble_eq_true rfl⟩) k_68 rfl rfl hl.1 rfl (Nat.le_of_ble_eq_true rfl) dX1_becomes_175 ⟨(show _ ≤ 80 from by omega), (show _ ≤ 958 from by omega)⟩ rfl (fun H locs hW => ?_)
        refine zw_ck (o := o_71) S hW zC_X6 q637 dX1_becomes_180 h (fun h => ?_)
        have h9 := nn_some h
        clear h
        obtain ⟨a_72, rfl, h8⟩ := h9
        have h := h8
        clear h8
        obtain ⟨⟨_, k_73⟩, h⟩ := zK_some h
        obtain ⟨o_76, Z_77, h_74, h⟩ := bnd2_some h
        refine d_callV (As := []) (rest := [.ref a_66]) S hW (metX6_copy h_74) (cwX6_copy_V S.2.2.2.2 q638 ⟨Nat.le_of_ble_eq_true rfl, Nat.le_of_ble_eq_true rfl⟩) k_73 rfl rfl hl.1 rfl (Nat.le_of_ble_eq_true rfl) dX1_becomes_183 ⟨(show _ ≤ 80 from by omega), (show _ ≤ 958 from by omega)⟩ rfl (fun H locs hW => ?_)
        have h9 := nn_some h
        clear h
        obtain ⟨a_78, rfl, h8⟩ := h9
        have h := h8
        clear h8
        obtain ⟨⟨_, k_79⟩, h⟩ := zK_some h
        obtain ⟨x_82, Z_83, h_80, h⟩ := bnd2_some h
        refine d_callF (As := [.ref a_78]) (rest := []) S hW (metJ2_add h_80) (cwJ2_add_F S.2.2.2.2 q569 (hW.1.2.2.2.2.1.2.2.2.2.2.2.1 _ (List.mem_of_getElem? (i := 3) rfl)) ⟨Nat.le_of_ble_eq_true rfl, Nat.le_of_ble_eq_true rfl⟩) k_79 rfl rfl hl.1 rfl (Nat.le_of_ble_eq_true rfl) dX1_becomes_186 ⟨(show _ ≤ 80 from by omega), (show _ ≤ 958 from by omega)⟩ rfl (fun H locs hW => ?_)
        refine lv_pop hx hb dX1_becomes_191 rfl ?_
        obtain ⟨x_84, e_85, h⟩ := nmI_some h
        refine lv_iinc (v := x_84) (lv' := [(2, .int x_84), (0, .ref x0), (1, .ref x1)]) hx hb dX1_becomes_192 hl (k := 2) rfl (by rw [e_85]; rfl) (by decide) rfl (fun ls hl => ?_)
        refine lv_goto (tgt := 153) hx hb dX1_becomes_195 (by decide) ?_
        exact ih x_84 Z_83 out (cells + 2) (slots + 22) _ _ _ h hW (lv_sub hl [1, 2, 0] rfl) (by omega) (by omega) hE hG k1
  unfold cm_X1_becomes at h
  refine lv_aload_n hx hb dX1_becomes_0 rfl (lv_at hl 0 rfl) ?_
  refine lv_aload_n hx hb dX1_becomes_1 rfl (lv_at hl 1 rfl) ?_
  refine zw_getA S hW zC_X1 (i := 0) (by decide) (Or.inl q665) (fun _ h => h) dX1_becomes_2 h (fun a_1 h => ?_)
  obtain ⟨⟨_, k_2⟩, h⟩ := zK_some h
  obtain ⟨Z_5, h_3, h⟩ := bnd_some h
  refine d_callV (As := [.ref a_1]) (rest := []) S hW (metX1_begins h_3) (cwX1_begins_V S.2.2.2.2 q482 ⟨Nat.le_of_ble_eq_true rfl, Nat.le_of_ble_eq_true rfl⟩) k_2 rfl rfl hl.1 rfl (Nat.le_of_ble_eq_true rfl) dX1_becomes_5 ⟨(Nat.le_of_ble_eq_true rfl), (Nat.le_of_ble_eq_true rfl)⟩ rfl (fun H locs hW => ?_)
  refine lv_aload_n hx hb dX1_becomes_8 rfl (lv_at hl 1 rfl) ?_
  refine zw_getA S hW zC_X1 (i := 1) (by decide) (Or.inl q668) (fun _ h => h) dX1_becomes_9 h (fun a_6 h => ?_)
  refine lv_iconst (v := 0) hx hb dX1_becomes_12 (by decide) ?_
  refine lv_aload_n hx hb dX1_becomes_13 rfl (lv_at hl 0 rfl) ?_
  refine zw_getA S hW zC_X1 (i := 1) (by decide) (Or.inl q668) (fun _ h => h) dX1_becomes_14 h (fun a_7 h => ?_)
  refine lv_iconst (v := 0) hx hb dX1_becomes_17 (by decide) ?_
  refine lv_sipush (v := 144) hx hb dX1_becomes_18 (by decide) ?_
  refine zw_copy (t := 0) S hW hl.1 rfl rfl zfit_0 q1402 (Nat.le_of_ble_eq_true rfl) (zm_lo2 (z_ro (Nat.le_of_ble_eq_true rfl)) (Nat.le_of_ble_eq_true rfl)) dX1_becomes_21 h (fun Z_8 h H locs hW => ?_)
  refine lv_aload_n hx hb dX1_becomes_24 rfl (lv_at hl 1 rfl) ?_
  refine zw_getA S hW zC_X1 (i := 2) (by decide) (Or.inl q670) (fun _ h => h) dX1_becomes_25 h (fun a_9 h => ?_)
  refine lv_iconst (v := 0) hx hb dX1_becomes_28 (by decide) ?_
  refine lv_aload_n hx hb dX1_becomes_29 rfl (lv_at hl 0 rfl) ?_
  refine zw_getA S hW zC_X1 (i := 2) (by decide) (Or.inl q670) (fun _ h => h) dX1_becomes_30 h (fun a_10 h => ?_)
  refine lv_iconst (v := 0) hx hb dX1_becomes_33 (by decide) ?_
  refine lv_sipush (v := 144) hx hb dX1_becomes_34 (by decide) ?_
  refine zw_copy (t := 0) S hW hl.1 rfl rfl zfit_0 q1402 (Nat.le_of_ble_eq_true rfl) (zm_lo2 (z_ro (Nat.le_of_ble_eq_true rfl)) (Nat.le_of_ble_eq_true rfl)) dX1_becomes_37 h (fun Z_11 h H locs hW => ?_)
  refine lv_aload_n hx hb dX1_becomes_40 rfl (lv_at hl 1 rfl) ?_
  refine zw_getA S hW zC_X1 (i := 4) (by decide) (Or.inl q673) (fun _ h => h) dX1_becomes_41 h (fun a_12 h => ?_)
  refine lv_iconst (v := 0) hx hb dX1_becomes_44 (by decide) ?_
  refine lv_aload_n hx hb dX1_becomes_45 rfl (lv_at hl 0 rfl) ?_
  refine zw_getA S hW zC_X1 (i := 4) (by decide) (Or.inl q673) (fun _ h => h) dX1_becomes_46 h (fun a_13 h => ?_)
  refine lv_iconst (v := 0) hx hb dX1_becomes_49 (by decide) ?_
  refine lv_sipush (v := 144) hx hb dX1_becomes_50 (by decide) ?_
  refine zw_copy (t := 2) S hW hl.1 rfl rfl zfit_2 q1402 (Nat.le_of_ble_eq_true rfl) (zm_lo2 (z_ro (Nat.le_of_ble_eq_true rfl)) (Nat.le_of_ble_eq_true rfl)) dX1_becomes_53 h (fun Z_14 h H locs hW => ?_)
  refine lv_aload_n hx hb dX1_becomes_56 rfl (lv_at hl 1 rfl) ?_
  refine zw_getA S hW zC_X1 (i := 7) (by decide) (Or.inl q679) (fun _ h => h) dX1_becomes_57 h (fun a_15 h => ?_)
  refine lv_iconst (v := 0) hx hb dX1_becomes_60 (by decide) ?_
  refine lv_aload_n hx hb dX1_becomes_61 rfl (lv_at hl 0 rfl) ?_
  refine zw_getA S hW zC_X1 (i := 7) (by decide) (Or.inl q679) (fun _ h => h) dX1_becomes_62 h (fun a_16 h => ?_)
  refine lv_iconst (v := 0) hx hb dX1_becomes_65 (by decide) ?_
  refine lv_bipush (v := 10) hx hb dX1_becomes_66 (by decide) ?_
  refine zw_copy (t := 0) S hW hl.1 rfl rfl zfit_0 q1402 (Nat.le_of_ble_eq_true rfl) (zm_lo2 (z_ro (Nat.le_of_ble_eq_true rfl)) (Nat.le_of_ble_eq_true rfl)) dX1_becomes_68 h (fun Z_17 h H locs hW => ?_)
  refine lv_aload_n hx hb dX1_becomes_71 rfl (lv_at hl 1 rfl) ?_
  refine zw_getA S hW zC_X1 (i := 8) (by decide) (Or.inl q681) (fun _ h => h) dX1_becomes_72 h (fun a_18 h => ?_)
  refine lv_iconst (v := 0) hx hb dX1_becomes_75 (by decide) ?_
  refine lv_aload_n hx hb dX1_becomes_76 rfl (lv_at hl 0 rfl) ?_
  refine zw_getA S hW zC_X1 (i := 8) (by decide) (Or.inl q681) (fun _ h => h) dX1_becomes_77 h (fun a_19 h => ?_)
  refine lv_iconst (v := 0) hx hb dX1_becomes_80 (by decide) ?_
  refine lv_bipush (v := 10) hx hb dX1_becomes_81 (by decide) ?_
  refine zw_copy (t := 0) S hW hl.1 rfl rfl zfit_0 q1402 (Nat.le_of_ble_eq_true rfl) (zm_lo2 (z_ro (Nat.le_of_ble_eq_true rfl)) (Nat.le_of_ble_eq_true rfl)) dX1_becomes_83 h (fun Z_20 h H locs hW => ?_)
  refine lv_aload_n hx hb dX1_becomes_86 rfl (lv_at hl 0 rfl) ?_
  refine zw_getA S hW zC_X1 (i := 5) (by decide) (Or.inl q675) (fun _ h => h) dX1_becomes_87 h (fun a_21 h => ?_)
  obtain ⟨⟨_, k_22⟩, h⟩ := zK_some h
  obtain ⟨Z_25, h_23, h⟩ := bnd_some h
  refine d_callF (As := []) (rest := []) S hW (metJ2_clear h_23) (cwJ2_clear_F S.2.2.2.2 q487 (hW.1.2.2.2.2.1.2.2.2.2.2.2.1 _ (List.mem_of_getElem? (i := 0) rfl)) ⟨Nat.le_of_ble_eq_true rfl, Nat.le_of_ble_eq_true rfl⟩) k_22 rfl rfl hl.1 rfl (Nat.le_of_ble_eq_true rfl) dX1_becomes_90 ⟨(Nat.le_of_ble_eq_true rfl), (Nat.le_of_ble_eq_true rfl)⟩ rfl (fun H locs hW => ?_)
  refine lv_aload_n hx hb dX1_becomes_95 rfl (lv_at hl 0 rfl) ?_
  refine zw_getA S hW zC_X1 (i := 6) (by decide) (Or.inl q677) (fun _ h => h) dX1_becomes_96 h (fun a_26 h => ?_)
  obtain ⟨⟨_, k_27⟩, h⟩ := zK_some h
  obtain ⟨Z_30, h_28, h⟩ := bnd_some h
  refine d_callF (As := []) (rest := []) S hW (metJ2_clear h_28) (cwJ2_clear_F S.2.2.2.2 q487 (hW.1.2.2.2.2.1.2.2.2.2.2.2.1 _ (List.mem_of_getElem? (i := 0) rfl)) ⟨Nat.le_of_ble_eq_true rfl, Nat.le_of_ble_eq_true rfl⟩) k_27 rfl rfl hl.1 rfl (Nat.le_of_ble_eq_true rfl) dX1_becomes_99 ⟨(Nat.le_of_ble_eq_true rfl), (Nat.le_of_ble_eq_true rfl)⟩ rfl (fun H locs hW => ?_)
  refine lv_iconst (v := 0) hx hb dX1_becomes_104 (by decide) ?_
  refine lv_istore_n (lv' := [(2, .int 0), (0, .ref a0), (1, .ref a1)]) hx hb dX1_becomes_105 rfl hl (by decide) rfl (fun ls hl => ?_)
  obtain ⟨Z_59, h_58, h⟩ := bnd_some h
  refine Lp106 a0 a1 66 804 13 0 Z_30  _ 40 479 _ _ _ h_58 hW (lv_sub hl [1, 2, 0] rfl) (by omega) (by omega) (by omega) (by omega) ?_
  intro w0 eo H locs ls hW hl
  subst eo
  refine lv_iconst (v := 0) hx hb dX1_becomes_151 (by decide) ?_
  refine lv_istore_n (lv' := [(2, .int 0), (0, .ref a0), (1, .ref a1)]) hx hb dX1_becomes_152 rfl hl (by decide) rfl (fun ls hl => ?_)
  obtain ⟨Z_88, h_87, h⟩ := bnd_some h
  refine Lp153 a0 a1 80 958 7 0 Z_59  _ 66 804 _ _ _ h_87 hW (lv_sub hl [1, 2, 0] rfl) (by omega) (by omega) (by omega) (by omega) ?_
  intro w0 eo H locs ls hW hl
  subst eo
  refine lv_aload_n hx hb dX1_becomes_198 rfl (lv_at hl 0 rfl) ?_
  refine lv_aload_n hx hb dX1_becomes_199 rfl (lv_at hl 1 rfl) ?_
  refine zw_getI S hW zC_X1 (i := 9) (by decide) (Or.inl q683) (fun _ h => h) dX1_becomes_200 h (fun x_89 h => ?_)
  refine zw_putI S hW zC_X1 (i := 9) (by decide) (Or.inl rfl) rfl rfl rfl (Or.inl q683) (fun _ h => h) dX1_becomes_203 h (fun Z_90 h H locs hW => ?_)
  refine lv_aload_n hx hb dX1_becomes_206 rfl (lv_at hl 0 rfl) ?_
  refine lv_aload_n hx hb dX1_becomes_207 rfl (lv_at hl 1 rfl) ?_
  refine zw_getI S hW zC_X1 (i := 10) (by decide) (Or.inl q685) (fun _ h => h) dX1_becomes_208 h (fun x_91 h => ?_)
  refine zw_putI S hW zC_X1 (i := 10) (by decide) (Or.inl rfl) rfl rfl rfl (Or.inl q685) (fun _ h => h) dX1_becomes_211 h (fun Z_92 h H locs hW => ?_)
  refine lv_aload_n hx hb dX1_becomes_214 rfl (lv_at hl 0 rfl) ?_
  refine lv_aload_n hx hb dX1_becomes_215 rfl (lv_at hl 1 rfl) ?_
  refine zw_getI S hW zC_X1 (i := 11) (by decide) (Or.inl q687) (fun _ h => h) dX1_becomes_216 h (fun x_93 h => ?_)
  refine zw_putI S hW zC_X1 (i := 11) (by decide) (Or.inl rfl) rfl rfl rfl (Or.inl q687) (fun _ h => h) dX1_becomes_219 h (fun Z_94 h H locs hW => ?_)
  refine lv_aload_n hx hb dX1_becomes_222 rfl (lv_at hl 0 rfl) ?_
  refine lv_aload_n hx hb dX1_becomes_223 rfl (lv_at hl 1 rfl) ?_
  refine zw_getI S hW zC_X1 (i := 12) (by decide) (Or.inl q689) (fun _ h => h) dX1_becomes_224 h (fun x_95 h => ?_)
  refine zw_putI S hW zC_X1 (i := 12) (by decide) (Or.inl rfl) rfl rfl rfl (Or.inl q689) (fun _ h => h) dX1_becomes_227 h (fun Z_96 h H locs hW => ?_)
  refine lv_aload_n hx hb dX1_becomes_230 rfl (lv_at hl 0 rfl) ?_
  refine lv_aload_n hx hb dX1_becomes_231 rfl (lv_at hl 1 rfl) ?_
  refine zw_getI S hW zC_X1 (i := 13) (by decide) (Or.inl q691) (fun _ h => h) dX1_becomes_232 h (fun x_97 h => ?_)
  refine zw_putI S hW zC_X1 (i := 13) (by decide) (Or.inl rfl) rfl rfl rfl (Or.inl q691) (fun _ h => h) dX1_becomes_235 h (fun Z_98 h H locs hW => ?_)
  refine lv_aload_n hx hb dX1_becomes_238 rfl (lv_at hl 0 rfl) ?_
  refine lv_aload_n hx hb dX1_becomes_239 rfl (lv_at hl 1 rfl) ?_
  refine zw_getI S hW zC_X1 (i := 14) (by decide) (Or.inl q693) (fun _ h => h) dX1_becomes_240 h (fun x_99 h => ?_)
  refine zw_putI S hW zC_X1 (i := 14) (by decide) (Or.inl rfl) rfl rfl rfl (Or.inl q693) (fun _ h => h) dX1_becomes_243 h (fun Z_100 h H locs hW => ?_)
  refine lv_aload_n hx hb dX1_becomes_246 rfl (lv_at hl 0 rfl) ?_
  refine lv_aload_n hx hb dX1_becomes_247 rfl (lv_at hl 1 rfl) ?_
  refine zw_getI S hW zC_X1 (i := 16) (by decide) (Or.inl q697) (fun _ h => h) dX1_becomes_248 h (fun x_101 h => ?_)
  refine zw_putI S hW zC_X1 (i := 16) (by decide) (Or.inl rfl) rfl rfl rfl (Or.inl q697) (fun _ h => h) dX1_becomes_251 h (fun Z_102 h H locs hW => ?_)
  refine lv_aload_n hx hb dX1_becomes_254 rfl (lv_at hl 0 rfl) ?_
  refine lv_aload_n hx hb dX1_becomes_255 rfl (lv_at hl 1 rfl) ?_
  refine zw_getI S hW zC_X1 (i := 17) (by decide) (Or.inl q699) (fun _ h => h) dX1_becomes_256 h (fun x_103 h => ?_)
  obtain ⟨h_105, h⟩ := okI_some h
  refine zw_putI S hW zC_X1 (i := 17) (by decide) (Or.inl rfl) rfl (isB_narrow h_105) (isB_fits h_105) (Or.inl q699) (fun _ h => h) dX1_becomes_259 h (fun Z_104 h H locs hW => ?_)
  cases h
  exact d_vret S hr hlk hW (Nat.le_of_ble_eq_true rfl) (Nat.le_of_ble_eq_true rfl) dX1_becomes_262
def cm_X3_pipe_J79 (gp : Nat → Nat) (y0 : Nat) (y1 : Nat) (y2 : Int32) (Z : c_S) : Option ((c_S) ⊕ (Nat × c_S)) :=
  zK Z y0 3 11 <| bnd (cm_X3_number gp Z y0 0 11) (cs2 (un2 fun x_14 Z_15 => zK Z_15 y0 3 11 <| bnd (cm_X3_below gp Z_15 y0 (gp 18) (-400)) (cs2 (un2 fun x_22 Z_23 => cA Z_23.Sh y1 2 13 3 fun a_27 => zNew Z_23 5 6 tyX5 fun Z_28 a_29 => zK Z_28 y0 3 11 <| bnd (cm_X3_number_2 gp Z_28 y0 (gp 13) 0 60) (cs2 (un2 fun x_33 Z_34 => bnd (cm_X5_init Z_34 a_29 ((12 * x_14) + y2) x_22 x_33) (fun Z_40 => zK Z_40 a_27 14 3 <| bnd (cm_J2_add gp Z_40 a_27 a_29) (un2 fun x_44 Z_45 => some (.inl Z_45)))) (un2 fun x_35 Z_36 => some (.inr (x_35, Z_36))))) (un2 fun x_24 Z_25 => some (.inr (x_24, Z_25))))) (un2 fun x_16 Z_17 => some (.inr (x_16, Z_17))))
def cm_X3_pipe_B27 (gp : Nat → Nat) (x0 : Nat) (x1 : Nat) (x2 : Int32) (rec : Int32 → c_S → Option ((c_S) ⊕ ((Nat × c_S)))) (x3 : Int32) (Z : c_S) : Option ((c_S) ⊕ ((Nat × c_S))) :=
  cA Z.Sh x1 2 13 3 fun a_48 => zK Z a_48 14 3 <| bnd (cm_J2_size Z a_48) (fun x_52 => if x_52 ≤ x3 then (some (.inl Z)) else (cA Z.Sh x1 2 13 3 fun a_54 => zK Z a_54 14 3 <| bnd (cm_J2_get Z a_54 x3) (fun o_58 => zCk Z o_58 5 6 <| nn o_58 fun a_59 => cI Z.Sh Z.V a_59 5 6 0 fun x_60 => cI Z.Sh Z.V x0 3 11 8 fun x_61 => if x_60 = ((12 * x_61) + x2) then (zK Z x0 3 11 <| bnd (cm_X3_fails gp Z x0 2) (cs2 (fun Z_68 => nmI (x3 + 1) fun x_72 => rec x_72 Z_68) (un2 fun x_69 Z_70 => some (.inr (x_69, Z_70))))) else (nmI (x3 + 1) fun x_63 => rec x_63 Z))))
abbrev cm_X3_pipe_F27 (gp : Nat → Nat) (x0 : Nat) (x1 : Nat) (x2 : Int32) : (((Int32) × (c_S)) → Option ((c_S) ⊕ ((Nat × c_S)))) → ((Int32) × (c_S)) → Option ((c_S) ⊕ ((Nat × c_S))) := fun rec s => cm_X3_pipe_B27 gp x0 x1 x2 (fun x3 Z => rec (x3, Z)) s.1 s.2
def cm_X3_pipe_L27 (gp : Nat → Nat) (x0 : Nat) (x1 : Nat) (x2 : Int32) (n : Nat) (x3 : Int32) (Z : c_S) : Option ((c_S) ⊕ ((Nat × c_S))) := lp (cm_X3_pipe_F27 gp x0 x1 x2) n (x3, Z)
theorem cm_X3_pipe_L27_s (gp : Nat → Nat) (x0 : Nat) (x1 : Nat) (x2 : Int32) (n : Nat) (x3 : Int32) (Z : c_S) : cm_X3_pipe_L27 gp x0 x1 x2 (n + 1) x3 Z = cm_X3_pipe_B27 gp x0 x1 x2 (fun x3 Z => cm_X3_pipe_L27 gp x0 x1 x2 n x3 Z) x3 Z := lp_s (cm_X3_pipe_F27 gp x0 x1 x2) n (x3, Z)
def cm_X3_pipe (gp : Nat → Nat) (Z0 : c_S) (a0 : Nat) (a1 : Nat) : Option ((c_S) ⊕ (Nat × c_S)) :=
  zK Z0 a0 3 11 <| bnd (cm_X3_number gp Z0 a0 0 11) (cs2 (un2 fun x_4 Z_5 => cI Z_5.Sh Z_5.V a0 3 11 6 fun x_9 => if x_9 = 2 then (cI Z_5.Sh Z_5.V a0 3 11 8 fun x_46 => if 12 ≤ x_46 then (cm_X3_pipe_J79 gp a0 a1 x_4 Z_5) else (bnd (cm_X3_pipe_L27 gp a0 a1 x_4 13 0 Z_5) (cs2 (fun Z_76 => cm_X3_pipe_J79 gp a0 a1 x_4 Z_76) (un2 fun x_77 Z_78 => some (.inr (x_77, Z_78)))))) else (cm_X3_pipe_J79 gp a0 a1 x_4 Z_5)) (un2 fun x_6 Z_7 => some (.inr (x_6, Z_7))))
abbrev rmX3_pipe : Room := rmD 8 209 25 209
set_option maxHeartbeats 4000000 in
theorem metX3_pipe {l : Launch} {gp : Nat → Nat} {D : va_G} {K : Nat → ClassId} {Z0 : c_S} {a0 : Nat} {a1 : Nat} {Out : ((c_S) ⊕ (Nat × c_S))} (h : cm_X3_pipe gp Z0 a0 a1 = some Out) : MetT l yX3_pipe (ws_ yX3_pipe cX3_pipe 5 (none)) rmX3_pipe (z_Pc gp [.ref a0, .ref a1] D K Z0) (z_Q (oV Out) D K (z_A Z0) (oVs Out)) 25 209 (z_A Z0) := by
  refine d_metT rfl (Nat.le_of_ble_eq_true rfl) ?_
  intro p e s m below meth c ls S hr hlk hnm hne hl hW hsz
  have S : CallFix p m c cX3_pipe 5 s ([.ref a0, .ref a1] : List Value).toArray lw_all RX3 := S
  have hx := S.1
  have hb := S.2.1
  have hl : lv_has ls 5 [(0, .ref a0), (1, .ref a1)] := hl
  have hnm : meth.name = "pipe" := hnm
  have Lp27 : ∀ (x0 : Nat) (x1 : Nat) (x2 : Int32) (E G : Nat) (n : Nat) (x3 : Int32) (Z : c_S) (out : ((c_S) ⊕ ((Nat × c_S)))) (cells slots : Nat) (H : Heap) (locs : List Loc) (ls : Array Slot), cm_X3_pipe_L27 gp x0 x1 x2 n x3 Z = some out → z_W gp D K (z_A Z0) s Z H locs → lv_has ls 5 [(0, .ref x0), (1, .ref x1), (2, .int x2), (3, .int x3)] → cells + n * 1 ≤ E → slots + n * 8 ≤ G → E ≤ 25 → G ≤ 209 → (∀ (oZ : c_S), out = (.inl oZ) → ∀ (H : Heap) (locs : List Loc) (ls : Array Slot), z_W gp D K (z_A Z0) s oZ H locs → lv_has ls 5 [(0, .ref x0), (1, .ref x1), (2, .int x2)] → W p l e rmX3_pipe s m ([.ref a0, .ref a1] : List Value).toArray below meth c H locs E G (MQT below (z_Q (oV Out) D K (z_A Z0) (oVs Out)) ([.ref a0, .ref a1] : List Value).toArray s 25 209 (z_A Z0)) (F0 m 79 ls [])) → (∀ (x : Nat) (oZ : c_S), out = (.inr (x, oZ)) → ∀ (H : Heap) (locs : List Loc) (pc : Nat) (ls : Array Slot) (st0 : List Value), z_W gp D K (z_A Z0) s oZ H locs → WT p l e rmX3_pipe s m ([.ref a0, .ref a1] : List Value).toArray below meth c H locs E G (MQT below (z_Q (oV Out) D K (z_A Z0) (oVs Out)) ([.ref a0, .ref a1] : List Value).toArray s 25 209 (z_A Z0)) (F0 m pc ls st0) x) → W p l e rmX3_pipe s m ([.ref a0, .ref a1] : List Value).toArray below meth c H locs cells slots (MQT below (z_Q (oV Out) D K (z_A Z0) (oVs Out)) ([.ref a0, .ref a1] : List Value).toArray s 25 209 (z_A Z0)) (F0 m 27 ls []) := by
    intro x0 x1 x2 E G n
    induction n with
    | zero =>
      intro x3 Z out cells slots H locs ls h
      exact (lp_0 h).elim
    | succ n ih =>
      intro x3 Z out cells slots H locs ls h hW hl hcl hsl hE hG k1 k2
      have hcl := nsucc hcl
      have hsl := nsucc hsl
      rw [cm_X3_pipe_L27_s] at h
      unfold cm_X3_pipe_B27 at h
      refine lv_iload_n hx hb dX3_pipe_27 rfl (lv_at hl 3 rfl) ?_
      refine lv_aload_n hx hb dX3_pipe_28 rfl (lv_at hl 1 rfl) ?_
      refine zw_getA S hW zC_X2 (i := 3) (by decide) (Or.inr ⟨_, nestW_in q399 rfl⟩) (fun _ h => h) dX3_pipe_29 h (fun a_48 h => ?_)
      obtain ⟨⟨_, k_49⟩, h⟩ := zK_some h
      obtain ⟨x_52, h_50, h⟩ := bnd_some h
      refine d_callF (As := []) (rest := [.int x3]) S hW (metJ2_size h_50) (cwJ2_size_F S.2.2.2.2 q972 (hW.1.2.2.2.2.1.2.2.2.2.2.2.1 _ (List.mem_of_getElem? (i := 1) rfl)) ⟨Nat.le_of_ble_eq_true rfl, Nat.le_of_ble_eq_true rfl⟩) k_49 rfl rfl hl.1 rfl (Nat.le_of_ble_eq_true rfl) dX3_pipe_32 ⟨(show _ ≤ 25 from by omega), (show _ ≤ 209 from by omega)⟩ rfl (fun H locs hW => ?_)
      refine lv_icmp_ge (tgt := 79) hx hb dX3_pipe_37 (by decide) (fun c_53 => ?_) (fun c_53 => ?_)
      · have h := if_t h c_53
        exact W.widen (by omega) (by omega) (k1 _ (Option.some.inj h).symm _ _ _ hW (lv_sub hl [0, 1, 2] rfl))
      · have h := if_f h c_53
        refine lv_aload_n hx hb dX3_pipe_40 rfl (lv_at hl 1 rfl) ?_
        refine zw_getA S hW zC_X2 (i := 3) (by decide) (Or.inr ⟨_, nestW_in q399 rfl⟩) (fun _ h => h) dX3_pipe_41 h (fun a_54 h => ?_)
        refine lv_iload_n hx hb dX3_pipe_44 rfl (lv_at hl 3 rfl) ?_
        obtain ⟨⟨_, k_55⟩, h⟩ := zK_some h
        obtain ⟨o_58, h_56, h⟩ := bnd_some h
        refine d_callF (As := [.int x3]) (rest := []) S hW (metJ2_get h_56) (cwJ2_get_F S.2.2.2.2 q1029 (hW.1.2.2.2.2.1.2.2.2.2.2.2.1 _ (List.mem_of_getElem? (i := 2) rfl)) ⟨Nat.le_of_ble_eq_true rfl, Nat.le_of_ble_eq_true rfl⟩) k_55 rfl rfl hl.1 rfl (Nat.le_of_ble_eq_true rfl) dX3_pipe_45 ⟨(show _ ≤ 25 from by omega), (show _ ≤ 209 from by omega)⟩ rfl (fun H locs hW => ?_)
        refine zw_ck (o := o_58) S hW zC_X5 q1030 dX3_pipe_50 h (fun h => ?_)
        have h9 := nn_some h
        clear h
        obtain ⟨a_59, rfl, h8⟩ := h9
        have h := h8
        clear h8
        refine zw_getI S hW zC_X5 (i := 0) (by decide) (Or.inr ⟨_, nestW_in q538 rfl⟩) (fun _ h => h) dX3_pipe_53 h (fun x_60 h => ?_)
        refine lv_bipush (v := 12) hx hb dX3_pipe_56 (by decide) ?_
        refine lv_aload_n hx hb dX3_pipe_58 rfl (lv_at hl 0 rfl) ?_
        refine zw_getI S hW zC_X3 (i := 8) (by decide) (Or.inl q835) (fun _ h => h) dX3_pipe_59 h (fun x_61 h => ?_)
        refine lv_imul hx hb dX3_pipe_62 ?_
        refine lv_iload_n hx hb dX3_pipe_63 rfl (lv_at hl 2 rfl) ?_
        refine lv_iadd hx hb dX3_pipe_64 ?_
        refine lv_icmp_ne (tgt := 73) hx hb dX3_pipe_65 (by decide) (fun c_62 => ?_) (fun c_62 => ?_)
        · have h := if_f h c_62
          obtain ⟨x_63, e_64, h⟩ := nmI_some h
          refine lv_iinc (v := x_63) (lv' := [(3, .int x_63), (0, .ref x0), (1, .ref x1), (2, .int x2)]) hx hb dX3_pipe_73 hl (k := 3) rfl (by rw [e_64]; rfl) (by decide) rfl (fun ls hl => ?_)
          refine lv_goto (tgt := 27) hx hb dX3_pipe_76 (by decide) ?_
          exact ih x_63 Z out cells slots _ _ _ h hW (lv_sub hl [1, 2, 3, 0] rfl) (by omega) (by omega) hE hG k1 k2
        · have h := if_t h c_62
          refine lv_aload_n hx hb dX3_pipe_68 rfl (lv_at hl 0 rfl) ?_
          refine lv_iconst (v := 2) hx hb dX3_pipe_69 (by decide) ?_
          obtain ⟨⟨_, k_65⟩, h⟩ := zK_some h
          obtain ⟨q_71, h_66, h⟩ := bnd_some h
          have h9 := cs2_some h
          clear h
          rcases h9 with ⟨_, rfl, h⟩ | ⟨_, rfl, h⟩
          · rename_i Z_68
            refine d_callVTr (As := [.int 2]) (rest := []) S hW (metX3_fails h_66) (cwX3_fails_V S.2.2.2.2 q931 ⟨Nat.le_of_ble_eq_true rfl, Nat.le_of_ble_eq_true rfl⟩) k_65 rfl rfl hl.1 rfl (Nat.le_of_ble_eq_true rfl) dX3_pipe_70 ⟨(show _ ≤ 25 from by omega), (show _ ≤ 209 from by omega)⟩ rfl (fun H locs hW => ?_)
            obtain ⟨x_72, e_73, h⟩ := nmI_some h
            refine lv_iinc (v := x_72) (lv' := [(3, .int x_72), (0, .ref x0), (1, .ref x1), (2, .int x2)]) hx hb dX3_pipe_73 hl (k := 3) rfl (by rw [e_73]; rfl) (by decide) rfl (fun ls hl => ?_)
            refine lv_goto (tgt := 27) hx hb dX3_pipe_76 (by decide) ?_
            exact ih x_72 Z_68 out (cells + 1) (slots + 8) _ _ _ h hW (lv_sub hl [1, 2, 3, 0] rfl) (by omega) (by omega) hE hG k1 k2
          · have h9 := un2_some h
            clear h
            obtain ⟨x_69, Z_70, rfl, h⟩ := h9
            refine d_callVTt (As := [.int 2]) (rest := []) S hW (metX3_fails h_66) (cwX3_fails_V S.2.2.2.2 q931 ⟨Nat.le_of_ble_eq_true rfl, Nat.le_of_ble_eq_true rfl⟩) k_65 rfl rfl hl.1 rfl (Nat.le_of_ble_eq_true rfl) dX3_pipe_70 ⟨(show _ ≤ 25 from by omega), (show _ ≤ 209 from by omega)⟩ (fun H locs hW => ?_)
            exact WT.widen (by omega) (by omega) (k2 _ _ (Option.some.inj h).symm _ _ _ _ _ hW)
  have J79 : ∀ (y0 : Nat) (y1 : Nat) (y2 : Int32) (Z : c_S) (cells slots : Nat) (H : Heap) (locs : List Loc) (ls : Array Slot), cm_X3_pipe_J79 gp y0 y1 y2 Z = some Out → z_W gp D K (z_A Z0) s Z H locs → lv_has ls 5 [(0, .ref y0), (1, .ref y1), (2, .int y2)] → cells + 10 ≤ 25 → slots + 89 ≤ 209 → W p l e rmX3_pipe s m ([.ref a0, .ref a1] : List Value).toArray below meth c H locs cells slots (MQT below (z_Q (oV Out) D K (z_A Z0) (oVs Out)) ([.ref a0, .ref a1] : List Value).toArray s 25 209 (z_A Z0)) (F0 m 79 ls []) := by
    intro y0 y1 y2 Z cells slots H locs ls h hW hl hcl hsl
    unfold cm_X3_pipe_J79 at h
    refine lv_aload_n hx hb dX3_pipe_79 rfl (lv_at hl 0 rfl) ?_
    refine lv_iconst (v := 0) hx hb dX3_pipe_80 (by decide) ?_
    refine lv_bipush (v := 11) hx hb dX3_pipe_81 (by decide) ?_
    obtain ⟨⟨_, k_11⟩, h⟩ := zK_some h
    obtain ⟨q_18, h_12, h⟩ := bnd_some h
    have h9 := cs2_some h
    clear h
    rcases h9 with ⟨_, rfl, h⟩ | ⟨_, rfl, h⟩
    · have h9 := un2_some h
      clear h
      obtain ⟨x_14, Z_15, rfl, h⟩ := h9
      refine d_callVTr (As := [.int 0, .int 11]) (rest := []) S hW (metX3_number h_12) (cwX3_number_V S.2.2.2.2 q981 ⟨Nat.le_of_ble_eq_true rfl, Nat.le_of_ble_eq_true rfl⟩) k_11 rfl rfl hl.1 rfl (Nat.le_of_ble_eq_true rfl) dX3_pipe_83 ⟨(show _ ≤ 25 from by omega), (show _ ≤ 209 from by omega)⟩ rfl (fun H locs hW => ?_)
      refine lv_istore_n (lv' := [(3, .int x_14), (0, .ref y0), (1, .ref y1), (2, .int y2)]) hx hb dX3_pipe_86 rfl hl (by decide) rfl (fun ls hl => ?_)
      refine lv_aload_n hx hb dX3_pipe_87 rfl (lv_at hl 1 rfl) ?_
      refine g_ldcS (w := 18) (tx := "at") S hW.1 (List.mem_of_getElem? (i := 18) rfl) dX3_pipe_88 ?_
      refine lv_sipush (v := (-400)) hx hb dX3_pipe_90 (by decide) ?_
      obtain ⟨⟨_, k_19⟩, h⟩ := zK_some h
      obtain ⟨q_26, h_20, h⟩ := bnd_some h
      have h9 := cs2_some h
      clear h
      rcases h9 with ⟨_, rfl, h⟩ | ⟨_, rfl, h⟩
      · have h9 := un2_some h
        clear h
        obtain ⟨x_22, Z_23, rfl, h⟩ := h9
        refine d_callVTr (As := [.ref (gp 18), .int (-400)]) (rest := []) S hW (metX3_below h_20) (cwX3_below_V S.2.2.2.2 q1002 ⟨Nat.le_of_ble_eq_true rfl, Nat.le_of_ble_eq_true rfl⟩) k_19 rfl rfl hl.1 rfl (Nat.le_of_ble_eq_true rfl) dX3_pipe_93 ⟨(show _ ≤ 25 from by omega), (show _ ≤ 209 from by omega)⟩ rfl (fun H locs hW => ?_)
        refine lv_istore (lv' := [(4, .int x_22), (3, .int x_14), (0, .ref y0), (1, .ref y1), (2, .int y2)]) hx hb dX3_pipe_96 hl (by decide) rfl (fun ls hl => ?_)
        refine lv_aload_n hx hb dX3_pipe_98 rfl (lv_at hl 3 rfl) ?_
        refine zw_getA S hW zC_X2 (i := 3) (by decide) (Or.inr ⟨_, nestW_in q399 rfl⟩) (fun _ h => h) dX3_pipe_99 h (fun a_27 h => ?_)
        refine zw_new S hW zC_X5 q1030 q530 q115 (show _ ≤ 25 from by omega) (show _ ≤ 209 from by omega) dX3_pipe_102 h (fun Z_28 a_29 h H hW => ?_)
        refine lv_dup hx hb dX3_pipe_105 rfl ?_
        refine lv_bipush (v := 12) hx hb dX3_pipe_106 (by decide) ?_
        refine lv_iload_n hx hb dX3_pipe_108 rfl (lv_at hl 1 rfl) ?_
        refine lv_imul hx hb dX3_pipe_109 ?_
        refine lv_iload_n hx hb dX3_pipe_110 rfl (lv_at hl 4 rfl) ?_
        refine lv_iadd hx hb dX3_pipe_111 ?_
        refine lv_iload hx hb dX3_pipe_112 (lv_at hl 0 rfl) ?_
        refine lv_aload_n hx hb dX3_pipe_114 rfl (lv_at hl 2 rfl) ?_
        refine g_ldcS (w := 13) (tx := "lead") S hW.1 (List.mem_of_getElem? (i := 13) rfl) dX3_pipe_115 ?_
        refine lv_iconst (v := 0) hx hb dX3_pipe_117 (by decide) ?_
        refine lv_bipush (v := 60) hx hb dX3_pipe_118 (by decide) ?_
        obtain ⟨⟨_, k_30⟩, h⟩ := zK_some h
        obtain ⟨q_37, h_31, h⟩ := bnd_some h
        have h9 := cs2_some h
        clear h
        rcases h9 with ⟨_, rfl, h⟩ | ⟨_, rfl, h⟩
        · have h9 := un2_some h
          clear h
          obtain ⟨x_33, Z_34, rfl, h⟩ := h9
          refine d_callVTr (As := [.ref (gp 13), .int 0, .int 60]) (rest := [.int x_22, .int ((12 * x_14) + y2), .ref a_29, .ref a_29, .ref a_27]) S hW (metX3_number_2 h_31) (cwX3_number_2_V S.2.2.2.2 q987 ⟨Nat.le_of_ble_eq_true rfl, Nat.le_of_ble_eq_true rfl⟩) k_30 rfl rfl hl.1 rfl (Nat.le_of_ble_eq_true rfl) dX3_pipe_120 ⟨(show _ ≤ 25 from by omega), (show _ ≤ 209 from by omega)⟩ rfl (fun H locs hW => ?_)
          obtain ⟨Z_40, h_38, h⟩ := bnd_some h
          refine d_callI (As := [.int ((12 * x_14) + y2), .int x_22, .int x_33]) (rest := [.ref a_29, .ref a_27]) S hW (metX5_init h_38) (cwX5_init_I S.2.2.2.2 q1032 ⟨Nat.le_of_ble_eq_true rfl, Nat.le_of_ble_eq_true rfl⟩) rfl hl.1 rfl (Nat.le_of_ble_eq_true rfl) dX3_pipe_123 ⟨(show _ ≤ 25 from by omega), (show _ ≤ 209 from by omega)⟩ rfl (fun H locs hW => ?_)
          obtain ⟨⟨_, k_41⟩, h⟩ := zK_some h
          obtain ⟨x_44, Z_45, h_42, h⟩ := bnd2_some h
          refine d_callF (As := [.ref a_29]) (rest := []) S hW (metJ2_add h_42) (cwJ2_add_F S.2.2.2.2 q1034 (hW.1.2.2.2.2.1.2.2.2.2.2.2.1 _ (List.mem_of_getElem? (i := 3) rfl)) ⟨Nat.le_of_ble_eq_true rfl, Nat.le_of_ble_eq_true rfl⟩) k_41 rfl rfl hl.1 rfl (Nat.le_of_ble_eq_true rfl) dX3_pipe_126 ⟨(show _ ≤ 25 from by omega), (show _ ≤ 209 from by omega)⟩ rfl (fun H locs hW => ?_)
          refine lv_pop hx hb dX3_pipe_131 rfl ?_
          cases h
          exact W.toT (d_vret S hr hlk hW (show _ ≤ 25 from by omega) (show _ ≤ 209 from by omega) dX3_pipe_132)
        · have h9 := un2_some h
          clear h
          obtain ⟨x_35, Z_36, rfl, h⟩ := h9
          refine d_callVTt (As := [.ref (gp 13), .int 0, .int 60]) (rest := [.int x_22, .int ((12 * x_14) + y2), .ref a_29, .ref a_29, .ref a_27]) S hW (metX3_number_2 h_31) (cwX3_number_2_V S.2.2.2.2 q987 ⟨Nat.le_of_ble_eq_true rfl, Nat.le_of_ble_eq_true rfl⟩) k_30 rfl rfl hl.1 rfl (Nat.le_of_ble_eq_true rfl) dX3_pipe_120 ⟨(show _ ≤ 25 from by omega), (show _ ≤ 209 from by omega)⟩ (fun H locs hW => ?_)
          cases h
          exact d_leave hlk hne hW (show _ ≤ 25 from by omega) (show _ ≤ 209 from by omega)
      · have h9 := un2_some h
        clear h
        obtain ⟨x_24, Z_25, rfl, h⟩ := h9
        refine d_callVTt (As := [.ref (gp 18), .int (-400)]) (rest := []) S hW (metX3_below h_20) (cwX3_below_V S.2.2.2.2 q1002 ⟨Nat.le_of_ble_eq_true rfl, Nat.le_of_ble_eq_true rfl⟩) k_19 rfl rfl hl.1 rfl (Nat.le_of_ble_eq_true rfl) dX3_pipe_93 ⟨(show _ ≤ 25 from by omega), (show _ ≤ 209 from by omega)⟩ (fun H locs hW => ?_)
        cases h
        exact d_leave hlk hne hW (show _ ≤ 25 from by omega) (show _ ≤ 209 from by omega)
    · have h9 := un2_some h
      clear h
      obtain ⟨x_16, Z_17, rfl, h⟩ := h9
      refine d_callVTt (As := [.int 0, .int 11]) (rest := []) S hW (metX3_number h_12) (cwX3_number_V S.2.2.2.2 q981 ⟨Nat.le_of_ble_eq_true rfl, Nat.le_of_ble_eq_true rfl⟩) k_11 rfl rfl hl.1 rfl (Nat.le_of_ble_eq_true rfl) dX3_pipe_83 ⟨(show _ ≤ 25 from by omega), (show _ ≤ 209 from by omega)⟩ (fun H locs hW => ?_)
      cases h
      exact d_leave hlk hne hW (show _ ≤ 25 from by omega) (show _ ≤ 209 from by omega)
  unfold cm_X3_pipe at h
  refine lv_aload_n hx hb dX3_pipe_0 rfl (lv_at hl 0 rfl) ?_
  refine lv_iconst (v := 0) hx hb dX3_pipe_1 (by decide) ?_
  refine lv_bipush (v := 11) hx hb dX3_pipe_2 (by decide) ?_
  obtain ⟨⟨_, k_1⟩, h⟩ := zK_some h
  obtain ⟨q_8, h_2, h⟩ := bnd_some h
  have h9 := cs2_some h
  clear h
  rcases h9 with ⟨_, rfl, h⟩ | ⟨_, rfl, h⟩
  · have h9 := un2_some h
    clear h
    obtain ⟨x_4, Z_5, rfl, h⟩ := h9
    refine d_callVTr (As := [.int 0, .int 11]) (rest := []) S hW (metX3_number h_2) (cwX3_number_V S.2.2.2.2 q981 ⟨Nat.le_of_ble_eq_true rfl, Nat.le_of_ble_eq_true rfl⟩) k_1 rfl rfl hl.1 rfl (Nat.le_of_ble_eq_true rfl) dX3_pipe_4 ⟨(Nat.le_of_ble_eq_true rfl), (Nat.le_of_ble_eq_true rfl)⟩ rfl (fun H locs hW => ?_)
    refine lv_istore_n (lv' := [(2, .int x_4), (0, .ref a0), (1, .ref a1)]) hx hb dX3_pipe_7 rfl hl (by decide) rfl (fun ls hl => ?_)
    refine lv_aload_n hx hb dX3_pipe_8 rfl (lv_at hl 1 rfl) ?_
    refine zw_getI S hW zC_X3 (i := 6) (by decide) (Or.inl q833) (fun _ h => h) dX3_pipe_9 h (fun x_9 h => ?_)
    refine lv_iconst (v := 2) hx hb dX3_pipe_12 (by decide) ?_
    refine lv_icmp_ne (tgt := 79) hx hb dX3_pipe_13 (by decide) (fun c_10 => ?_) (fun c_10 => ?_)
    · have h := if_f h c_10
      exact J79 a0 a1 x_4 Z_5 2 16 _ _ _ h hW (lv_sub hl [1, 2, 0] rfl) (by omega) (by omega)
    · have h := if_t h c_10
      refine lv_aload_n hx hb dX3_pipe_16 rfl (lv_at hl 1 rfl) ?_
      refine zw_getI S hW zC_X3 (i := 8) (by decide) (Or.inl q835) (fun _ h => h) dX3_pipe_17 h (fun x_46 h => ?_)
      refine lv_bipush (v := 12) hx hb dX3_pipe_20 (by decide) ?_
      refine lv_icmp_ge (tgt := 79) hx hb dX3_pipe_22 (by decide) (fun c_47 => ?_) (fun c_47 => ?_)
      · have h := if_t h c_47
        exact J79 a0 a1 x_4 Z_5 2 16 _ _ _ h hW (lv_sub hl [1, 2, 0] rfl) (by omega) (by omega)
      · have h := if_f h c_47
        refine lv_iconst (v := 0) hx hb dX3_pipe_25 (by decide) ?_
        refine lv_istore_n (lv' := [(3, .int 0), (2, .int x_4), (0, .ref a0), (1, .ref a1)]) hx hb dX3_pipe_26 rfl hl (by decide) rfl (fun ls hl => ?_)
        obtain ⟨o_74, h_75, h⟩ := bnd_some h
        have h9 := cs2_some h
        clear h
        rcases h9 with ⟨q, rfl, h⟩ | ⟨q, rfl, h⟩
        · obtain ⟨Z_76, rfl⟩ : ∃ z, z = q := ⟨q, rfl⟩
          refine Lp27 a0 a1 x_4 15 120 13 0 Z_5  _ 2 16 _ _ _ h_75 hW (lv_sub hl [2, 3, 1, 0] rfl) (by omega) (by omega) (by omega) (by omega) ?_ (fun _ _ eo => by cases eo)
          intro w0 eo H locs ls hW hl
          cases eo
          exact J79 a0 a1 x_4 Z_76 15 120 _ _ _ h hW hl (by omega) (by omega)
        · have h9 := un2_some h
          clear h
          obtain ⟨x_77, Z_78, rfl, h⟩ := h9
          refine Lp27 a0 a1 x_4 15 120 13 0 Z_5  _ 2 16 _ _ _ h_75 hW (lv_sub hl [2, 3, 1, 0] rfl) (by omega) (by omega) (by omega) (by omega) (fun _ eo => by cases eo) ?_
          intro w0 w1 eo H locs pc_ ls_ st_ hW
          cases eo
          cases h
          exact d_leave hlk hne hW (Nat.le_of_ble_eq_true rfl) (Nat.le_of_ble_eq_true rfl)
  · have h9 := un2_some h
    clear h
    obtain ⟨x_6, Z_7, rfl, h⟩ := h9
    refine d_callVTt (As := [.int 0, .int 11]) (rest := []) S hW (metX3_number h_2) (cwX3_number_V S.2.2.2.2 q981 ⟨Nat.le_of_ble_eq_true rfl, Nat.le_of_ble_eq_true rfl⟩) k_1 rfl rfl hl.1 rfl (Nat.le_of_ble_eq_true rfl) dX3_pipe_4 ⟨(Nat.le_of_ble_eq_true rfl), (Nat.le_of_ble_eq_true rfl)⟩ (fun H locs hW => ?_)
    cases h
    exact d_leave hlk hne hW (Nat.le_of_ble_eq_true rfl) (Nat.le_of_ble_eq_true rfl)
def cm_X3_rule_J100 (gp : Nat → Nat) (rec : Int32 → c_S → Option ((c_S) ⊕ ((Nat × c_S)))) (x0 : Nat) (x1 : Nat) (x2 : Nat) (z0 : Nat) (z1 : Int32) (z2 : Option Nat) (Z : c_S) : Option ((c_S) ⊕ ((Nat × c_S))) :=
  zsR [11, 12] Z 10 z0 z1 z2 fun Z_41 => cI Z_41.Sh Z_41.V x2 10 2 1 fun x_42 => zPI Z_41 x2 10 2 1 (x_42 + 1) fun Z_43 => zK Z_43 x0 3 11 <| bnd (cm_X3_takes gp Z_43 x0 (gp 22)) (un2 fun x_47 Z_48 => rec x_47 Z_48)
def cm_X3_rule_J67 (gp : Nat → Nat) (rec : Int32 → c_S → Option ((c_S) ⊕ ((Nat × c_S)))) (x0 : Nat) (x1 : Nat) (x2 : Nat) (y4 : Int32) (y5 : Int32) (Z : c_S) : Option ((c_S) ⊕ ((Nat × c_S))) :=
  zK Z x0 3 11 <| bnd (cm_X3_next Z x0) (fun Z_29 => cA Z_29.Sh x2 10 2 0 fun a_30 => cI Z_29.Sh Z_29.V x2 10 2 1 fun x_31 => if y5 = 0 then (zK Z_29 x0 3 11 <| bnd (cm_X3_measure gp Z_29 x0 y4) (cs2 (un2 fun o_36 Z_37 => cm_X3_rule_J100 gp rec x0 x1 x2 a_30 x_31 o_36 Z_37) (un2 fun x_38 Z_39 => some (.inr (x_38, Z_39))))) else (zNew Z_29 11 0 tyX12 fun Z_49 a_50 => bnd (cm_X12_init a_50) (fun _ => cm_X3_rule_J100 gp rec x0 x1 x2 a_30 x_31 (some a_50) Z_49)))
def cm_X3_rule_J54 (gp : Nat → Nat) (rec : Int32 → c_S → Option ((c_S) ⊕ ((Nat × c_S)))) (x0 : Nat) (x1 : Nat) (x2 : Nat) (y4 : Int32) (y5 : Int32) (Z : c_S) : Option ((c_S) ⊕ ((Nat × c_S))) :=
  cI Z.Sh Z.V x2 10 2 1 fun x_24 => if x_24 = 3 then (zK Z x0 3 11 <| bnd (cm_X3_fails gp Z x0 3) (cs2 (fun Z_56 => cm_X3_rule_J67 gp rec x0 x1 x2 y4 y5 Z_56) (un2 fun x_57 Z_58 => some (.inr (x_57, Z_58))))) else (cm_X3_rule_J67 gp rec x0 x1 x2 y4 y5 Z)
def cm_X3_rule_B16 (gp : Nat → Nat) (x0 : Nat) (x1 : Nat) (x2 : Nat) (rec : Int32 → c_S → Option ((c_S) ⊕ ((Nat × c_S)))) (x3 : Int32) (Z : c_S) : Option ((c_S) ⊕ ((Nat × c_S))) :=
  if x3 = 0 then (some (.inl Z)) else (cA Z.Sh x0 3 11 0 fun a_14 => zK Z x0 3 11 <| bnd (cm_X3_oneOf gp Z x0 a_14) (fun x_18 => zK Z x0 3 11 <| bnd (cm_X3_is gp Z x0 (gp 21)) (fun x_22 => if x_18 = (-1) then (if x_22 = 0 then (zK Z x0 3 11 <| bnd (cm_X3_fails gp Z x0 1) (cs2 (fun Z_64 => cm_X3_rule_J54 gp rec x0 x1 x2 x_18 x_22 Z_64) (un2 fun x_65 Z_66 => some (.inr (x_65, Z_66))))) else (cm_X3_rule_J54 gp rec x0 x1 x2 x_18 x_22 Z)) else (cm_X3_rule_J54 gp rec x0 x1 x2 x_18 x_22 Z))))
abbrev cm_X3_rule_F16 (gp : Nat → Nat) (x0 : Nat) (x1 : Nat) (x2 : Nat) : (((Int32) × (c_S)) → Option ((c_S) ⊕ ((Nat × c_S)))) → ((Int32) × (c_S)) → Option ((c_S) ⊕ ((Nat × c_S))) := fun rec s => cm_X3_rule_B16 gp x0 x1 x2 (fun x3 Z => rec (x3, Z)) s.1 s.2
def cm_X3_rule_L16 (gp : Nat → Nat) (x0 : Nat) (x1 : Nat) (x2 : Nat) (n : Nat) (x3 : Int32) (Z : c_S) : Option ((c_S) ⊕ ((Nat × c_S))) := lp (cm_X3_rule_F16 gp x0 x1 x2) n (x3, Z)
theorem cm_X3_rule_L16_s (gp : Nat → Nat) (x0 : Nat) (x1 : Nat) (x2 : Nat) (n : Nat) (x3 : Int32) (Z : c_S) : cm_X3_rule_L16 gp x0 x1 x2 (n + 1) x3 Z = cm_X3_rule_B16 gp x0 x1 x2 (fun x3 Z => cm_X3_rule_L16 gp x0 x1 x2 n x3 Z) x3 Z := lp_s (cm_X3_rule_F16 gp x0 x1 x2) n (x3, Z)
def cm_X3_rule (gp : Nat → Nat) (Z0 : c_S) (a0 : Nat) (a1 : Nat) : Option ((c_S) ⊕ (Nat × c_S)) :=
  zK Z0 a0 3 11 <| bnd (cm_X3_word gp Z0 a0 (gp 20)) (cs2 (fun Z_4 => zNew Z_4 10 2 tyX10 fun Z_8 a_9 => bnd (cm_X10_init Z_8 a_9) (fun Z_12 => bnd (cm_X3_rule_L16 gp a0 a1 a_9 5 1 Z_12) (cs2 (fun Z_70 => cA Z_70.Sh a1 2 13 5 fun a_71 => zK Z_70 a_71 14 3 <| bnd (cm_J2_add gp Z_70 a_71 a_9) (un2 fun x_75 Z_76 => some (.inl Z_76))) (un2 fun x_77 Z_78 => some (.inr (x_77, Z_78)))))) (un2 fun x_5 Z_6 => some (.inr (x_5, Z_6))))
abbrev rmX3_rule : Room := rmD 7 191 34 247
theorem cwX10_init_IN {own : String} {R : Room} {s : State} {args : Array Value} {index : Nat} (hts : ∀ w ∈ lw_all, w.before args s = true) {host : String} (hn : va_Nw (.methodLinkNest own index yX10_init host) s) (hR : rmX10_init.frames + 1 ≤ R.frames ∧ 8 + (1 + 11) + rmX10_init.locals ≤ R.locals) : va_CN R s args own index yX10_init host cX10_init 1 (none) (ws_ yX10_init cX10_init 1 (none)) rmX10_init 1 3 0 ∧ yX10_init.name = "<init>" ∧ (Cond.instanceMethod yX10_init).before args s = true := ⟨va_cnB 0 hts (lw_meth q1048) rfl rfl rfl hn (hts _ q129) ⟨by decide, by decide, by decide +kernel⟩ hR, rfl, hts _ q1047⟩
theorem cwX3_oneOf_V {own : String} {R : Room} {s : State} {args : Array Value} {index : Nat} (hts : ∀ w ∈ lw_all, w.before args s = true) (hl : Cond.methodLink own index yX3_oneOf ∈ lw_all) (hR : rmX3_oneOf.frames + 1 ≤ R.frames ∧ 8 + (3 + 11) + rmX3_oneOf.locals ≤ R.locals) : CallW R s args own RX3 index yX3_oneOf cX3_oneOf 3 (some .int) (ws_ yX3_oneOf cX3_oneOf 3 (some .int)) rmX3_oneOf 0 0 1 := cwV 1 hts (lw_V hl q879 qs11 q111 q880) rfl rfl rfl (by decide +kernel) hR
theorem cwX3_measure_V {own : String} {R : Room} {s : State} {args : Array Value} {index : Nat} (hts : ∀ w ∈ lw_all, w.before args s = true) (hl : Cond.methodLink own index yX3_measure ∈ lw_all) (hR : rmX3_measure.frames + 1 ≤ R.frames ∧ 8 + (3 + 11) + rmX3_measure.locals ≤ R.locals) : CallW R s args own RX3 index yX3_measure cX3_measure 3 (some (.object "FrostRing$Cond")) (ws_ yX3_measure cX3_measure 3 (some (.object "FrostRing$Cond"))) rmX3_measure 4 27 1 := cwV 1 hts (lw_V hl q1074 qs28 q111 q1075) rfl rfl rfl (by decide +kernel) hR
theorem cwX12_init_IN {own : String} {R : Room} {s : State} {args : Array Value} {index : Nat} (hts : ∀ w ∈ lw_all, w.before args s = true) {host : String} (hn : va_Nw (.methodLinkNest own index yX12_init host) s) (hR : rmX12_init.frames + 1 ≤ R.frames ∧ 8 + (1 + 11) + rmX12_init.locals ≤ R.locals) : va_CN R s args own index yX12_init host cX12_init 1 (none) (ws_ yX12_init cX12_init 1 (none)) rmX12_init 0 0 0 ∧ yX12_init.name = "<init>" ∧ (Cond.instanceMethod yX12_init).before args s = true := ⟨va_cnB 0 hts (lw_meth q1066) rfl rfl rfl hn (hts _ q131) ⟨by decide, by decide, by decide +kernel⟩ hR, rfl, hts _ q1065⟩
set_option maxHeartbeats 4000000 in
theorem metX3_rule {l : Launch} {gp : Nat → Nat} {D : va_G} {K : Nat → ClassId} {Z0 : c_S} {a0 : Nat} {a1 : Nat} {Out : ((c_S) ⊕ (Nat × c_S))} (h : cm_X3_rule gp Z0 a0 a1 = some Out) : MetT l yX3_rule (ws_ yX3_rule cX3_rule 6 (none)) rmX3_rule (z_Pc gp [.ref a0, .ref a1] D K Z0) (z_Q (oV Out) D K (z_A Z0) (oVs Out)) 34 247 (z_A Z0) := by
  refine d_metT rfl (Nat.le_of_ble_eq_true rfl) ?_
  intro p e s m below meth c ls S hr hlk hnm hne hl hW hsz
  have S : CallFix p m c cX3_rule 6 s ([.ref a0, .ref a1] : List Value).toArray lw_all RX3 := S
  have hx := S.1
  have hb := S.2.1
  have hl : lv_has ls 6 [(0, .ref a0), (1, .ref a1)] := hl
  have hnm : meth.name = "rule" := hnm
  have Lp16 : ∀ (x0 : Nat) (x1 : Nat) (x2 : Nat) (E G : Nat) (n : Nat) (x3 : Int32) (Z : c_S) (out : ((c_S) ⊕ ((Nat × c_S)))) (cells slots : Nat) (H : Heap) (locs : List Loc) (ls : Array Slot), cm_X3_rule_L16 gp x0 x1 x2 n x3 Z = some out → z_W gp D K (z_A Z0) s Z H locs → lv_has ls 6 [(0, .ref x0), (1, .ref x1), (2, .ref x2), (3, .int x3)] → cells + n * 6 ≤ E → slots + n * 43 ≤ G → E ≤ 34 → G ≤ 247 → (∀ (oZ : c_S), out = (.inl oZ) → ∀ (H : Heap) (locs : List Loc) (ls : Array Slot), z_W gp D K (z_A Z0) s oZ H locs → lv_has ls 6 [(1, .ref x1), (2, .ref x2)] → W p l e rmX3_rule s m ([.ref a0, .ref a1] : List Value).toArray below meth c H locs E G (MQT below (z_Q (oV Out) D K (z_A Z0) (oVs Out)) ([.ref a0, .ref a1] : List Value).toArray s 34 247 (z_A Z0)) (F0 m 121 ls [])) → (∀ (x : Nat) (oZ : c_S), out = (.inr (x, oZ)) → ∀ (H : Heap) (locs : List Loc) (pc : Nat) (ls : Array Slot) (st0 : List Value), z_W gp D K (z_A Z0) s oZ H locs → WT p l e rmX3_rule s m ([.ref a0, .ref a1] : List Value).toArray below meth c H locs E G (MQT below (z_Q (oV Out) D K (z_A Z0) (oVs Out)) ([.ref a0, .ref a1] : List Value).toArray s 34 247 (z_A Z0)) (F0 m pc ls st0) x) → W p l e rmX3_rule s m ([.ref a0, .ref a1] : List Value).toArray below meth c H locs cells slots (MQT below (z_Q (oV Out) D K (z_A Z0) (oVs Out)) ([.ref a0, .ref a1] : List Value).toArray s 34 247 (z_A Z0)) (F0 m 16 ls []) := by
    intro x0 x1 x2 E G n
    induction n with
    | zero =>
      intro x3 Z out cells slots H locs ls h
      exact (lp_0 h).elim
    | succ n ih =>
      intro x3 Z out cells slots H locs ls h hW hl hcl hsl hE hG k1 k2
      have hcl := nsucc hcl
      have hsl := nsucc hsl
      have J100 : ∀ (z0 : Nat) (z1 : Int32) (z2 : Option Nat) (Z : c_S) (cells slots : Nat) (H : Heap) (locs : List Loc) (ls : Array Slot), cm_X3_rule_J100 gp (fun x3 Z => cm_X3_rule_L16 gp x0 x1 x2 n x3 Z) x0 x1 x2 z0 z1 z2 Z = some out → z_W gp D K (z_A Z0) s Z H locs → lv_has ls 6 [(0, .ref x0), (1, .ref x1), (2, .ref x2)] → cells + 0 + n * 6 ≤ E → slots + 0 + n * 43 ≤ G → W p l e rmX3_rule s m ([.ref a0, .ref a1] : List Value).toArray below meth c H locs cells slots (MQT below (z_Q (oV Out) D K (z_A Z0) (oVs Out)) ([.ref a0, .ref a1] : List Value).toArray s 34 247 (z_A Z0)) (F0 m 100 ls [va_rf z2, .int z1, .ref z0]) := by
        intro z0 z1 z2 Z cells slots H locs ls h hW hl hcl hsl
        unfold cm_X3_rule_J100 at h
        refine zw_aast (o := z2) S hW (t := 10) rfl zal_10 dX3_rule_100 h (fun Z_41 h H locs hW => ?_)
        refine lv_aload_n hx hb dX3_rule_101 rfl (lv_at hl 2 rfl) ?_
        refine lv_dup hx hb dX3_rule_102 rfl ?_
        refine zw_getI S hW zC_X10 (i := 1) (by decide) (Or.inr ⟨_, nestW_in q1055 rfl⟩) (fun _ h => h) dX3_rule_103 h (fun x_42 h => ?_)
        refine lv_iconst (v := 1) hx hb dX3_rule_106 (by decide) ?_
        refine lv_iadd hx hb dX3_rule_107 ?_
        refine zw_putI S hW zC_X10 (i := 1) (by decide) (Or.inl rfl) rfl rfl rfl (Or.inr ⟨_, nestW_in q1055 rfl⟩) (fun _ h => h) dX3_rule_108 h (fun Z_43 h H locs hW => ?_)
        refine lv_aload_n hx hb dX3_rule_111 rfl (lv_at hl 0 rfl) ?_
        refine g_ldcS (w := 22) (tx := "and") S hW.1 (List.mem_of_getElem? (i := 22) rfl) dX3_rule_112 ?_
        obtain ⟨⟨_, k_44⟩, h⟩ := zK_some h
        obtain ⟨x_47, Z_48, h_45, h⟩ := bnd2_some h
        refine d_callV (As := [.ref (gp 22)]) (rest := []) S hW (metX3_takes h_45) (cwX3_takes_V S.2.2.2.2 q995 ⟨Nat.le_of_ble_eq_true rfl, Nat.le_of_ble_eq_true rfl⟩) k_44 rfl rfl hl.1 rfl (Nat.le_of_ble_eq_true rfl) dX3_rule_114 ⟨(show _ ≤ 34 from by omega), (show _ ≤ 247 from by omega)⟩ rfl (fun H locs hW => ?_)
        refine lv_istore_n (lv' := [(3, .int x_47), (0, .ref x0), (1, .ref x1), (2, .ref x2)]) hx hb dX3_rule_117 rfl hl (by decide) rfl (fun ls hl => ?_)
        refine lv_goto (tgt := 16) hx hb dX3_rule_118 (by decide) ?_
        exact ih x_47 Z_48 out cells slots _ _ _ h hW (lv_sub hl [1, 2, 3, 0] rfl) (by omega) (by omega) hE hG k1 k2
      have J67 : ∀ (y4 : Int32) (y5 : Int32) (Z : c_S) (cells slots : Nat) (H : Heap) (locs : List Loc) (ls : Array Slot), cm_X3_rule_J67 gp (fun x3 Z => cm_X3_rule_L16 gp x0 x1 x2 n x3 Z) x0 x1 x2 y4 y5 Z = some out → z_W gp D K (z_A Z0) s Z H locs → lv_has ls 6 [(0, .ref x0), (1, .ref x1), (2, .ref x2), (4, .int y4), (5, .int y5)] → cells + 4 + n * 6 ≤ E → slots + 27 + n * 43 ≤ G → W p l e rmX3_rule s m ([.ref a0, .ref a1] : List Value).toArray below meth c H locs cells slots (MQT below (z_Q (oV Out) D K (z_A Z0) (oVs Out)) ([.ref a0, .ref a1] : List Value).toArray s 34 247 (z_A Z0)) (F0 m 67 ls []) := by
        intro y4 y5 Z cells slots H locs ls h hW hl hcl hsl
        unfold cm_X3_rule_J67 at h
        refine lv_aload_n hx hb dX3_rule_67 rfl (lv_at hl 0 rfl) ?_
        obtain ⟨⟨_, k_26⟩, h⟩ := zK_some h
        obtain ⟨Z_29, h_27, h⟩ := bnd_some h
        refine d_callV (As := []) (rest := []) S hW (metX3_next h_27) (cwX3_next_V S.2.2.2.2 q867 ⟨Nat.le_of_ble_eq_true rfl, Nat.le_of_ble_eq_true rfl⟩) k_26 rfl rfl hl.1 rfl (Nat.le_of_ble_eq_true rfl) dX3_rule_68 ⟨(show _ ≤ 34 from by omega), (show _ ≤ 247 from by omega)⟩ rfl (fun H locs hW => ?_)
        refine lv_aload_n hx hb dX3_rule_71 rfl (lv_at hl 2 rfl) ?_
        refine zw_getA S hW zC_X10 (i := 0) (by decide) (Or.inr ⟨_, nestW_in q1053 rfl⟩) (fun _ h => h) dX3_rule_72 h (fun a_30 h => ?_)
        refine lv_aload_n hx hb dX3_rule_75 rfl (lv_at hl 2 rfl) ?_
        refine zw_getI S hW zC_X10 (i := 1) (by decide) (Or.inr ⟨_, nestW_in q1055 rfl⟩) (fun _ h => h) dX3_rule_76 h (fun x_31 h => ?_)
        refine lv_iload hx hb dX3_rule_79 (lv_at hl 4 rfl) ?_
        refine lv_if_eq (tgt := 94) hx hb dX3_rule_81 (by decide) (fun c_32 => ?_) (fun c_32 => ?_)
        · have h := if_t h c_32
          refine lv_aload_n hx hb dX3_rule_94 rfl (lv_at hl 0 rfl) ?_
          refine lv_iload hx hb dX3_rule_95 (lv_at hl 3 rfl) ?_
          obtain ⟨⟨_, k_33⟩, h⟩ := zK_some h
          obtain ⟨q_40, h_34, h⟩ := bnd_some h
          have h9 := cs2_some h
          clear h
          rcases h9 with ⟨_, rfl, h⟩ | ⟨_, rfl, h⟩
          · have h9 := un2_some h
            clear h
            obtain ⟨o_36, Z_37, rfl, h⟩ := h9
            refine d_callVTr (As := [.int y4]) (rest := [.int x_31, .ref a_30]) S hW (metX3_measure h_34) (cwX3_measure_V S.2.2.2.2 q1072 ⟨Nat.le_of_ble_eq_true rfl, Nat.le_of_ble_eq_true rfl⟩) k_33 rfl rfl hl.1 rfl (Nat.le_of_ble_eq_true rfl) dX3_rule_97 ⟨(show _ ≤ 34 from by omega), (show _ ≤ 247 from by omega)⟩ rfl (fun H locs hW => ?_)
            exact J100 a_30 x_31 o_36 Z_37 (cells + 4) (slots + 27) _ _ _ h hW (lv_sub hl [0, 1, 2] rfl) (by omega) (by omega)
          · have h9 := un2_some h
            clear h
            obtain ⟨x_38, Z_39, rfl, h⟩ := h9
            refine d_callVTt (As := [.int y4]) (rest := [.int x_31, .ref a_30]) S hW (metX3_measure h_34) (cwX3_measure_V S.2.2.2.2 q1072 ⟨Nat.le_of_ble_eq_true rfl, Nat.le_of_ble_eq_true rfl⟩) k_33 rfl rfl hl.1 rfl (Nat.le_of_ble_eq_true rfl) dX3_rule_97 ⟨(show _ ≤ 34 from by omega), (show _ ≤ 247 from by omega)⟩ (fun H locs hW => ?_)
            exact WT.widen (by omega) (by omega) (k2 _ _ (Option.some.inj h).symm _ _ _ _ _ hW)
        · have h := if_f h c_32
          refine zw_new S hW zC_X12 q1062 q1063 q131 (show _ ≤ 34 from by omega) (show _ ≤ 247 from by omega) dX3_rule_84 h (fun Z_49 a_50 h H hW => ?_)
          refine lv_dup hx hb dX3_rule_87 rfl ?_
          obtain ⟨o_52, h_51, h⟩ := bnd_some h
          refine d_callIN (As := []) (rest := [.ref a_50, .int x_31, .ref a_30]) S hW (metX12_init h_51) (cwX12_init_IN S.2.2.2.2 (hW.1.2.2.2.2.1.2.2.2.2.1 _ (nestW_in q1064 rfl)) ⟨Nat.le_of_ble_eq_true rfl, Nat.le_of_ble_eq_true rfl⟩) rfl hl.1 rfl (Nat.le_of_ble_eq_true rfl) dX3_rule_88 ⟨(show _ ≤ 34 from by omega), (show _ ≤ 247 from by omega)⟩ rfl (fun H locs hW => ?_)
          refine lv_goto (tgt := 100) hx hb dX3_rule_91 (by decide) ?_
          exact J100 a_30 x_31 (some a_50) Z_49 (cells + 1) slots _ _ _ h hW (lv_sub hl [0, 1, 2] rfl) (by omega) (by omega)
      have J54 : ∀ (y4 : Int32) (y5 : Int32) (Z : c_S) (cells slots : Nat) (H : Heap) (locs : List Loc) (ls : Array Slot), cm_X3_rule_J54 gp (fun x3 Z => cm_X3_rule_L16 gp x0 x1 x2 n x3 Z) x0 x1 x2 y4 y5 Z = some out → z_W gp D K (z_A Z0) s Z H locs → lv_has ls 6 [(0, .ref x0), (1, .ref x1), (2, .ref x2), (4, .int y4), (5, .int y5)] → cells + 5 + n * 6 ≤ E → slots + 35 + n * 43 ≤ G → W p l e rmX3_rule s m ([.ref a0, .ref a1] : List Value).toArray below meth c H locs cells slots (MQT below (z_Q (oV Out) D K (z_A Z0) (oVs Out)) ([.ref a0, .ref a1] : List Value).toArray s 34 247 (z_A Z0)) (F0 m 54 ls []) := by
        intro y4 y5 Z cells slots H locs ls h hW hl hcl hsl
        unfold cm_X3_rule_J54 at h
        refine lv_aload_n hx hb dX3_rule_54 rfl (lv_at hl 2 rfl) ?_
        refine zw_getI S hW zC_X10 (i := 1) (by decide) (Or.inr ⟨_, nestW_in q1055 rfl⟩) (fun _ h => h) dX3_rule_55 h (fun x_24 h => ?_)
        refine lv_iconst (v := 3) hx hb dX3_rule_58 (by decide) ?_
        refine lv_icmp_ne (tgt := 67) hx hb dX3_rule_59 (by decide) (fun c_25 => ?_) (fun c_25 => ?_)
        · have h := if_f h c_25
          exact J67 y4 y5 Z cells slots _ _ _ h hW hl (by omega) (by omega)
        · have h := if_t h c_25
          refine lv_aload_n hx hb dX3_rule_62 rfl (lv_at hl 0 rfl) ?_
          refine lv_iconst (v := 3) hx hb dX3_rule_63 (by decide) ?_
          obtain ⟨⟨_, k_53⟩, h⟩ := zK_some h
          obtain ⟨q_59, h_54, h⟩ := bnd_some h
          have h9 := cs2_some h
          clear h
          rcases h9 with ⟨_, rfl, h⟩ | ⟨_, rfl, h⟩
          · rename_i Z_56
            refine d_callVTr (As := [.int 3]) (rest := []) S hW (metX3_fails h_54) (cwX3_fails_V S.2.2.2.2 q931 ⟨Nat.le_of_ble_eq_true rfl, Nat.le_of_ble_eq_true rfl⟩) k_53 rfl rfl hl.1 rfl (Nat.le_of_ble_eq_true rfl) dX3_rule_64 ⟨(show _ ≤ 34 from by omega), (show _ ≤ 247 from by omega)⟩ rfl (fun H locs hW => ?_)
            exact J67 y4 y5 Z_56 (cells + 1) (slots + 8) _ _ _ h hW hl (by omega) (by omega)
          · have h9 := un2_some h
            clear h
            obtain ⟨x_57, Z_58, rfl, h⟩ := h9
            refine d_callVTt (As := [.int 3]) (rest := []) S hW (metX3_fails h_54) (cwX3_fails_V S.2.2.2.2 q931 ⟨Nat.le_of_ble_eq_true rfl, Nat.le_of_ble_eq_true rfl⟩) k_53 rfl rfl hl.1 rfl (Nat.le_of_ble_eq_true rfl) dX3_rule_64 ⟨(show _ ≤ 34 from by omega), (show _ ≤ 247 from by omega)⟩ (fun H locs hW => ?_)
            exact WT.widen (by omega) (by omega) (k2 _ _ (Option.some.inj h).symm _ _ _ _ _ hW)
      rw [cm_X3_rule_L16_s] at h
      unfold cm_X3_rule_B16 at h
      refine lv_iload_n hx hb dX3_rule_16 rfl (lv_at hl 3 rfl) ?_
      refine lv_if_eq (tgt := 121) hx hb dX3_rule_17 (by decide) (fun c_13 => ?_) (fun c_13 => ?_)
      · have h := if_t h c_13
        exact W.widen (by omega) (by omega) (k1 _ (Option.some.inj h).symm _ _ _ hW (lv_sub hl [1, 2] rfl))
      · have h := if_f h c_13
        refine lv_aload_n hx hb dX3_rule_20 rfl (lv_at hl 0 rfl) ?_
        refine lv_aload_n hx hb dX3_rule_21 rfl (lv_at hl 0 rfl) ?_
        refine zw_getA S hW zC_X3 (i := 0) (by decide) (Or.inl q827) (fun _ h => h) dX3_rule_22 h (fun a_14 h => ?_)
        obtain ⟨⟨_, k_15⟩, h⟩ := zK_some h
        obtain ⟨x_18, h_16, h⟩ := bnd_some h
        refine d_callV (As := [.ref a_14]) (rest := []) S hW (metX3_oneOf h_16) (cwX3_oneOf_V S.2.2.2.2 q877 ⟨Nat.le_of_ble_eq_true rfl, Nat.le_of_ble_eq_true rfl⟩) k_15 rfl rfl hl.1 rfl (Nat.le_of_ble_eq_true rfl) dX3_rule_25 ⟨(show _ ≤ 34 from by omega), (show _ ≤ 247 from by omega)⟩ rfl (fun H locs hW => ?_)
        refine lv_istore (lv' := [(4, .int x_18), (0, .ref x0), (1, .ref x1), (2, .ref x2), (3, .int x3)]) hx hb dX3_rule_28 hl (by decide) rfl (fun ls hl => ?_)
        refine lv_aload_n hx hb dX3_rule_30 rfl (lv_at hl 1 rfl) ?_
        refine g_ldcS (w := 21) (tx := "shut") S hW.1 (List.mem_of_getElem? (i := 21) rfl) dX3_rule_31 ?_
        obtain ⟨⟨_, k_19⟩, h⟩ := zK_some h
        obtain ⟨x_22, h_20, h⟩ := bnd_some h
        refine d_callV (As := [.ref (gp 21)]) (rest := []) S hW (metX3_is h_20) (cwX3_is_V S.2.2.2.2 q881 ⟨Nat.le_of_ble_eq_true rfl, Nat.le_of_ble_eq_true rfl⟩) k_19 rfl rfl hl.1 rfl (Nat.le_of_ble_eq_true rfl) dX3_rule_33 ⟨(show _ ≤ 34 from by omega), (show _ ≤ 247 from by omega)⟩ rfl (fun H locs hW => ?_)
        refine lv_istore (lv' := [(5, .int x_22), (4, .int x_18), (0, .ref x0), (1, .ref x1), (2, .ref x2), (3, .int x3)]) hx hb dX3_rule_36 hl (by decide) rfl (fun ls hl => ?_)
        refine lv_iload hx hb dX3_rule_38 (lv_at hl 1 rfl) ?_
        refine lv_iconst (v := (-1)) hx hb dX3_rule_40 (by decide) ?_
        refine lv_icmp_ne (tgt := 54) hx hb dX3_rule_41 (by decide) (fun c_23 => ?_) (fun c_23 => ?_)
        · have h := if_f h c_23
          exact J54 x_18 x_22 Z cells slots _ _ _ h hW (lv_sub hl [2, 3, 4, 1, 0] rfl) (by omega) (by omega)
        · have h := if_t h c_23
          refine lv_iload hx hb dX3_rule_44 (lv_at hl 0 rfl) ?_
          refine lv_if_ne (tgt := 54) hx hb dX3_rule_46 (by decide) (fun c_60 => ?_) (fun c_60 => ?_)
          · have h := if_f h c_60
            exact J54 x_18 x_22 Z cells slots _ _ _ h hW (lv_sub hl [2, 3, 4, 1, 0] rfl) (by omega) (by omega)
          · have h := if_t h c_60
            refine lv_aload_n hx hb dX3_rule_49 rfl (lv_at hl 2 rfl) ?_
            refine lv_iconst (v := 1) hx hb dX3_rule_50 (by decide) ?_
            obtain ⟨⟨_, k_61⟩, h⟩ := zK_some h
            obtain ⟨q_67, h_62, h⟩ := bnd_some h
            have h9 := cs2_some h
            clear h
            rcases h9 with ⟨_, rfl, h⟩ | ⟨_, rfl, h⟩
            · rename_i Z_64
              refine d_callVTr (As := [.int 1]) (rest := []) S hW (metX3_fails h_62) (cwX3_fails_V S.2.2.2.2 q931 ⟨Nat.le_of_ble_eq_true rfl, Nat.le_of_ble_eq_true rfl⟩) k_61 rfl rfl hl.1 rfl (Nat.le_of_ble_eq_true rfl) dX3_rule_51 ⟨(show _ ≤ 34 from by omega), (show _ ≤ 247 from by omega)⟩ rfl (fun H locs hW => ?_)
              exact J54 x_18 x_22 Z_64 (cells + 1) (slots + 8) _ _ _ h hW (lv_sub hl [2, 3, 4, 1, 0] rfl) (by omega) (by omega)
            · have h9 := un2_some h
              clear h
              obtain ⟨x_65, Z_66, rfl, h⟩ := h9
              refine d_callVTt (As := [.int 1]) (rest := []) S hW (metX3_fails h_62) (cwX3_fails_V S.2.2.2.2 q931 ⟨Nat.le_of_ble_eq_true rfl, Nat.le_of_ble_eq_true rfl⟩) k_61 rfl rfl hl.1 rfl (Nat.le_of_ble_eq_true rfl) dX3_rule_51 ⟨(show _ ≤ 34 from by omega), (show _ ≤ 247 from by omega)⟩ (fun H locs hW => ?_)
              exact WT.widen (by omega) (by omega) (k2 _ _ (Option.some.inj h).symm _ _ _ _ _ hW)
  unfold cm_X3_rule at h
  refine lv_aload_n hx hb dX3_rule_0 rfl (lv_at hl 0 rfl) ?_
  refine g_ldcS (w := 20) (tx := "if") S hW.1 (List.mem_of_getElem? (i := 20) rfl) dX3_rule_1 ?_
  obtain ⟨⟨_, k_1⟩, h⟩ := zK_some h
  obtain ⟨q_7, h_2, h⟩ := bnd_some h
  have h9 := cs2_some h
  clear h
  rcases h9 with ⟨_, rfl, h⟩ | ⟨_, rfl, h⟩
  · rename_i Z_4
    refine d_callVTr (As := [.ref (gp 20)]) (rest := []) S hW (metX3_word h_2) (cwX3_word_V S.2.2.2.2 q991 ⟨Nat.le_of_ble_eq_true rfl, Nat.le_of_ble_eq_true rfl⟩) k_1 rfl rfl hl.1 rfl (Nat.le_of_ble_eq_true rfl) dX3_rule_3 ⟨(Nat.le_of_ble_eq_true rfl), (Nat.le_of_ble_eq_true rfl)⟩ rfl (fun H locs hW => ?_)
    refine zw_new S hW zC_X10 q1044 q1045 q129 (Nat.le_of_ble_eq_true rfl) (Nat.le_of_ble_eq_true rfl) dX3_rule_6 h (fun Z_8 a_9 h H hW => ?_)
    refine lv_dup hx hb dX3_rule_9 rfl ?_
    obtain ⟨Z_12, h_10, h⟩ := bnd_some h
    refine d_callIN (As := []) (rest := [.ref a_9]) S hW (metX10_init h_10) (cwX10_init_IN S.2.2.2.2 (hW.1.2.2.2.2.1.2.2.2.2.1 _ (nestW_in q1046 rfl)) ⟨Nat.le_of_ble_eq_true rfl, Nat.le_of_ble_eq_true rfl⟩) rfl hl.1 rfl (Nat.le_of_ble_eq_true rfl) dX3_rule_10 ⟨(Nat.le_of_ble_eq_true rfl), (Nat.le_of_ble_eq_true rfl)⟩ rfl (fun H locs hW => ?_)
    refine lv_astore_n (lv' := [(2, .ref a_9), (0, .ref a0), (1, .ref a1)]) hx hb dX3_rule_13 rfl hl (by decide) rfl (fun ls hl => ?_)
    refine lv_iconst (v := 1) hx hb dX3_rule_14 (by decide) ?_
    refine lv_istore_n (lv' := [(3, .int 1), (2, .ref a_9), (0, .ref a0), (1, .ref a1)]) hx hb dX3_rule_15 rfl hl (by decide) rfl (fun ls hl => ?_)
    obtain ⟨o_68, h_69, h⟩ := bnd_some h
    have h9 := cs2_some h
    clear h
    rcases h9 with ⟨q, rfl, h⟩ | ⟨q, rfl, h⟩
    · obtain ⟨Z_70, rfl⟩ : ∃ z, z = q := ⟨q, rfl⟩
      refine Lp16 a0 a1 a_9 33 228 5 1 Z_12  _ 3 13 _ _ _ h_69 hW (lv_sub hl [2, 3, 1, 0] rfl) (by omega) (by omega) (by omega) (by omega) ?_ (fun _ _ eo => by cases eo)
      intro w0 eo H locs ls hW hl
      cases eo
      refine lv_aload_n hx hb dX3_rule_121 rfl (lv_at hl 0 rfl) ?_
      refine zw_getA S hW zC_X2 (i := 5) (by decide) (Or.inr ⟨_, nestW_in q404 rfl⟩) (fun _ h => h) dX3_rule_122 h (fun a_71 h => ?_)
      refine lv_aload_n hx hb dX3_rule_125 rfl (lv_at hl 1 rfl) ?_
      obtain ⟨⟨_, k_72⟩, h⟩ := zK_some h
      obtain ⟨x_75, Z_76, h_73, h⟩ := bnd2_some h
      refine d_callF (As := [.ref a_9]) (rest := []) S hW (metJ2_add h_73) (cwJ2_add_F S.2.2.2.2 q1034 (hW.1.2.2.2.2.1.2.2.2.2.2.2.1 _ (List.mem_of_getElem? (i := 3) rfl)) ⟨Nat.le_of_ble_eq_true rfl, Nat.le_of_ble_eq_true rfl⟩) k_72 rfl rfl hl.1 rfl (Nat.le_of_ble_eq_true rfl) dX3_rule_126 ⟨(Nat.le_of_ble_eq_true rfl), (Nat.le_of_ble_eq_true rfl)⟩ rfl (fun H locs hW => ?_)
      refine lv_pop hx hb dX3_rule_131 rfl ?_
      cases h
      exact W.toT (d_vret S hr hlk hW (Nat.le_of_ble_eq_true rfl) (Nat.le_of_ble_eq_true rfl) dX3_rule_132)
    · have h9 := un2_some h
      clear h
      obtain ⟨x_77, Z_78, rfl, h⟩ := h9
      refine Lp16 a0 a1 a_9 33 228 5 1 Z_12  _ 3 13 _ _ _ h_69 hW (lv_sub hl [2, 3, 1, 0] rfl) (by omega) (by omega) (by omega) (by omega) (fun _ eo => by cases eo) ?_
      intro w0 w1 eo H locs pc_ ls_ st_ hW
      cases eo
      cases h
      exact d_leave hlk hne hW (Nat.le_of_ble_eq_true rfl) (Nat.le_of_ble_eq_true rfl)
  · have h9 := un2_some h
    clear h
    obtain ⟨x_5, Z_6, rfl, h⟩ := h9
    refine d_callVTt (As := [.ref (gp 20)]) (rest := []) S hW (metX3_word h_2) (cwX3_word_V S.2.2.2.2 q991 ⟨Nat.le_of_ble_eq_true rfl, Nat.le_of_ble_eq_true rfl⟩) k_1 rfl rfl hl.1 rfl (Nat.le_of_ble_eq_true rfl) dX3_rule_3 ⟨(Nat.le_of_ble_eq_true rfl), (Nat.le_of_ble_eq_true rfl)⟩ (fun H locs hW => ?_)
    cases h
    exact d_leave hlk hne hW (Nat.le_of_ble_eq_true rfl) (Nat.le_of_ble_eq_true rfl)
