/-! walks of the component: X14_finds X3_word X3_below J2_grow X0_cell X0_way X0_thick X1_leads -/
set_option maxRecDepth 100000
def cm_X14_finds_B2 (x0 : Nat) (rec : Int32 → c_S → Option (c_S)) (x1 : Int32) (Z : c_S) : Option (c_S) :=
  if 290 ≤ x1 then (some Z) else (cA Z.Sh x0 13 9 5 fun a_2 => zsI Z 0 a_2 x1 (-1) fun Z_3 => nmI (x1 + 1) fun x_4 => rec x_4 Z_3)
abbrev cm_X14_finds_F2 (x0 : Nat) : (((Int32) × (c_S)) → Option (c_S)) → ((Int32) × (c_S)) → Option (c_S) := fun rec s => cm_X14_finds_B2 x0 (fun x1 Z => rec (x1, Z)) s.1 s.2
def cm_X14_finds_L2 (x0 : Nat) (n : Nat) (x1 : Int32) (Z : c_S) : Option (c_S) := lp (cm_X14_finds_F2 x0) n (x1, Z)
theorem cm_X14_finds_L2_s (x0 : Nat) (n : Nat) (x1 : Int32) (Z : c_S) : cm_X14_finds_L2 x0 (n + 1) x1 Z = cm_X14_finds_B2 x0 (fun x1 Z => cm_X14_finds_L2 x0 n x1 Z) x1 Z := lp_s (cm_X14_finds_F2 x0) n (x1, Z)
def cm_X14_finds_B29 (x0 : Nat) (rec : Int32 → c_S → Option (c_S)) (x1 : Int32) (Z : c_S) : Option (c_S) :=
  if 144 ≤ x1 then (some Z) else (cA Z.Sh x0 13 9 3 fun a_11 => caI Z.Sh Z.V 2 a_11 x1 fun x_12 => if x_12 = 0 then (nmI (x1 + 1) fun x_14 => rec x_14 Z) else (zK Z x0 13 9 <| bnd (cm_X14_come Z x0 (2 * x1) 288) (fun Z_19 => nmI (x1 + 1) fun x_20 => rec x_20 Z_19)))
abbrev cm_X14_finds_F29 (x0 : Nat) : (((Int32) × (c_S)) → Option (c_S)) → ((Int32) × (c_S)) → Option (c_S) := fun rec s => cm_X14_finds_B29 x0 (fun x1 Z => rec (x1, Z)) s.1 s.2
def cm_X14_finds_L29 (x0 : Nat) (n : Nat) (x1 : Int32) (Z : c_S) : Option (c_S) := lp (cm_X14_finds_F29 x0) n (x1, Z)
theorem cm_X14_finds_L29_s (x0 : Nat) (n : Nat) (x1 : Int32) (Z : c_S) : cm_X14_finds_L29 x0 (n + 1) x1 Z = cm_X14_finds_B29 x0 (fun x1 Z => cm_X14_finds_L29 x0 n x1 Z) x1 Z := lp_s (cm_X14_finds_F29 x0) n (x1, Z)
def cm_X14_finds_B63 (x0 : Nat) (rec : Int32 → c_S → Option (c_S)) (x1 : Int32) (Z : c_S) : Option (c_S) :=
  cI Z.Sh Z.V x0 13 9 7 fun x_25 => if x_25 ≤ x1 then (some Z) else (cA Z.Sh x0 13 9 5 fun a_27 => caI Z.Sh Z.V 0 a_27 289 fun x_28 => if x_28 = (-1) then (cA Z.Sh x0 13 9 6 fun a_30 => caI Z.Sh Z.V 0 a_30 x1 fun x_31 => nmI (x_31 / 2) fun x_32 => cA Z.Sh x0 13 9 6 fun a_34 => caI Z.Sh Z.V 0 a_34 x1 fun x_35 => if x_35 = 289 then (nmI (x1 + 1) fun x_52 => rec x_52 Z) else (cA Z.Sh x0 13 9 6 fun a_37 => caI Z.Sh Z.V 0 a_37 x1 fun x_38 => if (x_38 - x_38 / 2 * 2) = 0 then (zK Z x0 13 9 <| bnd (cm_X14_goesIn Z x0 x_32) (fun Z_49 => nmI (x1 + 1) fun x_50 => rec x_50 Z_49)) else (zK Z x0 13 9 <| bnd (cm_X14_goesOut Z x0 x_32) (fun Z_43 => nmI (x1 + 1) fun x_44 => rec x_44 Z_43)))) else (some Z))
abbrev cm_X14_finds_F63 (x0 : Nat) : (((Int32) × (c_S)) → Option (c_S)) → ((Int32) × (c_S)) → Option (c_S) := fun rec s => cm_X14_finds_B63 x0 (fun x1 Z => rec (x1, Z)) s.1 s.2
def cm_X14_finds_L63 (x0 : Nat) (n : Nat) (x1 : Int32) (Z : c_S) : Option (c_S) := lp (cm_X14_finds_F63 x0) n (x1, Z)
theorem cm_X14_finds_L63_s (x0 : Nat) (n : Nat) (x1 : Int32) (Z : c_S) : cm_X14_finds_L63 x0 (n + 1) x1 Z = cm_X14_finds_B63 x0 (fun x1 Z => cm_X14_finds_L63 x0 n x1 Z) x1 Z := lp_s (cm_X14_finds_F63 x0) n (x1, Z)
def cm_X14_finds_J137 (y0 : Nat) (Z : c_S) : Option (Int32 × c_S) :=
  cA Z.Sh y0 13 9 5 fun a_57 => caI Z.Sh Z.V 0 a_57 289 fun x_58 => if x_58 = (-1) then (some (0, Z)) else (some (1, Z))
def cm_X14_finds (Z0 : c_S) (a0 : Nat) : Option (Int32 × c_S) :=
  bnd (cm_X14_finds_L2 a0 1000 0 Z0) (fun Z_8 => zPI Z_8 a0 13 9 7 0 fun Z_9 => bnd (cm_X14_finds_L29 a0 1000 0 Z_9) (fun Z_24 => bnd (cm_X14_finds_L63 a0 1000 0 Z_24) (fun Z_56 => cm_X14_finds_J137 a0 Z_56)))
abbrev rmX14_finds : Room := rmD 2 45 0 0
theorem cwX14_goesOut_V {own : String} {R : Room} {s : State} {args : Array Value} {index : Nat} (hts : ∀ w ∈ lw_all, w.before args s = true) (hl : Cond.methodLink own index yX14_goesOut ∈ lw_all) (hR : rmX14_goesOut.frames + 1 ≤ R.frames ∧ 8 + (4 + 11) + rmX14_goesOut.locals ≤ R.locals) : CallW R s args own RX14 index yX14_goesOut cX14_goesOut 4 (none) (ws_ yX14_goesOut cX14_goesOut 4 (none)) rmX14_goesOut 0 0 1 := cwV 1 hts (lw_V hl q1270 qs43 q133 q1271) rfl rfl rfl (by decide +kernel) hR
theorem cwX14_goesIn_V {own : String} {R : Room} {s : State} {args : Array Value} {index : Nat} (hts : ∀ w ∈ lw_all, w.before args s = true) (hl : Cond.methodLink own index yX14_goesIn ∈ lw_all) (hR : rmX14_goesIn.frames + 1 ≤ R.frames ∧ 8 + (4 + 11) + rmX14_goesIn.locals ≤ R.locals) : CallW R s args own RX14 index yX14_goesIn cX14_goesIn 4 (none) (ws_ yX14_goesIn cX14_goesIn 4 (none)) rmX14_goesIn 0 0 1 := cwV 1 hts (lw_V hl q1262 qs42 q133 q1263) rfl rfl rfl (by decide +kernel) hR
set_option maxHeartbeats 4000000 in
theorem metX14_finds {l : Launch} {gp : Nat → Nat} {D : va_G} {K : Nat → ClassId} {Z0 : c_S} {a0 : Nat} {r : Int32} {Z' : c_S} (h : cm_X14_finds Z0 a0 = some (r, Z')) : Met l yX14_finds (ws_ yX14_finds cX14_finds 3 (some .boolean)) rmX14_finds (z_Pc gp [.ref a0] D K Z0) (z_Q (.returned (some (.int r))) D K (z_A Z0) Z') 0 0 (z_A Z0) := by
  refine d_met rfl (Nat.le_of_ble_eq_true rfl) ?_
  intro p e s m below meth c ls S hr hlk hnm hl hW hsz
  have S : CallFix p m c cX14_finds 3 s ([.ref a0] : List Value).toArray lw_all RX14 := S
  have hx := S.1
  have hb := S.2.1
  have hl : lv_has ls 3 [(0, .ref a0)] := hl
  have hnm : meth.name = "finds" := hnm
  have Lp2 : ∀ (x0 : Nat) (n : Nat) (x1 : Int32) (Z : c_S) (out : (c_S)) (H : Heap) (locs : List Loc) (ls : Array Slot), cm_X14_finds_L2 x0 n x1 Z = some out → z_W gp D K (z_A Z0) s Z H locs → lv_has ls 3 [(0, .ref x0), (1, .int x1)] → (∀ (oZ : c_S), out = oZ → ∀ (H : Heap) (locs : List Loc) (ls : Array Slot), z_W gp D K (z_A Z0) s oZ H locs → lv_has ls 3 [(0, .ref x0)] → W p l e rmX14_finds s m ([.ref a0] : List Value).toArray below meth c H locs 0 0 (MQ below (z_Q (.returned (some (.int r))) D K (z_A Z0) Z') ([.ref a0] : List Value).toArray s 0 0 (z_A Z0)) (F0 m 22 ls [])) → W p l e rmX14_finds s m ([.ref a0] : List Value).toArray below meth c H locs 0 0 (MQ below (z_Q (.returned (some (.int r))) D K (z_A Z0) Z') ([.ref a0] : List Value).toArray s 0 0 (z_A Z0)) (F0 m 2 ls []) := by
    intro x0 n
    induction n with
    | zero =>
      intro x1 Z out H locs ls h
      exact (lp_0 h).elim
    | succ n ih =>
      intro x1 Z out H locs ls h hW hl k1
      rw [cm_X14_finds_L2_s] at h
      unfold cm_X14_finds_B2 at h
      refine lv_iload_n hx hb dX14_finds_2 rfl (lv_at hl 1 rfl) ?_
      refine lv_sipush (v := 290) hx hb dX14_finds_3 (by decide) ?_
      refine lv_icmp_ge (tgt := 22) hx hb dX14_finds_6 (by decide) (fun c_1 => ?_) (fun c_1 => ?_)
      · have h := if_t h c_1
        exact k1 _ (Option.some.inj h).symm _ _ _ hW (lv_sub hl [0] rfl)
      · have h := if_f h c_1
        refine lv_aload_n hx hb dX14_finds_9 rfl (lv_at hl 0 rfl) ?_
        refine zw_getA S hW zC_X14 (i := 5) (by decide) (Or.inl q1286) (fun _ h => h) dX14_finds_10 h (fun a_2 h => ?_)
        refine lv_iload_n hx hb dX14_finds_13 rfl (lv_at hl 1 rfl) ?_
        refine lv_iconst (v := (-1)) hx hb dX14_finds_14 (by decide) ?_
        refine zw_iast S hW dX14_finds_15 h (fun Z_3 h H locs hW => ?_)
        obtain ⟨x_4, e_5, h⟩ := nmI_some h
        refine lv_iinc (v := x_4) (lv' := [(1, .int x_4), (0, .ref x0)]) hx hb dX14_finds_16 hl (k := 1) rfl (by rw [e_5]; rfl) (by decide) rfl (fun ls hl => ?_)
        refine lv_goto (tgt := 2) hx hb dX14_finds_19 (by decide) ?_
        exact ih x_4 Z_3 out _ _ _ h hW (lv_sub hl [1, 0] rfl) k1
  have Lp29 : ∀ (x0 : Nat) (n : Nat) (x1 : Int32) (Z : c_S) (out : (c_S)) (H : Heap) (locs : List Loc) (ls : Array Slot), cm_X14_finds_L29 x0 n x1 Z = some out → z_W gp D K (z_A Z0) s Z H locs → lv_has ls 3 [(0, .ref x0), (1, .int x1)] → (∀ (oZ : c_S), out = oZ → ∀ (H : Heap) (locs : List Loc) (ls : Array Slot), z_W gp D K (z_A Z0) s oZ H locs → lv_has ls 3 [(0, .ref x0)] → W p l e rmX14_finds s m ([.ref a0] : List Value).toArray below meth c H locs 0 0 (MQ below (z_Q (.returned (some (.int r))) D K (z_A Z0) Z') ([.ref a0] : List Value).toArray s 0 0 (z_A Z0)) (F0 m 61 ls [])) → W p l e rmX14_finds s m ([.ref a0] : List Value).toArray below meth c H locs 0 0 (MQ below (z_Q (.returned (some (.int r))) D K (z_A Z0) Z') ([.ref a0] : List Value).toArray s 0 0 (z_A Z0)) (F0 m 29 ls []) := by
    intro x0 n
    induction n with
    | zero =>
      intro x1 Z out H locs ls h
      exact (lp_0 h).elim
    | succ n ih =>
      intro x1 Z out H locs ls h hW hl k1
      rw [cm_X14_finds_L29_s] at h
      unfold cm_X14_finds_B29 at h
      refine lv_iload_n hx hb dX14_finds_29 rfl (lv_at hl 1 rfl) ?_
      refine lv_sipush (v := 144) hx hb dX14_finds_30 (by decide) ?_
      refine lv_icmp_ge (tgt := 61) hx hb dX14_finds_33 (by decide) (fun c_10 => ?_) (fun c_10 => ?_)
      · have h := if_t h c_10
        exact k1 _ (Option.some.inj h).symm _ _ _ hW (lv_sub hl [0] rfl)
      · have h := if_f h c_10
        refine lv_aload_n hx hb dX14_finds_36 rfl (lv_at hl 0 rfl) ?_
        refine zw_getA S hW zC_X14 (i := 3) (by decide) (Or.inl q1284) (fun _ h => h) dX14_finds_37 h (fun a_11 h => ?_)
        refine lv_iload_n hx hb dX14_finds_40 rfl (lv_at hl 1 rfl) ?_
        refine zw_zald S hW dX14_finds_41 h (fun x_12 h => ?_)
        refine lv_if_eq (tgt := 55) hx hb dX14_finds_42 (by decide) (fun c_13 => ?_) (fun c_13 => ?_)
        · have h := if_t h c_13
          obtain ⟨x_14, e_15, h⟩ := nmI_some h
          refine lv_iinc (v := x_14) (lv' := [(1, .int x_14), (0, .ref x0)]) hx hb dX14_finds_55 hl (k := 1) rfl (by rw [e_15]; rfl) (by decide) rfl (fun ls hl => ?_)
          refine lv_goto (tgt := 29) hx hb dX14_finds_58 (by decide) ?_
          exact ih x_14 Z out _ _ _ h hW (lv_sub hl [1, 0] rfl) k1
        · have h := if_f h c_13
          refine lv_aload_n hx hb dX14_finds_45 rfl (lv_at hl 0 rfl) ?_
          refine lv_iconst (v := 2) hx hb dX14_finds_46 (by decide) ?_
          refine lv_iload_n hx hb dX14_finds_47 rfl (lv_at hl 1 rfl) ?_
          refine lv_imul hx hb dX14_finds_48 ?_
          refine lv_sipush (v := 288) hx hb dX14_finds_49 (by decide) ?_
          obtain ⟨⟨_, k_16⟩, h⟩ := zK_some h
          obtain ⟨Z_19, h_17, h⟩ := bnd_some h
          refine d_callV (As := [.int (2 * x1), .int 288]) (rest := []) S hW (metX14_come h_17) (cwX14_come_V S.2.2.2.2 q1256 ⟨Nat.le_of_ble_eq_true rfl, Nat.le_of_ble_eq_true rfl⟩) k_16 rfl rfl hl.1 rfl (Nat.le_of_ble_eq_true rfl) dX14_finds_52 ⟨(Nat.le_of_ble_eq_true rfl), (Nat.le_of_ble_eq_true rfl)⟩ rfl (fun H locs hW => ?_)
          obtain ⟨x_20, e_21, h⟩ := nmI_some h
          refine lv_iinc (v := x_20) (lv' := [(1, .int x_20), (0, .ref x0)]) hx hb dX14_finds_55 hl (k := 1) rfl (by rw [e_21]; rfl) (by decide) rfl (fun ls hl => ?_)
          refine lv_goto (tgt := 29) hx hb dX14_finds_58 (by decide) ?_
          exact ih x_20 Z_19 out _ _ _ h hW (lv_sub hl [1, 0] rfl) k1
  have Lp63 : ∀ (x0 : Nat) (n : Nat) (x1 : Int32) (Z : c_S) (out : (c_S)) (H : Heap) (locs : List Loc) (ls : Array Slot), cm_X14_finds_L63 x0 n x1 Z = some out → z_W gp D K (z_A Z0) s Z H locs → lv_has ls 3 [(0, .ref x0), (1, .int x1)] → (∀ (oZ : c_S), out = oZ → ∀ (H : Heap) (locs : List Loc) (ls : Array Slot), z_W gp D K (z_A Z0) s oZ H locs → lv_has ls 3 [(0, .ref x0)] → W p l e rmX14_finds s m ([.ref a0] : List Value).toArray below meth c H locs 0 0 (MQ below (z_Q (.returned (some (.int r))) D K (z_A Z0) Z') ([.ref a0] : List Value).toArray s 0 0 (z_A Z0)) (F0 m 137 ls [])) → W p l e rmX14_finds s m ([.ref a0] : List Value).toArray below meth c H locs 0 0 (MQ below (z_Q (.returned (some (.int r))) D K (z_A Z0) Z') ([.ref a0] : List Value).toArray s 0 0 (z_A Z0)) (F0 m 63 ls []) := by
    intro x0 n
    induction n with
    | zero =>
      intro x1 Z out H locs ls h
      exact (lp_0 h).elim
    | succ n ih =>
      intro x1 Z out H locs ls h hW hl k1
      rw [cm_X14_finds_L63_s] at h
      unfold cm_X14_finds_B63 at h
      refine lv_iload_n hx hb dX14_finds_63 rfl (lv_at hl 1 rfl) ?_
      refine lv_aload_n hx hb dX14_finds_64 rfl (lv_at hl 0 rfl) ?_
      refine zw_getI S hW zC_X14 (i := 7) (by decide) (Or.inl q1288) (fun _ h => h) dX14_finds_65 h (fun x_25 h => ?_)
      refine lv_icmp_ge (tgt := 137) hx hb dX14_finds_68 (by decide) (fun c_26 => ?_) (fun c_26 => ?_)
      · have h := if_t h c_26
        exact k1 _ (Option.some.inj h).symm _ _ _ hW (lv_sub hl [0] rfl)
      · have h := if_f h c_26
        refine lv_aload_n hx hb dX14_finds_71 rfl (lv_at hl 0 rfl) ?_
        refine zw_getA S hW zC_X14 (i := 5) (by decide) (Or.inl q1286) (fun _ h => h) dX14_finds_72 h (fun a_27 h => ?_)
        refine lv_sipush (v := 289) hx hb dX14_finds_75 (by decide) ?_
        refine zw_iald S hW dX14_finds_78 h (fun x_28 h => ?_)
        refine lv_iconst (v := (-1)) hx hb dX14_finds_79 (by decide) ?_
        refine lv_icmp_ne (tgt := 137) hx hb dX14_finds_80 (by decide) (fun c_29 => ?_) (fun c_29 => ?_)
        · have h := if_f h c_29
          exact k1 _ (Option.some.inj h).symm _ _ _ hW (lv_sub hl [0] rfl)
        · have h := if_t h c_29
          refine lv_aload_n hx hb dX14_finds_83 rfl (lv_at hl 0 rfl) ?_
          refine zw_getA S hW zC_X14 (i := 6) (by decide) (Or.inl q1287) (fun _ h => h) dX14_finds_84 h (fun a_30 h => ?_)
          refine lv_iload_n hx hb dX14_finds_87 rfl (lv_at hl 1 rfl) ?_
          refine zw_iald S hW dX14_finds_88 h (fun x_31 h => ?_)
          refine lv_iconst (v := 2) hx hb dX14_finds_89 (by decide) ?_
          refine lv_idiv hx hb dX14_finds_90 (by decide) ?_
          obtain ⟨x_32, e_33, h⟩ := nmI_some h
          refine g_nmi e_33 ?_
          refine lv_istore_n (lv' := [(2, .int x_32), (0, .ref x0), (1, .int x1)]) hx hb dX14_finds_91 rfl hl (by decide) rfl (fun ls hl => ?_)
          refine lv_aload_n hx hb dX14_finds_92 rfl (lv_at hl 1 rfl) ?_
          refine zw_getA S hW zC_X14 (i := 6) (by decide) (Or.inl q1287) (fun _ h => h) dX14_finds_93 h (fun a_34 h => ?_)
          refine lv_iload_n hx hb dX14_finds_96 rfl (lv_at hl 2 rfl) ?_
          refine zw_iald S hW dX14_finds_97 h (fun x_35 h => ?_)
          refine lv_sipush (v := 289) hx hb dX14_finds_98 (by decide) ?_
          refine lv_icmp_ne (tgt := 107) hx hb dX14_finds_101 (by decide) (fun c_36 => ?_) (fun c_36 => ?_)
          · have h := if_f h c_36
            refine lv_aload_n hx hb dX14_finds_107 rfl (lv_at hl 1 rfl) ?_
            refine zw_getA S hW zC_X14 (i := 6) (by decide) (Or.inl q1287) (fun _ h => h) dX14_finds_108 h (fun a_37 h => ?_)
            refine lv_iload_n hx hb dX14_finds_111 rfl (lv_at hl 2 rfl) ?_
            refine zw_iald S hW dX14_finds_112 h (fun x_38 h => ?_)
            refine lv_iconst (v := 2) hx hb dX14_finds_113 (by decide) ?_
            refine lv_irem hx hb dX14_finds_114 (by decide) ?_
            refine lv_if_ne (tgt := 126) hx hb dX14_finds_115 (by decide) (fun c_39 => ?_) (fun c_39 => ?_)
            · have h := if_f h c_39
              refine lv_aload_n hx hb dX14_finds_126 rfl (lv_at hl 1 rfl) ?_
              refine lv_iload_n hx hb dX14_finds_127 rfl (lv_at hl 0 rfl) ?_
              obtain ⟨⟨_, k_40⟩, h⟩ := zK_some h
              obtain ⟨Z_43, h_41, h⟩ := bnd_some h
              refine d_callV (As := [.int x_32]) (rest := []) S hW (metX14_goesOut h_41) (cwX14_goesOut_V S.2.2.2.2 q1268 ⟨Nat.le_of_ble_eq_true rfl, Nat.le_of_ble_eq_true rfl⟩) k_40 rfl rfl hl.1 rfl (Nat.le_of_ble_eq_true rfl) dX14_finds_128 ⟨(Nat.le_of_ble_eq_true rfl), (Nat.le_of_ble_eq_true rfl)⟩ rfl (fun H locs hW => ?_)
              obtain ⟨x_44, e_45, h⟩ := nmI_some h
              refine lv_iinc (v := x_44) (lv' := [(1, .int x_44), (2, .int x_32), (0, .ref x0)]) hx hb dX14_finds_131 hl (k := 2) rfl (by rw [e_45]; rfl) (by decide) rfl (fun ls hl => ?_)
              refine lv_goto (tgt := 63) hx hb dX14_finds_134 (by decide) ?_
              exact ih x_44 Z_43 out _ _ _ h hW (lv_sub hl [2, 0] rfl) k1
            · have h := if_t h c_39
              refine lv_aload_n hx hb dX14_finds_118 rfl (lv_at hl 1 rfl) ?_
              refine lv_iload_n hx hb dX14_finds_119 rfl (lv_at hl 0 rfl) ?_
              obtain ⟨⟨_, k_46⟩, h⟩ := zK_some h
              obtain ⟨Z_49, h_47, h⟩ := bnd_some h
              refine d_callV (As := [.int x_32]) (rest := []) S hW (metX14_goesIn h_47) (cwX14_goesIn_V S.2.2.2.2 q1260 ⟨Nat.le_of_ble_eq_true rfl, Nat.le_of_ble_eq_true rfl⟩) k_46 rfl rfl hl.1 rfl (Nat.le_of_ble_eq_true rfl) dX14_finds_120 ⟨(Nat.le_of_ble_eq_true rfl), (Nat.le_of_ble_eq_true rfl)⟩ rfl (fun H locs hW => ?_)
              refine lv_goto (tgt := 131) hx hb dX14_finds_123 (by decide) ?_
              obtain ⟨x_50, e_51, h⟩ := nmI_some h
              refine lv_iinc (v := x_50) (lv' := [(1, .int x_50), (2, .int x_32), (0, .ref x0)]) hx hb dX14_finds_131 hl (k := 2) rfl (by rw [e_51]; rfl) (by decide) rfl (fun ls hl => ?_)
              refine lv_goto (tgt := 63) hx hb dX14_finds_134 (by decide) ?_
              exact ih x_50 Z_49 out _ _ _ h hW (lv_sub hl [2, 0] rfl) k1
          · have h := if_t h c_36
            refine lv_goto (tgt := 131) hx hb dX14_finds_104 (by decide) ?_
            obtain ⟨x_52, e_53, h⟩ := nmI_some h
            refine lv_iinc (v := x_52) (lv' := [(1, .int x_52), (2, .int x_32), (0, .ref x0)]) hx hb dX14_finds_131 hl (k := 2) rfl (by rw [e_53]; rfl) (by decide) rfl (fun ls hl => ?_)
            refine lv_goto (tgt := 63) hx hb dX14_finds_134 (by decide) ?_
            exact ih x_52 Z out _ _ _ h hW (lv_sub hl [2, 0] rfl) k1
  have J137 : ∀ (y0 : Nat) (Z : c_S) (H : Heap) (locs : List Loc) (ls : Array Slot), cm_X14_finds_J137 y0 Z = some (r, Z') → z_W gp D K (z_A Z0) s Z H locs → lv_has ls 3 [(0, .ref y0)] → W p l e rmX14_finds s m ([.ref a0] : List Value).toArray below meth c H locs 0 0 (MQ below (z_Q (.returned (some (.int r))) D K (z_A Z0) Z') ([.ref a0] : List Value).toArray s 0 0 (z_A Z0)) (F0 m 137 ls []) := by
    intro y0 Z H locs ls h hW hl
    unfold cm_X14_finds_J137 at h
    refine lv_aload_n hx hb dX14_finds_137 rfl (lv_at hl 0 rfl) ?_
    refine zw_getA S hW zC_X14 (i := 5) (by decide) (Or.inl q1286) (fun _ h => h) dX14_finds_138 h (fun a_57 h => ?_)
    refine lv_sipush (v := 289) hx hb dX14_finds_141 (by decide) ?_
    refine zw_iald S hW dX14_finds_144 h (fun x_58 h => ?_)
    refine lv_iconst (v := (-1)) hx hb dX14_finds_145 (by decide) ?_
    refine lv_icmp_eq (tgt := 153) hx hb dX14_finds_146 (by decide) (fun c_59 => ?_) (fun c_59 => ?_)
    · have h := if_t h c_59
      refine lv_iconst (v := 0) hx hb dX14_finds_153 (by decide) ?_
      cases h
      exact d_zret S hr hlk rfl hW (Nat.le_of_ble_eq_true rfl) (Nat.le_of_ble_eq_true rfl) dX14_finds_154
    · have h := if_f h c_59
      refine lv_iconst (v := 1) hx hb dX14_finds_149 (by decide) ?_
      refine lv_goto (tgt := 154) hx hb dX14_finds_150 (by decide) ?_
      cases h
      exact d_zret S hr hlk rfl hW (Nat.le_of_ble_eq_true rfl) (Nat.le_of_ble_eq_true rfl) dX14_finds_154
  unfold cm_X14_finds at h
  refine lv_iconst (v := 0) hx hb dX14_finds_0 (by decide) ?_
  refine lv_istore_n (lv' := [(1, .int 0), (0, .ref a0)]) hx hb dX14_finds_1 rfl hl (by decide) rfl (fun ls hl => ?_)
  obtain ⟨Z_8, h_7, h⟩ := bnd_some h
  refine Lp2 a0 1000 0 Z0  _ _ _ _ h_7 hW (lv_sub hl [1, 0] rfl) ?_
  intro w0 eo H locs ls hW hl
  subst eo
  refine lv_aload_n hx hb dX14_finds_22 rfl (lv_at hl 0 rfl) ?_
  refine lv_iconst (v := 0) hx hb dX14_finds_23 (by decide) ?_
  refine zw_putI S hW zC_X14 (i := 7) (by decide) (Or.inl rfl) rfl rfl rfl (Or.inl q1288) (fun _ h => h) dX14_finds_24 h (fun Z_9 h H locs hW => ?_)
  refine lv_iconst (v := 0) hx hb dX14_finds_27 (by decide) ?_
  refine lv_istore_n (lv' := [(1, .int 0), (0, .ref a0)]) hx hb dX14_finds_28 rfl hl (by decide) rfl (fun ls hl => ?_)
  obtain ⟨Z_24, h_23, h⟩ := bnd_some h
  refine Lp29 a0 1000 0 Z_9  _ _ _ _ h_23 hW (lv_sub hl [1, 0] rfl) ?_
  intro w0 eo H locs ls hW hl
  subst eo
  refine lv_iconst (v := 0) hx hb dX14_finds_61 (by decide) ?_
  refine lv_istore_n (lv' := [(1, .int 0), (0, .ref a0)]) hx hb dX14_finds_62 rfl hl (by decide) rfl (fun ls hl => ?_)
  obtain ⟨Z_56, h_55, h⟩ := bnd_some h
  refine Lp63 a0 1000 0 Z_24  _ _ _ _ h_55 hW (lv_sub hl [1, 0] rfl) ?_
  intro w0 eo H locs ls hW hl
  subst eo
  exact J137 a0 Z_56 _ _ _ h hW hl
def cm_X3_word (gp : Nat → Nat) (Z0 : c_S) (a0 : Nat) (a1 : Nat) : Option ((c_S) ⊕ (Nat × c_S)) :=
  zK Z0 a0 3 11 <| bnd (cm_X3_takes gp Z0 a0 a1) (un2 fun x_4 Z_5 => if x_4 = 0 then (zK Z_5 a0 3 11 <| bnd (cm_X3_fails gp Z_5 a0 1) (cs2 (fun Z_10 => some (.inl Z_10)) (un2 fun x_11 Z_12 => some (.inr (x_11, Z_12))))) else (some (.inl Z_5)))
abbrev rmX3_word : Room := rmD 6 165 1 8
theorem cwX3_takes_V {own : String} {R : Room} {s : State} {args : Array Value} {index : Nat} (hts : ∀ w ∈ lw_all, w.before args s = true) (hl : Cond.methodLink own index yX3_takes ∈ lw_all) (hR : rmX3_takes.frames + 1 ≤ R.frames ∧ 8 + (3 + 11) + rmX3_takes.locals ≤ R.locals) : CallW R s args own RX3 index yX3_takes cX3_takes 3 (some .boolean) (ws_ yX3_takes cX3_takes 3 (some .boolean)) rmX3_takes 0 0 1 := cwV 1 hts (lw_V hl q997 qs20 q111 q998) rfl rfl rfl (by decide +kernel) hR
set_option maxHeartbeats 4000000 in
theorem metX3_word {l : Launch} {gp : Nat → Nat} {D : va_G} {K : Nat → ClassId} {Z0 : c_S} {a0 : Nat} {a1 : Nat} {Out : ((c_S) ⊕ (Nat × c_S))} (h : cm_X3_word gp Z0 a0 a1 = some Out) : MetT l yX3_word (ws_ yX3_word cX3_word 2 (none)) rmX3_word (z_Pc gp [.ref a0, .ref a1] D K Z0) (z_Q (oV Out) D K (z_A Z0) (oVs Out)) 1 8 (z_A Z0) := by
  refine d_metT rfl (Nat.le_of_ble_eq_true rfl) ?_
  intro p e s m below meth c ls S hr hlk hnm hne hl hW hsz
  have S : CallFix p m c cX3_word 2 s ([.ref a0, .ref a1] : List Value).toArray lw_all RX3 := S
  have hx := S.1
  have hb := S.2.1
  have hl : lv_has ls 2 [(0, .ref a0), (1, .ref a1)] := hl
  have hnm : meth.name = "word" := hnm
  unfold cm_X3_word at h
  refine lv_aload_n hx hb dX3_word_0 rfl (lv_at hl 0 rfl) ?_
  refine lv_aload_n hx hb dX3_word_1 rfl (lv_at hl 1 rfl) ?_
  obtain ⟨⟨_, k_1⟩, h⟩ := zK_some h
  obtain ⟨x_4, Z_5, h_2, h⟩ := bnd2_some h
  refine d_callV (As := [.ref a1]) (rest := []) S hW (metX3_takes h_2) (cwX3_takes_V S.2.2.2.2 q995 ⟨Nat.le_of_ble_eq_true rfl, Nat.le_of_ble_eq_true rfl⟩) k_1 rfl rfl hl.1 rfl (Nat.le_of_ble_eq_true rfl) dX3_word_2 ⟨(Nat.le_of_ble_eq_true rfl), (Nat.le_of_ble_eq_true rfl)⟩ rfl (fun H locs hW => ?_)
  refine lv_if_ne (tgt := 13) hx hb dX3_word_5 (by decide) (fun c_6 => ?_) (fun c_6 => ?_)
  · have h := if_f h c_6
    cases h
    exact W.toT (d_vret S hr hlk hW (Nat.le_of_ble_eq_true rfl) (Nat.le_of_ble_eq_true rfl) dX3_word_13)
  · have h := if_t h c_6
    refine lv_aload_n hx hb dX3_word_8 rfl (lv_at hl 0 rfl) ?_
    refine lv_iconst (v := 1) hx hb dX3_word_9 (by decide) ?_
    obtain ⟨⟨_, k_7⟩, h⟩ := zK_some h
    obtain ⟨q_13, h_8, h⟩ := bnd_some h
    have h9 := cs2_some h
    clear h
    rcases h9 with ⟨_, rfl, h⟩ | ⟨_, rfl, h⟩
    · rename_i Z_10
      refine d_callVTr (As := [.int 1]) (rest := []) S hW (metX3_fails h_8) (cwX3_fails_V S.2.2.2.2 q931 ⟨Nat.le_of_ble_eq_true rfl, Nat.le_of_ble_eq_true rfl⟩) k_7 rfl rfl hl.1 rfl (Nat.le_of_ble_eq_true rfl) dX3_word_10 ⟨(Nat.le_of_ble_eq_true rfl), (Nat.le_of_ble_eq_true rfl)⟩ rfl (fun H locs hW => ?_)
      cases h
      exact W.toT (d_vret S hr hlk hW (Nat.le_of_ble_eq_true rfl) (Nat.le_of_ble_eq_true rfl) dX3_word_13)
    · have h9 := un2_some h
      clear h
      obtain ⟨x_11, Z_12, rfl, h⟩ := h9
      refine d_callVTt (As := [.int 1]) (rest := []) S hW (metX3_fails h_8) (cwX3_fails_V S.2.2.2.2 q931 ⟨Nat.le_of_ble_eq_true rfl, Nat.le_of_ble_eq_true rfl⟩) k_7 rfl rfl hl.1 rfl (Nat.le_of_ble_eq_true rfl) dX3_word_10 ⟨(Nat.le_of_ble_eq_true rfl), (Nat.le_of_ble_eq_true rfl)⟩ (fun H locs hW => ?_)
      cases h
      exact d_leave hlk hne hW (Nat.le_of_ble_eq_true rfl) (Nat.le_of_ble_eq_true rfl)
def cm_X3_below (gp : Nat → Nat) (Z0 : c_S) (a0 : Nat) (a1 : Nat) (a2 : Int32) : Option ((Int32 × c_S) ⊕ (Nat × c_S)) :=
  zK Z0 a0 3 11 <| bnd (cm_X3_word gp Z0 a0 a1) (cs2 (fun Z_4 => zK Z_4 a0 3 11 <| bnd (cm_X3_isSign Z_4 a0 45) (fun x_11 => if x_11 = 0 then (zK Z_4 a0 3 11 <| bnd (cm_X3_number gp Z_4 a0 0 0) (cs2 (un2 fun x_28 Z_29 => some (.inl (x_28, Z_29))) (un2 fun x_30 Z_31 => some (.inr (x_30, Z_31))))) else (zK Z_4 a0 3 11 <| bnd (cm_X3_next Z_4 a0) (fun Z_16 => zK Z_16 a0 3 11 <| bnd (cm_X3_number gp Z_16 a0 0 (-a2)) (cs2 (un2 fun x_20 Z_21 => some (.inl (-x_20, Z_21))) (un2 fun x_22 Z_23 => some (.inr (x_22, Z_23)))))))) (un2 fun x_5 Z_6 => some (.inr (x_5, Z_6))))
abbrev rmX3_below : Room := rmD 7 186 3 24
theorem cwX3_word_V {own : String} {R : Room} {s : State} {args : Array Value} {index : Nat} (hts : ∀ w ∈ lw_all, w.before args s = true) (hl : Cond.methodLink own index yX3_word ∈ lw_all) (hR : rmX3_word.frames + 1 ≤ R.frames ∧ 8 + (2 + 11) + rmX3_word.locals ≤ R.locals) : CallW R s args own RX3 index yX3_word cX3_word 2 (none) (ws_ yX3_word cX3_word 2 (none)) rmX3_word 1 8 1 := cwV 1 hts (lw_V hl q993 qs19 q111 q994) rfl rfl rfl (by decide +kernel) hR
set_option maxHeartbeats 4000000 in
theorem metX3_below {l : Launch} {gp : Nat → Nat} {D : va_G} {K : Nat → ClassId} {Z0 : c_S} {a0 : Nat} {a1 : Nat} {a2 : Int32} {Out : ((Int32 × c_S) ⊕ (Nat × c_S))} (h : cm_X3_below gp Z0 a0 a1 a2 = some Out) : MetT l yX3_below (ws_ yX3_below cX3_below 3 (some .int)) rmX3_below (z_Pc gp [.ref a0, .ref a1, .int a2] D K Z0) (z_Q (oI Out) D K (z_A Z0) (oIs Out)) 3 24 (z_A Z0) := by
  refine d_metT rfl (Nat.le_of_ble_eq_true rfl) ?_
  intro p e s m below meth c ls S hr hlk hnm hne hl hW hsz
  have S : CallFix p m c cX3_below 3 s ([.ref a0, .ref a1, .int a2] : List Value).toArray lw_all RX3 := S
  have hx := S.1
  have hb := S.2.1
  have hl : lv_has ls 3 [(0, .ref a0), (1, .ref a1), (2, .int a2)] := hl
  have hnm : meth.name = "below" := hnm
  unfold cm_X3_below at h
  refine lv_aload_n hx hb dX3_below_0 rfl (lv_at hl 0 rfl) ?_
  refine lv_aload_n hx hb dX3_below_1 rfl (lv_at hl 1 rfl) ?_
  obtain ⟨⟨_, k_1⟩, h⟩ := zK_some h
  obtain ⟨q_7, h_2, h⟩ := bnd_some h
  have h9 := cs2_some h
  clear h
  rcases h9 with ⟨_, rfl, h⟩ | ⟨_, rfl, h⟩
  · rename_i Z_4
    refine d_callVTr (As := [.ref a1]) (rest := []) S hW (metX3_word h_2) (cwX3_word_V S.2.2.2.2 q991 ⟨Nat.le_of_ble_eq_true rfl, Nat.le_of_ble_eq_true rfl⟩) k_1 rfl rfl hl.1 rfl (Nat.le_of_ble_eq_true rfl) dX3_below_2 ⟨(Nat.le_of_ble_eq_true rfl), (Nat.le_of_ble_eq_true rfl)⟩ rfl (fun H locs hW => ?_)
    refine lv_aload_n hx hb dX3_below_5 rfl (lv_at hl 0 rfl) ?_
    refine lv_bipush (v := 45) hx hb dX3_below_6 (by decide) ?_
    obtain ⟨⟨_, k_8⟩, h⟩ := zK_some h
    obtain ⟨x_11, h_9, h⟩ := bnd_some h
    refine d_callV (As := [.int 45]) (rest := []) S hW (metX3_isSign h_9) (cwX3_isSign_V S.2.2.2.2 q1006 ⟨Nat.le_of_ble_eq_true rfl, Nat.le_of_ble_eq_true rfl⟩) k_8 rfl rfl hl.1 rfl (Nat.le_of_ble_eq_true rfl) dX3_below_8 ⟨(Nat.le_of_ble_eq_true rfl), (Nat.le_of_ble_eq_true rfl)⟩ rfl (fun H locs hW => ?_)
    refine lv_if_ne (tgt := 21) hx hb dX3_below_11 (by decide) (fun c_12 => ?_) (fun c_12 => ?_)
    · have h := if_f h c_12
      refine lv_aload_n hx hb dX3_below_21 rfl (lv_at hl 0 rfl) ?_
      obtain ⟨⟨_, k_13⟩, h⟩ := zK_some h
      obtain ⟨Z_16, h_14, h⟩ := bnd_some h
      refine d_callV (As := []) (rest := []) S hW (metX3_next h_14) (cwX3_next_V S.2.2.2.2 q867 ⟨Nat.le_of_ble_eq_true rfl, Nat.le_of_ble_eq_true rfl⟩) k_13 rfl rfl hl.1 rfl (Nat.le_of_ble_eq_true rfl) dX3_below_22 ⟨(Nat.le_of_ble_eq_true rfl), (Nat.le_of_ble_eq_true rfl)⟩ rfl (fun H locs hW => ?_)
      refine lv_aload_n hx hb dX3_below_25 rfl (lv_at hl 0 rfl) ?_
      refine lv_iconst (v := 0) hx hb dX3_below_26 (by decide) ?_
      refine lv_iload_n hx hb dX3_below_27 rfl (lv_at hl 2 rfl) ?_
      refine lv_ineg hx hb dX3_below_28 ?_
      obtain ⟨⟨_, k_17⟩, h⟩ := zK_some h
      obtain ⟨q_24, h_18, h⟩ := bnd_some h
      have h9 := cs2_some h
      clear h
      rcases h9 with ⟨_, rfl, h⟩ | ⟨_, rfl, h⟩
      · have h9 := un2_some h
        clear h
        obtain ⟨x_20, Z_21, rfl, h⟩ := h9
        refine d_callVTr (As := [.int 0, .int (-a2)]) (rest := []) S hW (metX3_number h_18) (cwX3_number_V S.2.2.2.2 q981 ⟨Nat.le_of_ble_eq_true rfl, Nat.le_of_ble_eq_true rfl⟩) k_17 rfl rfl hl.1 rfl (Nat.le_of_ble_eq_true rfl) dX3_below_29 ⟨(Nat.le_of_ble_eq_true rfl), (Nat.le_of_ble_eq_true rfl)⟩ rfl (fun H locs hW => ?_)
        refine lv_ineg hx hb dX3_below_32 ?_
        cases h
        exact W.toT (d_iret S hr hlk hW (Nat.le_of_ble_eq_true rfl) (Nat.le_of_ble_eq_true rfl) dX3_below_33)
      · have h9 := un2_some h
        clear h
        obtain ⟨x_22, Z_23, rfl, h⟩ := h9
        refine d_callVTt (As := [.int 0, .int (-a2)]) (rest := []) S hW (metX3_number h_18) (cwX3_number_V S.2.2.2.2 q981 ⟨Nat.le_of_ble_eq_true rfl, Nat.le_of_ble_eq_true rfl⟩) k_17 rfl rfl hl.1 rfl (Nat.le_of_ble_eq_true rfl) dX3_below_29 ⟨(Nat.le_of_ble_eq_true rfl), (Nat.le_of_ble_eq_true rfl)⟩ (fun H locs hW => ?_)
        cases h
        exact d_leave hlk hne hW (Nat.le_of_ble_eq_true rfl) (Nat.le_of_ble_eq_true rfl)
    · have h := if_t h c_12
      refine lv_aload_n hx hb dX3_below_14 rfl (lv_at hl 0 rfl) ?_
      refine lv_iconst (v := 0) hx hb dX3_below_15 (by decide) ?_
      refine lv_iconst (v := 0) hx hb dX3_below_16 (by decide) ?_
      obtain ⟨⟨_, k_25⟩, h⟩ := zK_some h
      obtain ⟨q_32, h_26, h⟩ := bnd_some h
      have h9 := cs2_some h
      clear h
      rcases h9 with ⟨_, rfl, h⟩ | ⟨_, rfl, h⟩
      · have h9 := un2_some h
        clear h
        obtain ⟨x_28, Z_29, rfl, h⟩ := h9
        refine d_callVTr (As := [.int 0, .int 0]) (rest := []) S hW (metX3_number h_26) (cwX3_number_V S.2.2.2.2 q981 ⟨Nat.le_of_ble_eq_true rfl, Nat.le_of_ble_eq_true rfl⟩) k_25 rfl rfl hl.1 rfl (Nat.le_of_ble_eq_true rfl) dX3_below_17 ⟨(Nat.le_of_ble_eq_true rfl), (Nat.le_of_ble_eq_true rfl)⟩ rfl (fun H locs hW => ?_)
        cases h
        exact W.toT (d_iret S hr hlk hW (Nat.le_of_ble_eq_true rfl) (Nat.le_of_ble_eq_true rfl) dX3_below_20)
      · have h9 := un2_some h
        clear h
        obtain ⟨x_30, Z_31, rfl, h⟩ := h9
        refine d_callVTt (As := [.int 0, .int 0]) (rest := []) S hW (metX3_number h_26) (cwX3_number_V S.2.2.2.2 q981 ⟨Nat.le_of_ble_eq_true rfl, Nat.le_of_ble_eq_true rfl⟩) k_25 rfl rfl hl.1 rfl (Nat.le_of_ble_eq_true rfl) dX3_below_17 ⟨(Nat.le_of_ble_eq_true rfl), (Nat.le_of_ble_eq_true rfl)⟩ (fun H locs hW => ?_)
        cases h
        exact d_leave hlk hne hW (Nat.le_of_ble_eq_true rfl) (Nat.le_of_ble_eq_true rfl)
  · have h9 := un2_some h
    clear h
    obtain ⟨x_5, Z_6, rfl, h⟩ := h9
    refine d_callVTt (As := [.ref a1]) (rest := []) S hW (metX3_word h_2) (cwX3_word_V S.2.2.2.2 q991 ⟨Nat.le_of_ble_eq_true rfl, Nat.le_of_ble_eq_true rfl⟩) k_1 rfl rfl hl.1 rfl (Nat.le_of_ble_eq_true rfl) dX3_below_2 ⟨(Nat.le_of_ble_eq_true rfl), (Nat.le_of_ble_eq_true rfl)⟩ (fun H locs hW => ?_)
    cases h
    exact d_leave hlk hne hW (Nat.le_of_ble_eq_true rfl) (Nat.le_of_ble_eq_true rfl)
def cm_J2_grow (gp : Nat → Nat) (Z0 : c_S) (a0 : Nat) : Option ((Option Nat) × c_S) :=
  cI Z0.Sh Z0.V a0 14 3 2 fun x_1 => zK Z0 a0 14 3 <| bnd (cm_J2_grow_2 gp Z0 a0 (x_1 + 1)) (un2 fun o_5 Z_6 => some (o_5, Z_6))
abbrev rmJ2_grow : Room := rmD 4 127 1 19
theorem cwJ2_grow_2_V {own : String} {R : Room} {s : State} {args : Array Value} {index : Nat} (hts : ∀ w ∈ lw_all, w.before args s = true) (hl : Cond.methodLink own index yJ2_grow_2 ∈ lw_all) (hR : rmJ2_grow_2.frames + 1 ≤ R.frames ∧ 8 + (4 + 11) + rmJ2_grow_2.locals ≤ R.locals) : CallW R s args own RJ2 index yJ2_grow_2 cJ2_grow_2 4 (some (.array (.object "java/lang/Object"))) (ws_ yJ2_grow_2 cJ2_grow_2 4 (some (.array (.object "java/lang/Object")))) rmJ2_grow_2 1 19 1 := cwV 1 hts (lw_V hl q587 qs7 q110 q588) rfl rfl rfl (by decide +kernel) hR
set_option maxHeartbeats 4000000 in
theorem metJ2_grow {l : Launch} {gp : Nat → Nat} {D : va_G} {K : Nat → ClassId} {Z0 : c_S} {a0 : Nat} {r : Option Nat} {Z' : c_S} (h : cm_J2_grow gp Z0 a0 = some (r, Z')) : Met l yJ2_grow (ws_ yJ2_grow cJ2_grow 1 (some (.array (.object "java/lang/Object")))) rmJ2_grow (z_Pc gp [.ref a0] D K Z0) (z_Q (.returned (some (va_rf r))) D K (z_A Z0) Z') 1 19 (z_A Z0) := by
  refine d_met rfl (Nat.le_of_ble_eq_true rfl) ?_
  intro p e s m below meth c ls S hr hlk hnm hl hW hsz
  have S : CallFix p m c cJ2_grow 1 s ([.ref a0] : List Value).toArray lw_all RJ2 := S
  have hx := S.1
  have hb := S.2.1
  have hl : lv_has ls 1 [(0, .ref a0)] := hl
  have hnm : meth.name = "grow" := hnm
  unfold cm_J2_grow at h
  refine lv_aload_n hx hb dJ2_grow_0 rfl (lv_at hl 0 rfl) ?_
  refine lv_aload_n hx hb dJ2_grow_1 rfl (lv_at hl 0 rfl) ?_
  refine zw_getI S hW zC_J2 (i := 2) (by decide) (Or.inl q377) (fun _ h => h) dJ2_grow_2 h (fun x_1 h => ?_)
  refine lv_iconst (v := 1) hx hb dJ2_grow_5 (by decide) ?_
  refine lv_iadd hx hb dJ2_grow_6 ?_
  obtain ⟨⟨_, k_2⟩, h⟩ := zK_some h
  obtain ⟨o_5, Z_6, h_3, h⟩ := bnd2_some h
  refine d_callV (As := [.int (x_1 + 1)]) (rest := []) S hW (metJ2_grow_2 h_3) (cwJ2_grow_2_V S.2.2.2.2 q585 ⟨Nat.le_of_ble_eq_true rfl, Nat.le_of_ble_eq_true rfl⟩) k_2 rfl rfl hl.1 rfl (Nat.le_of_ble_eq_true rfl) dJ2_grow_7 ⟨(Nat.le_of_ble_eq_true rfl), (Nat.le_of_ble_eq_true rfl)⟩ rfl (fun H locs hW => ?_)
  cases h
  exact d_aret S hr (Or.inr ⟨_, rfl⟩) hlk hW (Nat.le_of_ble_eq_true rfl) (Nat.le_of_ble_eq_true rfl) dJ2_grow_10
def cm_X0_cell (Z0 : c_S) (a0 : Nat) (a1 : Int32) (a2 : Int32) (a3 : Int32) : Option (Int32) :=
  bnd (cm_X0_isCell a1 a2) (fun x_3 => if x_3 = 0 then (some (-2000000000)) else (nmI ((12 * a2) + a1) fun x_5 => if a3 = 0 then (cA Z0.Sh a0 0 11 1 fun a_8 => cA Z0.Sh a_8 1 20 0 fun a_9 => cA Z0.Sh a_9 2 13 1 fun a_10 => caI Z0.Sh Z0.V 0 a_10 x_5 fun x_11 => some x_11) else (if a3 = 1 then (cA Z0.Sh a0 0 11 1 fun a_13 => cA Z0.Sh a_13 1 20 1 fun a_14 => caI Z0.Sh Z0.V 0 a_14 x_5 fun x_15 => some x_15) else (if a3 = 2 then (cA Z0.Sh a0 0 11 1 fun a_17 => cA Z0.Sh a_17 1 20 2 fun a_18 => caI Z0.Sh Z0.V 0 a_18 x_5 fun x_19 => some x_19) else (if a3 = 3 then (cA Z0.Sh a0 0 11 1 fun a_21 => cA Z0.Sh a_21 1 20 4 fun a_22 => caI Z0.Sh Z0.V 2 a_22 x_5 fun x_23 => if x_23 = 0 then (cA Z0.Sh a0 0 11 1 fun a_25 => zK Z0 a_25 1 20 <| bnd (cm_X1_isFrozen Z0 a_25 x_5) (fun x_29 => if x_29 = 0 then (some 0) else (some 1))) else (some 2)) else (if a3 = 4 then (zK Z0 a0 0 11 <| bnd (cm_X0_pipeAt Z0 a0 x_5) (fun x_35 => some x_35)) else (if a3 = 5 then (cA Z0.Sh a0 0 11 1 fun a_37 => cA Z0.Sh a_37 1 20 0 fun a_38 => zK Z0 a_38 2 13 <| bnd (cm_X2_isShaft Z0 a_38 x_5) (fun x_42 => if x_42 = 0 then (some 0) else (some 1))) else (some (-2000000000)))))))))
abbrev rmX0_cell : Room := rmD 4 86 0 0
set_option maxHeartbeats 4000000 in
theorem metX0_cell {l : Launch} {gp : Nat → Nat} {D : va_G} {K : Nat → ClassId} {Z0 : c_S} {a0 : Nat} {a1 : Int32} {a2 : Int32} {a3 : Int32} {r : Int32} (h : cm_X0_cell Z0 a0 a1 a2 a3 = some r) : Met l yX0_cell (ws_ yX0_cell cX0_cell 5 (some .int)) rmX0_cell (z_Pc gp [.ref a0, .int a1, .int a2, .int a3] D K Z0) (z_Q (.returned (some (.int r))) D K (z_A Z0) Z0) 0 0 (z_A Z0) := by
  refine d_met rfl (Nat.le_of_ble_eq_true rfl) ?_
  intro p e s m below meth c ls S hr hlk hnm hl hW hsz
  have S : CallFix p m c cX0_cell 5 s ([.ref a0, .int a1, .int a2, .int a3] : List Value).toArray lw_all RX0 := S
  have hx := S.1
  have hb := S.2.1
  have hl : lv_has ls 5 [(0, .ref a0), (1, .int a1), (2, .int a2), (3, .int a3)] := hl
  have hnm : meth.name = "cell" := hnm
  unfold cm_X0_cell at h
  refine lv_iload_n hx hb dX0_cell_0 rfl (lv_at hl 1 rfl) ?_
  refine lv_iload_n hx hb dX0_cell_1 rfl (lv_at hl 2 rfl) ?_
  obtain ⟨x_3, h_1, h⟩ := bnd_some h
  refine d_callS (As := [.int a1, .int a2]) (rest := []) S hW (metX0_isCell h_1) (cwX0_isCell_S S.2.2.2.2 q1181 ⟨Nat.le_of_ble_eq_true rfl, Nat.le_of_ble_eq_true rfl⟩) rfl hl.1 rfl (Nat.le_of_ble_eq_true rfl) dX0_cell_2 ⟨(Nat.le_of_ble_eq_true rfl), (Nat.le_of_ble_eq_true rfl)⟩ rfl (fun H locs hW => ?_)
  refine lv_if_ne (tgt := 11) hx hb dX0_cell_5 (by decide) (fun c_4 => ?_) (fun c_4 => ?_)
  · have h := if_f h c_4
    refine lv_bipush (v := 12) hx hb dX0_cell_11 (by decide) ?_
    refine lv_iload_n hx hb dX0_cell_13 rfl (lv_at hl 2 rfl) ?_
    refine lv_imul hx hb dX0_cell_14 ?_
    refine lv_iload_n hx hb dX0_cell_15 rfl (lv_at hl 1 rfl) ?_
    refine lv_iadd hx hb dX0_cell_16 ?_
    obtain ⟨x_5, e_6, h⟩ := nmI_some h
    refine g_nmi e_6 ?_
    refine lv_istore (lv' := [(4, .int x_5), (0, .ref a0), (1, .int a1), (2, .int a2), (3, .int a3)]) hx hb dX0_cell_17 hl (by decide) rfl (fun ls hl => ?_)
    refine lv_iload_n hx hb dX0_cell_19 rfl (lv_at hl 4 rfl) ?_
    by_cases c_7 : a3 = 0
    · have h := if_t h c_7
      refine lv_tableIn (off := 40) (tgt := 60) hx hb dX0_cell_20 (by rw [c_7]; decide) (by rw [c_7]; decide) (by rw [c_7]; decide) (by decide) ?_
      refine lv_aload_n hx hb dX0_cell_60 rfl (lv_at hl 1 rfl) ?_
      refine zw_getA S hW zC_X0 (i := 1) (by decide) (Or.inl q756) (fun _ h => h) dX0_cell_61 h (fun a_8 h => ?_)
      refine zw_getA S hW zC_X1 (i := 0) (by decide) (Or.inr ⟨_, nestW_in q667 rfl⟩) (fun _ h => h) dX0_cell_64 h (fun a_9 h => ?_)
      refine zw_getA S hW zC_X2 (i := 1) (by decide) (Or.inr ⟨_, nestW_in q393 rfl⟩) (fun _ h => h) dX0_cell_67 h (fun a_10 h => ?_)
      refine lv_iload hx hb dX0_cell_70 (lv_at hl 0 rfl) ?_
      refine zw_iald S hW dX0_cell_72 h (fun x_11 h => ?_)
      cases h
      exact d_iret S hr hlk hW (Nat.le_of_ble_eq_true rfl) (Nat.le_of_ble_eq_true rfl) dX0_cell_73
    have h := if_f h c_7
    by_cases c_12 : a3 = 1
    · have h := if_t h c_12
      refine lv_tableIn (off := 54) (tgt := 74) hx hb dX0_cell_20 (by rw [c_12]; decide) (by rw [c_12]; decide) (by rw [c_12]; decide) (by decide) ?_
      refine lv_aload_n hx hb dX0_cell_74 rfl (lv_at hl 1 rfl) ?_
      refine zw_getA S hW zC_X0 (i := 1) (by decide) (Or.inl q756) (fun _ h => h) dX0_cell_75 h (fun a_13 h => ?_)
      refine zw_getA S hW zC_X1 (i := 1) (by decide) (Or.inr ⟨_, nestW_in q669 rfl⟩) (fun _ h => h) dX0_cell_78 h (fun a_14 h => ?_)
      refine lv_iload hx hb dX0_cell_81 (lv_at hl 0 rfl) ?_
      refine zw_iald S hW dX0_cell_83 h (fun x_15 h => ?_)
      cases h
      exact d_iret S hr hlk hW (Nat.le_of_ble_eq_true rfl) (Nat.le_of_ble_eq_true rfl) dX0_cell_84
    have h := if_f h c_12
    by_cases c_16 : a3 = 2
    · have h := if_t h c_16
      refine lv_tableIn (off := 65) (tgt := 85) hx hb dX0_cell_20 (by rw [c_16]; decide) (by rw [c_16]; decide) (by rw [c_16]; decide) (by decide) ?_
      refine lv_aload_n hx hb dX0_cell_85 rfl (lv_at hl 1 rfl) ?_
      refine zw_getA S hW zC_X0 (i := 1) (by decide) (Or.inl q756) (fun _ h => h) dX0_cell_86 h (fun a_17 h => ?_)
      refine zw_getA S hW zC_X1 (i := 2) (by decide) (Or.inr ⟨_, nestW_in q671 rfl⟩) (fun _ h => h) dX0_cell_89 h (fun a_18 h => ?_)
      refine lv_iload hx hb dX0_cell_92 (lv_at hl 0 rfl) ?_
      refine zw_iald S hW dX0_cell_94 h (fun x_19 h => ?_)
      cases h
      exact d_iret S hr hlk hW (Nat.le_of_ble_eq_true rfl) (Nat.le_of_ble_eq_true rfl) dX0_cell_95
    have h := if_f h c_16
    by_cases c_20 : a3 = 3
    · have h := if_t h c_20
      refine lv_tableIn (off := 76) (tgt := 96) hx hb dX0_cell_20 (by rw [c_20]; decide) (by rw [c_20]; decide) (by rw [c_20]; decide) (by decide) ?_
      refine lv_aload_n hx hb dX0_cell_96 rfl (lv_at hl 1 rfl) ?_
      refine zw_getA S hW zC_X0 (i := 1) (by decide) (Or.inl q756) (fun _ h => h) dX0_cell_97 h (fun a_21 h => ?_)
      refine zw_getA S hW zC_X1 (i := 4) (by decide) (Or.inr ⟨_, nestW_in q674 rfl⟩) (fun _ h => h) dX0_cell_100 h (fun a_22 h => ?_)
      refine lv_iload hx hb dX0_cell_103 (lv_at hl 0 rfl) ?_
      refine zw_zald S hW dX0_cell_105 h (fun x_23 h => ?_)
      refine lv_if_eq (tgt := 113) hx hb dX0_cell_106 (by decide) (fun c_24 => ?_) (fun c_24 => ?_)
      · have h := if_t h c_24
        refine lv_aload_n hx hb dX0_cell_113 rfl (lv_at hl 1 rfl) ?_
        refine zw_getA S hW zC_X0 (i := 1) (by decide) (Or.inl q756) (fun _ h => h) dX0_cell_114 h (fun a_25 h => ?_)
        refine lv_iload hx hb dX0_cell_117 (lv_at hl 0 rfl) ?_
        obtain ⟨⟨_, k_26⟩, h⟩ := zK_some h
        obtain ⟨x_29, h_27, h⟩ := bnd_some h
        refine d_callV (As := [.int x_5]) (rest := []) S hW (metX1_isFrozen h_27) (cwX1_isFrozen_V S.2.2.2.2 q1186 ⟨Nat.le_of_ble_eq_true rfl, Nat.le_of_ble_eq_true rfl⟩) k_26 rfl rfl hl.1 rfl (Nat.le_of_ble_eq_true rfl) dX0_cell_119 ⟨(Nat.le_of_ble_eq_true rfl), (Nat.le_of_ble_eq_true rfl)⟩ rfl (fun H locs hW => ?_)
        refine lv_if_eq (tgt := 129) hx hb dX0_cell_122 (by decide) (fun c_30 => ?_) (fun c_30 => ?_)
        · have h := if_t h c_30
          refine lv_iconst (v := 0) hx hb dX0_cell_129 (by decide) ?_
          cases h
          exact d_iret S hr hlk hW (Nat.le_of_ble_eq_true rfl) (Nat.le_of_ble_eq_true rfl) dX0_cell_130
        · have h := if_f h c_30
          refine lv_iconst (v := 1) hx hb dX0_cell_125 (by decide) ?_
          refine lv_goto (tgt := 130) hx hb dX0_cell_126 (by decide) ?_
          cases h
          exact d_iret S hr hlk hW (Nat.le_of_ble_eq_true rfl) (Nat.le_of_ble_eq_true rfl) dX0_cell_130
      · have h := if_f h c_24
        refine lv_iconst (v := 2) hx hb dX0_cell_109 (by decide) ?_
        refine lv_goto (tgt := 130) hx hb dX0_cell_110 (by decide) ?_
        cases h
        exact d_iret S hr hlk hW (Nat.le_of_ble_eq_true rfl) (Nat.le_of_ble_eq_true rfl) dX0_cell_130
    have h := if_f h c_20
    by_cases c_31 : a3 = 4
    · have h := if_t h c_31
      refine lv_tableIn (off := 111) (tgt := 131) hx hb dX0_cell_20 (by rw [c_31]; decide) (by rw [c_31]; decide) (by rw [c_31]; decide) (by decide) ?_
      refine lv_aload_n hx hb dX0_cell_131 rfl (lv_at hl 1 rfl) ?_
      refine lv_iload hx hb dX0_cell_132 (lv_at hl 0 rfl) ?_
      obtain ⟨⟨_, k_32⟩, h⟩ := zK_some h
      obtain ⟨x_35, h_33, h⟩ := bnd_some h
      refine d_callV (As := [.int x_5]) (rest := []) S hW (metX0_pipeAt h_33) (cwX0_pipeAt_V S.2.2.2.2 q1187 ⟨Nat.le_of_ble_eq_true rfl, Nat.le_of_ble_eq_true rfl⟩) k_32 rfl rfl hl.1 rfl (Nat.le_of_ble_eq_true rfl) dX0_cell_134 ⟨(Nat.le_of_ble_eq_true rfl), (Nat.le_of_ble_eq_true rfl)⟩ rfl (fun H locs hW => ?_)
      cases h
      exact d_iret S hr hlk hW (Nat.le_of_ble_eq_true rfl) (Nat.le_of_ble_eq_true rfl) dX0_cell_137
    have h := if_f h c_31
    by_cases c_36 : a3 = 5
    · have h := if_t h c_36
      refine lv_tableIn (off := 118) (tgt := 138) hx hb dX0_cell_20 (by rw [c_36]; decide) (by rw [c_36]; decide) (by rw [c_36]; decide) (by decide) ?_
      refine lv_aload_n hx hb dX0_cell_138 rfl (lv_at hl 1 rfl) ?_
      refine zw_getA S hW zC_X0 (i := 1) (by decide) (Or.inl q756) (fun _ h => h) dX0_cell_139 h (fun a_37 h => ?_)
      refine zw_getA S hW zC_X1 (i := 0) (by decide) (Or.inr ⟨_, nestW_in q667 rfl⟩) (fun _ h => h) dX0_cell_142 h (fun a_38 h => ?_)
      refine lv_iload hx hb dX0_cell_145 (lv_at hl 0 rfl) ?_
      obtain ⟨⟨_, k_39⟩, h⟩ := zK_some h
      obtain ⟨x_42, h_40, h⟩ := bnd_some h
      refine d_callV (As := [.int x_5]) (rest := []) S hW (metX2_isShaft h_40) (cwX2_isShaft_V S.2.2.2.2 q1196 ⟨Nat.le_of_ble_eq_true rfl, Nat.le_of_ble_eq_true rfl⟩) k_39 rfl rfl hl.1 rfl (Nat.le_of_ble_eq_true rfl) dX0_cell_147 ⟨(Nat.le_of_ble_eq_true rfl), (Nat.le_of_ble_eq_true rfl)⟩ rfl (fun H locs hW => ?_)
      refine lv_if_eq (tgt := 157) hx hb dX0_cell_150 (by decide) (fun c_43 => ?_) (fun c_43 => ?_)
      · have h := if_t h c_43
        refine lv_iconst (v := 0) hx hb dX0_cell_157 (by decide) ?_
        cases h
        exact d_iret S hr hlk hW (Nat.le_of_ble_eq_true rfl) (Nat.le_of_ble_eq_true rfl) dX0_cell_158
      · have h := if_f h c_43
        refine lv_iconst (v := 1) hx hb dX0_cell_153 (by decide) ?_
        refine lv_goto (tgt := 158) hx hb dX0_cell_154 (by decide) ?_
        cases h
        exact d_iret S hr hlk hW (Nat.le_of_ble_eq_true rfl) (Nat.le_of_ble_eq_true rfl) dX0_cell_158
    have h := if_f h c_36
    have c_7 := lv_neT (a := 0) c_7 (by decide)
    have c_12 := lv_neT (a := 1) c_12 (by decide)
    have c_16 := lv_neT (a := 2) c_16 (by decide)
    have c_20 := lv_neT (a := 3) c_20 (by decide)
    have c_31 := lv_neT (a := 4) c_31 (by decide)
    have c_36 := lv_neT (a := 5) c_36 (by decide)
    refine lv_tableOut (tgt := 159) hx hb dX0_cell_20 (by omega) (by decide) ?_
    refine lv_ldc (v := (-2000000000)) hx hb S.2.2.2.1 (S.2.2.2.2 _ q1185) dX0_cell_159 ?_
    cases h
    exact d_iret S hr hlk hW (Nat.le_of_ble_eq_true rfl) (Nat.le_of_ble_eq_true rfl) dX0_cell_161
  · have h := if_t h c_4
    refine lv_ldc (v := (-2000000000)) hx hb S.2.2.2.1 (S.2.2.2.2 _ q1185) dX0_cell_8 ?_
    cases h
    exact d_iret S hr hlk hW (Nat.le_of_ble_eq_true rfl) (Nat.le_of_ble_eq_true rfl) dX0_cell_10
def cm_X0_way (Z0 : c_S) (a0 : Nat) : Option (Int32 × c_S) :=
  zK Z0 a0 0 11 <| bnd (cm_X0_hasShaft Z0 a0) (fun x_4 => if x_4 = 0 then (some ((-6), Z0)) else (cA Z0.Sh a0 0 11 1 fun a_6 => zK Z0 a_6 1 20 <| bnd (cm_X1_way Z0 a_6) (un2 fun x_10 Z_11 => some (x_10, Z_11))))
abbrev rmX0_way : Room := rmD 4 94 0 0
theorem cwX0_hasShaft_V {own : String} {R : Room} {s : State} {args : Array Value} {index : Nat} (hts : ∀ w ∈ lw_all, w.before args s = true) (hl : Cond.methodLink own index yX0_hasShaft ∈ lw_all) (hR : rmX0_hasShaft.frames + 1 ≤ R.frames ∧ 8 + (1 + 11) + rmX0_hasShaft.locals ≤ R.locals) : CallW R s args own RX0 index yX0_hasShaft cX0_hasShaft 1 (some .boolean) (ws_ yX0_hasShaft cX0_hasShaft 1 (some .boolean)) rmX0_hasShaft 0 0 0 := cwV 0 hts (lw_V hl q1228 qs39 q105 q1229) rfl rfl rfl (by decide +kernel) hR
theorem cwX1_way_V {own : String} {R : Room} {s : State} {args : Array Value} {index : Nat} (hts : ∀ w ∈ lw_all, w.before args s = true) (hl : Cond.methodLink own index yX1_way ∈ lw_all) (hR : rmX1_way.frames + 1 ≤ R.frames ∧ 8 + (6 + 11) + rmX1_way.locals ≤ R.locals) : CallW R s args own RX1 index yX1_way cX1_way 6 (some .int) (ws_ yX1_way cX1_way 6 (some .int)) rmX1_way 0 0 0 := cwV 0 hts (lw_V hl q1161 q1162 q106 q1163) rfl rfl rfl (by decide +kernel) hR
set_option maxHeartbeats 4000000 in
theorem metX0_way {l : Launch} {gp : Nat → Nat} {D : va_G} {K : Nat → ClassId} {Z0 : c_S} {a0 : Nat} {r : Int32} {Z' : c_S} (h : cm_X0_way Z0 a0 = some (r, Z')) : Met l yX0_way (ws_ yX0_way cX0_way 1 (some .int)) rmX0_way (z_Pc gp [.ref a0] D K Z0) (z_Q (.returned (some (.int r))) D K (z_A Z0) Z') 0 0 (z_A Z0) := by
  refine d_met rfl (Nat.le_of_ble_eq_true rfl) ?_
  intro p e s m below meth c ls S hr hlk hnm hl hW hsz
  have S : CallFix p m c cX0_way 1 s ([.ref a0] : List Value).toArray lw_all RX0 := S
  have hx := S.1
  have hb := S.2.1
  have hl : lv_has ls 1 [(0, .ref a0)] := hl
  have hnm : meth.name = "way" := hnm
  unfold cm_X0_way at h
  refine lv_aload_n hx hb dX0_way_0 rfl (lv_at hl 0 rfl) ?_
  obtain ⟨⟨_, k_1⟩, h⟩ := zK_some h
  obtain ⟨x_4, h_2, h⟩ := bnd_some h
  refine d_callV (As := []) (rest := []) S hW (metX0_hasShaft h_2) (cwX0_hasShaft_V S.2.2.2.2 q1226 ⟨Nat.le_of_ble_eq_true rfl, Nat.le_of_ble_eq_true rfl⟩) k_1 rfl rfl hl.1 rfl (Nat.le_of_ble_eq_true rfl) dX0_way_1 ⟨(Nat.le_of_ble_eq_true rfl), (Nat.le_of_ble_eq_true rfl)⟩ rfl (fun H locs hW => ?_)
  refine lv_if_eq (tgt := 17) hx hb dX0_way_4 (by decide) (fun c_5 => ?_) (fun c_5 => ?_)
  · have h := if_t h c_5
    refine lv_bipush (v := (-6)) hx hb dX0_way_17 (by decide) ?_
    cases h
    exact d_iret S hr hlk hW (Nat.le_of_ble_eq_true rfl) (Nat.le_of_ble_eq_true rfl) dX0_way_19
  · have h := if_f h c_5
    refine lv_aload_n hx hb dX0_way_7 rfl (lv_at hl 0 rfl) ?_
    refine zw_getA S hW zC_X0 (i := 1) (by decide) (Or.inl q756) (fun _ h => h) dX0_way_8 h (fun a_6 h => ?_)
    obtain ⟨⟨_, k_7⟩, h⟩ := zK_some h
    obtain ⟨x_10, Z_11, h_8, h⟩ := bnd2_some h
    refine d_callV (As := []) (rest := []) S hW (metX1_way h_8) (cwX1_way_V S.2.2.2.2 q1236 ⟨Nat.le_of_ble_eq_true rfl, Nat.le_of_ble_eq_true rfl⟩) k_7 rfl rfl hl.1 rfl (Nat.le_of_ble_eq_true rfl) dX0_way_11 ⟨(Nat.le_of_ble_eq_true rfl), (Nat.le_of_ble_eq_true rfl)⟩ rfl (fun H locs hW => ?_)
    refine lv_goto (tgt := 19) hx hb dX0_way_14 (by decide) ?_
    cases h
    exact d_iret S hr hlk hW (Nat.le_of_ble_eq_true rfl) (Nat.le_of_ble_eq_true rfl) dX0_way_19
def cm_X0_thick (Z0 : c_S) (a0 : Nat) : Option (Int32 × c_S) :=
  zK Z0 a0 0 11 <| bnd (cm_X0_hasShaft Z0 a0) (fun x_4 => if x_4 = 0 then (some ((-6), Z0)) else (cA Z0.Sh a0 0 11 1 fun a_6 => zK Z0 a_6 1 20 <| bnd (cm_X1_thick Z0 a_6) (un2 fun x_10 Z_11 => some (x_10, Z_11))))
abbrev rmX0_thick : Room := rmD 4 93 0 0
theorem cwX1_thick_V {own : String} {R : Room} {s : State} {args : Array Value} {index : Nat} (hts : ∀ w ∈ lw_all, w.before args s = true) (hl : Cond.methodLink own index yX1_thick ∈ lw_all) (hR : rmX1_thick.frames + 1 ≤ R.frames ∧ 8 + (5 + 11) + rmX1_thick.locals ≤ R.locals) : CallW R s args own RX1 index yX1_thick cX1_thick 5 (some .int) (ws_ yX1_thick cX1_thick 5 (some .int)) rmX1_thick 0 0 0 := cwV 0 hts (lw_V hl q1323 q1324 q106 q1325) rfl rfl rfl (by decide +kernel) hR
set_option maxHeartbeats 4000000 in
theorem metX0_thick {l : Launch} {gp : Nat → Nat} {D : va_G} {K : Nat → ClassId} {Z0 : c_S} {a0 : Nat} {r : Int32} {Z' : c_S} (h : cm_X0_thick Z0 a0 = some (r, Z')) : Met l yX0_thick (ws_ yX0_thick cX0_thick 1 (some .int)) rmX0_thick (z_Pc gp [.ref a0] D K Z0) (z_Q (.returned (some (.int r))) D K (z_A Z0) Z') 0 0 (z_A Z0) := by
  refine d_met rfl (Nat.le_of_ble_eq_true rfl) ?_
  intro p e s m below meth c ls S hr hlk hnm hl hW hsz
  have S : CallFix p m c cX0_thick 1 s ([.ref a0] : List Value).toArray lw_all RX0 := S
  have hx := S.1
  have hb := S.2.1
  have hl : lv_has ls 1 [(0, .ref a0)] := hl
  have hnm : meth.name = "thick" := hnm
  unfold cm_X0_thick at h
  refine lv_aload_n hx hb dX0_thick_0 rfl (lv_at hl 0 rfl) ?_
  obtain ⟨⟨_, k_1⟩, h⟩ := zK_some h
  obtain ⟨x_4, h_2, h⟩ := bnd_some h
  refine d_callV (As := []) (rest := []) S hW (metX0_hasShaft h_2) (cwX0_hasShaft_V S.2.2.2.2 q1226 ⟨Nat.le_of_ble_eq_true rfl, Nat.le_of_ble_eq_true rfl⟩) k_1 rfl rfl hl.1 rfl (Nat.le_of_ble_eq_true rfl) dX0_thick_1 ⟨(Nat.le_of_ble_eq_true rfl), (Nat.le_of_ble_eq_true rfl)⟩ rfl (fun H locs hW => ?_)
  refine lv_if_eq (tgt := 17) hx hb dX0_thick_4 (by decide) (fun c_5 => ?_) (fun c_5 => ?_)
  · have h := if_t h c_5
    refine lv_bipush (v := (-6)) hx hb dX0_thick_17 (by decide) ?_
    cases h
    exact d_iret S hr hlk hW (Nat.le_of_ble_eq_true rfl) (Nat.le_of_ble_eq_true rfl) dX0_thick_19
  · have h := if_f h c_5
    refine lv_aload_n hx hb dX0_thick_7 rfl (lv_at hl 0 rfl) ?_
    refine zw_getA S hW zC_X0 (i := 1) (by decide) (Or.inl q756) (fun _ h => h) dX0_thick_8 h (fun a_6 h => ?_)
    obtain ⟨⟨_, k_7⟩, h⟩ := zK_some h
    obtain ⟨x_10, Z_11, h_8, h⟩ := bnd2_some h
    refine d_callV (As := []) (rest := []) S hW (metX1_thick h_8) (cwX1_thick_V S.2.2.2.2 q1322 ⟨Nat.le_of_ble_eq_true rfl, Nat.le_of_ble_eq_true rfl⟩) k_7 rfl rfl hl.1 rfl (Nat.le_of_ble_eq_true rfl) dX0_thick_11 ⟨(Nat.le_of_ble_eq_true rfl), (Nat.le_of_ble_eq_true rfl)⟩ rfl (fun H locs hW => ?_)
    refine lv_goto (tgt := 19) hx hb dX0_thick_14 (by decide) ?_
    cases h
    exact d_iret S hr hlk hW (Nat.le_of_ble_eq_true rfl) (Nat.le_of_ble_eq_true rfl) dX0_thick_19
def cm_X1_leads_B2 (x0 : Nat) (x1 : Int32) (rec : Int32 → c_S → Option (c_S)) (x2 : Int32) (Z : c_S) : Option (c_S) :=
  if 4 ≤ x2 then (some Z) else (bnd (cm_X0_beside x1 x2) (fun x_4 => if x_4 = (-1) then (cA Z.Sh x0 1 20 0 fun a_30 => cI Z.Sh Z.V a_30 2 13 6 fun x_31 => cA Z.Sh x0 1 20 1 fun a_32 => caI Z.Sh Z.V 0 a_32 x1 fun x_33 => zK Z x0 1 20 <| bnd (cm_X1_leadOf Z x0 x1) (fun x_37 => nmI (((x_31 - x_33) * x_37) / 100) fun x_38 => cA Z.Sh x0 1 20 3 fun a_40 => caI Z.Sh Z.V 0 a_40 x1 fun x_41 => zsI Z 0 a_40 x1 (x_41 + x_38) fun Z_42 => cI Z_42.Sh Z_42.V x0 1 20 12 fun x_43 => zPI Z_42 x0 1 20 12 (x_43 + x_38) fun Z_44 => nmI (x2 + 1) fun x_45 => rec x_45 Z_44)) else (cA Z.Sh x0 1 20 4 fun a_6 => caI Z.Sh Z.V 2 a_6 x_4 fun x_7 => if x_7 = 0 then (cA Z.Sh x0 1 20 3 fun a_11 => caI Z.Sh Z.V 0 a_11 x1 fun x_12 => cA Z.Sh x0 1 20 1 fun a_13 => caI Z.Sh Z.V 0 a_13 x_4 fun x_14 => cA Z.Sh x0 1 20 1 fun a_15 => caI Z.Sh Z.V 0 a_15 x1 fun x_16 => zK Z x0 1 20 <| bnd (cm_X1_leadOf Z x0 x1) (fun x_20 => zK Z x0 1 20 <| bnd (cm_X1_leadOf Z x0 x_4) (fun x_24 => nmI (if x_24 < x_20 then x_24 else x_20) fun x_25 => zsI Z 0 a_11 x1 (x_12 + (((x_14 - x_16) * x_25) / 100)) fun Z_27 => nmI (x2 + 1) fun x_28 => rec x_28 Z_27))) else (nmI (x2 + 1) fun x_9 => rec x_9 Z))))
abbrev cm_X1_leads_F2 (x0 : Nat) (x1 : Int32) : (((Int32) × (c_S)) → Option (c_S)) → ((Int32) × (c_S)) → Option (c_S) := fun rec s => cm_X1_leads_B2 x0 x1 (fun x2 Z => rec (x2, Z)) s.1 s.2
def cm_X1_leads_L2 (x0 : Nat) (x1 : Int32) (n : Nat) (x2 : Int32) (Z : c_S) : Option (c_S) := lp (cm_X1_leads_F2 x0 x1) n (x2, Z)
theorem cm_X1_leads_L2_s (x0 : Nat) (x1 : Int32) (n : Nat) (x2 : Int32) (Z : c_S) : cm_X1_leads_L2 x0 x1 (n + 1) x2 Z = cm_X1_leads_B2 x0 x1 (fun x2 Z => cm_X1_leads_L2 x0 x1 n x2 Z) x2 Z := lp_s (cm_X1_leads_F2 x0 x1) n (x2, Z)
def cm_X1_leads (Z0 : c_S) (a0 : Nat) (a1 : Int32) : Option (c_S) :=
  bnd (cm_X1_leads_L2 a0 a1 1000 0 Z0) (fun Z_49 => some Z_49)
abbrev rmX1_leads : Room := rmD 3 63 0 0
theorem cwX1_leadOf_V {own : String} {R : Room} {s : State} {args : Array Value} {index : Nat} (hts : ∀ w ∈ lw_all, w.before args s = true) (hl : Cond.methodLink own index yX1_leadOf ∈ lw_all) (hR : rmX1_leadOf.frames + 1 ≤ R.frames ∧ 8 + (2 + 11) + rmX1_leadOf.locals ≤ R.locals) : CallW R s args own RX1 index yX1_leadOf cX1_leadOf 2 (some .int) (ws_ yX1_leadOf cX1_leadOf 2 (some .int)) rmX1_leadOf 0 0 1 := cwV 1 hts (lw_V hl q1117 qs30 q106 q1118) rfl rfl rfl (by decide +kernel) hR
set_option maxHeartbeats 4000000 in
theorem metX1_leads {l : Launch} {gp : Nat → Nat} {D : va_G} {K : Nat → ClassId} {Z0 : c_S} {a0 : Nat} {a1 : Int32} {Z' : c_S} (h : cm_X1_leads Z0 a0 a1 = some Z') : Met l yX1_leads (ws_ yX1_leads cX1_leads 5 (none)) rmX1_leads (z_Pc gp [.ref a0, .int a1] D K Z0) (z_Q (.returned (none)) D K (z_A Z0) Z') 0 0 (z_A Z0) := by
  refine d_met rfl (Nat.le_of_ble_eq_true rfl) ?_
  intro p e s m below meth c ls S hr hlk hnm hl hW hsz
  have S : CallFix p m c cX1_leads 5 s ([.ref a0, .int a1] : List Value).toArray lw_all RX1 := S
  have hx := S.1
  have hb := S.2.1
  have hl : lv_has ls 5 [(0, .ref a0), (1, .int a1)] := hl
  have hnm : meth.name = "leads" := hnm
  have Lp2 : ∀ (x0 : Nat) (x1 : Int32) (n : Nat) (x2 : Int32) (Z : c_S) (out : (c_S)) (H : Heap) (locs : List Loc) (ls : Array Slot), cm_X1_leads_L2 x0 x1 n x2 Z = some out → z_W gp D K (z_A Z0) s Z H locs → lv_has ls 5 [(0, .ref x0), (1, .int x1), (2, .int x2)] → (∀ (oZ : c_S), out = oZ → ∀ (H : Heap) (locs : List Loc) (ls : Array Slot), z_W gp D K (z_A Z0) s oZ H locs → lv_has ls 5 [] → W p l e rmX1_leads s m ([.ref a0, .int a1] : List Value).toArray below meth c H locs 0 0 (MQ below (z_Q (.returned (none)) D K (z_A Z0) Z') ([.ref a0, .int a1] : List Value).toArray s 0 0 (z_A Z0)) (F0 m 122 ls [])) → W p l e rmX1_leads s m ([.ref a0, .int a1] : List Value).toArray below meth c H locs 0 0 (MQ below (z_Q (.returned (none)) D K (z_A Z0) Z') ([.ref a0, .int a1] : List Value).toArray s 0 0 (z_A Z0)) (F0 m 2 ls []) := by
    intro x0 x1 n
    induction n with
    | zero =>
      intro x2 Z out H locs ls h
      exact (lp_0 h).elim
    | succ n ih =>
      intro x2 Z out H locs ls h hW hl k1
      rw [cm_X1_leads_L2_s] at h
      unfold cm_X1_leads_B2 at h
      refine lv_iload_n hx hb dX1_leads_2 rfl (lv_at hl 2 rfl) ?_
      refine lv_iconst (v := 4) hx hb dX1_leads_3 (by decide) ?_
      refine lv_icmp_ge (tgt := 122) hx hb dX1_leads_4 (by decide) (fun c_1 => ?_) (fun c_1 => ?_)
      · have h := if_t h c_1
        exact k1 _ (Option.some.inj h).symm _ _ _ hW (lv_sub hl [] rfl)
      · have h := if_f h c_1
        refine lv_iload_n hx hb dX1_leads_7 rfl (lv_at hl 1 rfl) ?_
        refine lv_iload_n hx hb dX1_leads_8 rfl (lv_at hl 2 rfl) ?_
        obtain ⟨x_4, h_2, h⟩ := bnd_some h
        refine d_callSN (As := [.int x1, .int x2]) (rest := []) S hW (metX0_beside h_2) (cwX0_beside_SN S.2.2.2.2 (hW.1.2.2.2.2.1.2.2.2.2.1 _ (nestW_in q1112 rfl)) ⟨Nat.le_of_ble_eq_true rfl, Nat.le_of_ble_eq_true rfl⟩) rfl hl.1 rfl (Nat.le_of_ble_eq_true rfl) dX1_leads_9 ⟨(Nat.le_of_ble_eq_true rfl), (Nat.le_of_ble_eq_true rfl)⟩ rfl (fun H locs hW => ?_)
        refine lv_istore_n (lv' := [(3, .int x_4), (0, .ref x0), (1, .int x1), (2, .int x2)]) hx hb dX1_leads_12 rfl hl (by decide) rfl (fun ls hl => ?_)
        refine lv_iload_n hx hb dX1_leads_13 rfl (lv_at hl 0 rfl) ?_
        refine lv_iconst (v := (-1)) hx hb dX1_leads_14 (by decide) ?_
        refine lv_icmp_ne (tgt := 68) hx hb dX1_leads_15 (by decide) (fun c_5 => ?_) (fun c_5 => ?_)
        · have h := if_f h c_5
          refine lv_aload_n hx hb dX1_leads_68 rfl (lv_at hl 1 rfl) ?_
          refine zw_getA S hW zC_X1 (i := 4) (by decide) (Or.inl q673) (fun _ h => h) dX1_leads_69 h (fun a_6 h => ?_)
          refine lv_iload_n hx hb dX1_leads_72 rfl (lv_at hl 0 rfl) ?_
          refine zw_zald S hW dX1_leads_73 h (fun x_7 h => ?_)
          refine lv_if_ne (tgt := 116) hx hb dX1_leads_74 (by decide) (fun c_8 => ?_) (fun c_8 => ?_)
          · have h := if_f h c_8
            obtain ⟨x_9, e_10, h⟩ := nmI_some h
            refine lv_iinc (v := x_9) (lv' := [(2, .int x_9), (3, .int x_4), (0, .ref x0), (1, .int x1)]) hx hb dX1_leads_116 hl (k := 3) rfl (by rw [e_10]; rfl) (by decide) rfl (fun ls hl => ?_)
            refine lv_goto (tgt := 2) hx hb dX1_leads_119 (by decide) ?_
            exact ih x_9 Z out _ _ _ h hW (lv_sub hl [2, 3, 0] rfl) k1
          · have h := if_t h c_8
            refine lv_aload_n hx hb dX1_leads_77 rfl (lv_at hl 1 rfl) ?_
            refine zw_getA S hW zC_X1 (i := 3) (by decide) (Or.inl q672) (fun _ h => h) dX1_leads_78 h (fun a_11 h => ?_)
            refine lv_iload_n hx hb dX1_leads_81 rfl (lv_at hl 2 rfl) ?_
            refine lv_dup2_11 hx hb dX1_leads_82 rfl rfl ?_
            refine zw_iald S hW dX1_leads_83 h (fun x_12 h => ?_)
            refine lv_aload_n hx hb dX1_leads_84 rfl (lv_at hl 1 rfl) ?_
            refine zw_getA S hW zC_X1 (i := 1) (by decide) (Or.inl q668) (fun _ h => h) dX1_leads_85 h (fun a_13 h => ?_)
            refine lv_iload_n hx hb dX1_leads_88 rfl (lv_at hl 0 rfl) ?_
            refine zw_iald S hW dX1_leads_89 h (fun x_14 h => ?_)
            refine lv_aload_n hx hb dX1_leads_90 rfl (lv_at hl 1 rfl) ?_
            refine zw_getA S hW zC_X1 (i := 1) (by decide) (Or.inl q668) (fun _ h => h) dX1_leads_91 h (fun a_15 h => ?_)
            refine lv_iload_n hx hb dX1_leads_94 rfl (lv_at hl 2 rfl) ?_
            refine zw_iald S hW dX1_leads_95 h (fun x_16 h => ?_)
            refine lv_isub hx hb dX1_leads_96 ?_
            refine lv_aload_n hx hb dX1_leads_97 rfl (lv_at hl 1 rfl) ?_
            refine lv_iload_n hx hb dX1_leads_98 rfl (lv_at hl 2 rfl) ?_
            obtain ⟨⟨_, k_17⟩, h⟩ := zK_some h
            obtain ⟨x_20, h_18, h⟩ := bnd_some h
            refine d_callV (As := [.int x1]) (rest := [.int (x_14 - x_16), .int x_12, .int x1, .ref a_11]) S hW (metX1_leadOf h_18) (cwX1_leadOf_V S.2.2.2.2 q1115 ⟨Nat.le_of_ble_eq_true rfl, Nat.le_of_ble_eq_true rfl⟩) k_17 rfl rfl hl.1 rfl (Nat.le_of_ble_eq_true rfl) dX1_leads_99 ⟨(Nat.le_of_ble_eq_true rfl), (Nat.le_of_ble_eq_true rfl)⟩ rfl (fun H locs hW => ?_)
            refine lv_aload_n hx hb dX1_leads_102 rfl (lv_at hl 1 rfl) ?_
            refine lv_iload_n hx hb dX1_leads_103 rfl (lv_at hl 0 rfl) ?_
            obtain ⟨⟨_, k_21⟩, h⟩ := zK_some h
            obtain ⟨x_24, h_22, h⟩ := bnd_some h
            refine d_callV (As := [.int x_4]) (rest := [.int x_20, .int (x_14 - x_16), .int x_12, .int x1, .ref a_11]) S hW (metX1_leadOf h_22) (cwX1_leadOf_V S.2.2.2.2 q1115 ⟨Nat.le_of_ble_eq_true rfl, Nat.le_of_ble_eq_true rfl⟩) k_21 rfl rfl hl.1 rfl (Nat.le_of_ble_eq_true rfl) dX1_leads_104 ⟨(Nat.le_of_ble_eq_true rfl), (Nat.le_of_ble_eq_true rfl)⟩ rfl (fun H locs hW => ?_)
            refine va_mmin hx hb (S.2.2.1.trans hl.1.symm) S.2.2.2.1 (S.2.2.2.2 _ q1127) (S.2.2.2.2 _ q633) (S.2.2.2.2 _ q117) (S.2.2.2.2 _ mc_min) (Nat.le_of_ble_eq_true rfl) (zm_lo (z_ro (Nat.le_of_ble_eq_true rfl)) (Nat.le_of_ble_eq_true rfl)) (Nat.le_of_ble_eq_true rfl) (Nat.le_of_ble_eq_true rfl) dX1_leads_107 ?_
            obtain ⟨x_25, e_26, h⟩ := nmI_some h
            refine g_nmi e_26 ?_
            refine lv_imul hx hb dX1_leads_110 ?_
            refine lv_bipush (v := 100) hx hb dX1_leads_111 (by decide) ?_
            refine lv_idiv hx hb dX1_leads_113 (by decide) ?_
            refine lv_iadd hx hb dX1_leads_114 ?_
            refine zw_iast S hW dX1_leads_115 h (fun Z_27 h H locs hW => ?_)
            obtain ⟨x_28, e_29, h⟩ := nmI_some h
            refine lv_iinc (v := x_28) (lv' := [(2, .int x_28), (3, .int x_4), (0, .ref x0), (1, .int x1)]) hx hb dX1_leads_116 hl (k := 3) rfl (by rw [e_29]; rfl) (by decide) rfl (fun ls hl => ?_)
            refine lv_goto (tgt := 2) hx hb dX1_leads_119 (by decide) ?_
            exact ih x_28 Z_27 out _ _ _ h hW (lv_sub hl [2, 3, 0] rfl) k1
        · have h := if_t h c_5
          refine lv_aload_n hx hb dX1_leads_18 rfl (lv_at hl 1 rfl) ?_
          refine zw_getA S hW zC_X1 (i := 0) (by decide) (Or.inl q665) (fun _ h => h) dX1_leads_19 h (fun a_30 h => ?_)
          refine zw_getI S hW zC_X2 (i := 6) (by decide) (Or.inr ⟨_, nestW_in q407 rfl⟩) (fun _ h => h) dX1_leads_22 h (fun x_31 h => ?_)
          refine lv_aload_n hx hb dX1_leads_25 rfl (lv_at hl 1 rfl) ?_
          refine zw_getA S hW zC_X1 (i := 1) (by decide) (Or.inl q668) (fun _ h => h) dX1_leads_26 h (fun a_32 h => ?_)
          refine lv_iload_n hx hb dX1_leads_29 rfl (lv_at hl 2 rfl) ?_
          refine zw_iald S hW dX1_leads_30 h (fun x_33 h => ?_)
          refine lv_isub hx hb dX1_leads_31 ?_
          refine lv_aload_n hx hb dX1_leads_32 rfl (lv_at hl 1 rfl) ?_
          refine lv_iload_n hx hb dX1_leads_33 rfl (lv_at hl 2 rfl) ?_
          obtain ⟨⟨_, k_34⟩, h⟩ := zK_some h
          obtain ⟨x_37, h_35, h⟩ := bnd_some h
          refine d_callV (As := [.int x1]) (rest := [.int (x_31 - x_33)]) S hW (metX1_leadOf h_35) (cwX1_leadOf_V S.2.2.2.2 q1115 ⟨Nat.le_of_ble_eq_true rfl, Nat.le_of_ble_eq_true rfl⟩) k_34 rfl rfl hl.1 rfl (Nat.le_of_ble_eq_true rfl) dX1_leads_34 ⟨(Nat.le_of_ble_eq_true rfl), (Nat.le_of_ble_eq_true rfl)⟩ rfl (fun H locs hW => ?_)
          refine lv_imul hx hb dX1_leads_37 ?_
          refine lv_bipush (v := 100) hx hb dX1_leads_38 (by decide) ?_
          refine lv_idiv hx hb dX1_leads_40 (by decide) ?_
          obtain ⟨x_38, e_39, h⟩ := nmI_some h
          refine g_nmi e_39 ?_
          refine lv_istore (lv' := [(4, .int x_38), (3, .int x_4), (0, .ref x0), (1, .int x1), (2, .int x2)]) hx hb dX1_leads_41 hl (by decide) rfl (fun ls hl => ?_)
          refine lv_aload_n hx hb dX1_leads_43 rfl (lv_at hl 2 rfl) ?_
          refine zw_getA S hW zC_X1 (i := 3) (by decide) (Or.inl q672) (fun _ h => h) dX1_leads_44 h (fun a_40 h => ?_)
          refine lv_iload_n hx hb dX1_leads_47 rfl (lv_at hl 3 rfl) ?_
          refine lv_dup2_11 hx hb dX1_leads_48 rfl rfl ?_
          refine zw_iald S hW dX1_leads_49 h (fun x_41 h => ?_)
          refine lv_iload hx hb dX1_leads_50 (lv_at hl 0 rfl) ?_
          refine lv_iadd hx hb dX1_leads_52 ?_
          refine zw_iast S hW dX1_leads_53 h (fun Z_42 h H locs hW => ?_)
          refine lv_aload_n hx hb dX1_leads_54 rfl (lv_at hl 2 rfl) ?_
          refine lv_dup hx hb dX1_leads_55 rfl ?_
          refine zw_getI S hW zC_X1 (i := 12) (by decide) (Or.inl q689) (fun _ h => h) dX1_leads_56 h (fun x_43 h => ?_)
          refine lv_iload hx hb dX1_leads_59 (lv_at hl 0 rfl) ?_
          refine lv_iadd hx hb dX1_leads_61 ?_
          refine zw_putI S hW zC_X1 (i := 12) (by decide) (Or.inl rfl) rfl rfl rfl (Or.inl q689) (fun _ h => h) dX1_leads_62 h (fun Z_44 h H locs hW => ?_)
          refine lv_goto (tgt := 116) hx hb dX1_leads_65 (by decide) ?_
          obtain ⟨x_45, e_46, h⟩ := nmI_some h
          refine lv_iinc (v := x_45) (lv' := [(2, .int x_45), (4, .int x_38), (3, .int x_4), (0, .ref x0), (1, .int x1)]) hx hb dX1_leads_116 hl (k := 4) rfl (by rw [e_46]; rfl) (by decide) rfl (fun ls hl => ?_)
          refine lv_goto (tgt := 2) hx hb dX1_leads_119 (by decide) ?_
          exact ih x_45 Z_44 out _ _ _ h hW (lv_sub hl [3, 4, 0] rfl) k1
  unfold cm_X1_leads at h
  refine lv_iconst (v := 0) hx hb dX1_leads_0 (by decide) ?_
  refine lv_istore_n (lv' := [(2, .int 0), (0, .ref a0), (1, .int a1)]) hx hb dX1_leads_1 rfl hl (by decide) rfl (fun ls hl => ?_)
  obtain ⟨Z_49, h_48, h⟩ := bnd_some h
  refine Lp2 a0 a1 1000 0 Z0  _ _ _ _ h_48 hW (lv_sub hl [1, 2, 0] rfl) ?_
  intro w0 eo H locs ls hW hl
  subst eo
  cases h
  exact d_vret S hr hlk hW (Nat.le_of_ble_eq_true rfl) (Nat.le_of_ble_eq_true rfl) dX1_leads_122
