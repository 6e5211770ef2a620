/-! walks of the component: X0_mayDig X0_lacks X0_dig -/
set_option maxRecDepth 100000
def cm_X0_mayDig_B18 (x0 : Nat) (rec : Int32 → Int32 → c_S → Option (Int32 × c_S)) (x1 : Int32) (x2 : Int32) (Z : c_S) : Option (Int32 × c_S) :=
  cA Z.Sh x0 0 11 1 fun a_8 => cA Z.Sh a_8 1 20 0 fun a_9 => cA Z.Sh a_9 2 13 5 fun a_10 => zK Z a_10 14 3 <| bnd (cm_J2_size Z a_10) (fun x_14 => if x_14 ≤ x2 then (some (x1, Z)) else (if x1 = 0 then (cA Z.Sh x0 0 11 1 fun a_19 => cA Z.Sh a_19 1 20 0 fun a_20 => cA Z.Sh a_20 2 13 5 fun a_21 => zK Z a_21 14 3 <| bnd (cm_J2_get Z a_21 x2) (fun o_25 => zCk Z o_25 10 2 <| nn o_25 fun a_26 => zK Z a_26 10 2 <| bnd (cm_X10_lacks Z a_26 x0) (un2 fun x_30 Z_31 => if x_30 = 0 then (nmI (x2 + 1) fun x_35 => rec 1 x_35 Z_31) else (nmI (x2 + 1) fun x_33 => rec 0 x_33 Z_31)))) else (nmI (x2 + 1) fun x_17 => rec 1 x_17 Z)))
abbrev cm_X0_mayDig_F18 (x0 : Nat) : (((Int32) × (Int32) × (c_S)) → Option (Int32 × c_S)) → ((Int32) × (Int32) × (c_S)) → Option (Int32 × c_S) := fun rec s => cm_X0_mayDig_B18 x0 (fun x1 x2 Z => rec (x1, x2, Z)) s.1 s.2.1 s.2.2
def cm_X0_mayDig_L18 (x0 : Nat) (n : Nat) (x1 : Int32) (x2 : Int32) (Z : c_S) : Option (Int32 × c_S) := lp (cm_X0_mayDig_F18 x0) n (x1, x2, Z)
theorem cm_X0_mayDig_L18_s (x0 : Nat) (n : Nat) (x1 : Int32) (x2 : Int32) (Z : c_S) : cm_X0_mayDig_L18 x0 (n + 1) x1 x2 Z = cm_X0_mayDig_B18 x0 (fun x1 x2 Z => cm_X0_mayDig_L18 x0 n x1 x2 Z) x1 x2 Z := lp_s (cm_X0_mayDig_F18 x0) n (x1, x2, Z)
def cm_X0_mayDig (Z0 : c_S) (a0 : Nat) : Option (Int32 × c_S) :=
  cA Z0.Sh a0 0 11 1 fun a_1 => cA Z0.Sh a_1 1 20 0 fun a_2 => cA Z0.Sh a_2 2 13 5 fun a_3 => zK Z0 a_3 14 3 <| bnd (cm_J2_isEmpty Z0 a_3) (fun x_7 => bnd (cm_X0_mayDig_L18 a0 5 x_7 0 Z0) (un2 fun x_39 Z_40 => okI (isB x_39) <| some (x_39, Z_40)))
abbrev rmX0_mayDig : Room := rmD 7 159 3020 34820
theorem cwX10_lacks_V {own : String} {R : Room} {s : State} {args : Array Value} {index : Nat} (hts : ∀ w ∈ lw_all, w.before args s = true) (hl : Cond.methodLink own index yX10_lacks ∈ lw_all) (hR : rmX10_lacks.frames + 1 ≤ R.frames ∧ 8 + (4 + 11) + rmX10_lacks.locals ≤ R.locals) : CallW R s args own RX10 index yX10_lacks cX10_lacks 4 (some .int) (ws_ yX10_lacks cX10_lacks 4 (some .int)) rmX10_lacks 604 6964 1 := cwV 1 hts (lw_V hl q1349 q1350 q129 q1351) rfl rfl rfl (by decide +kernel) hR
set_option maxHeartbeats 4000000 in
theorem metX0_mayDig {l : Launch} {gp : Nat → Nat} {D : va_G} {K : Nat → ClassId} {Z0 : c_S} {a0 : Nat} {r : Int32} {Z' : c_S} (h : cm_X0_mayDig Z0 a0 = some (r, Z')) : Met l yX0_mayDig (ws_ yX0_mayDig cX0_mayDig 3 (some .boolean)) rmX0_mayDig (z_Pc gp [.ref a0] D K Z0) (z_Q (.returned (some (.int r))) D K (z_A Z0) Z') 3020 34820 (z_A Z0) := by
  refine d_met rfl (Nat.le_of_ble_eq_true rfl) ?_
  intro p e s m below meth c ls S hr hlk hnm hl hW hsz
  have S : CallFix p m c cX0_mayDig 3 s ([.ref a0] : List Value).toArray lw_all RX0 := S
  have hx := S.1
  have hb := S.2.1
  have hl : lv_has ls 3 [(0, .ref a0)] := hl
  have hnm : meth.name = "mayDig" := hnm
  have Lp18 : ∀ (x0 : Nat) (E G : Nat) (n : Nat) (x1 : Int32) (x2 : Int32) (Z : c_S) (out : (Int32 × c_S)) (cells slots : Nat) (H : Heap) (locs : List Loc) (ls : Array Slot), cm_X0_mayDig_L18 x0 n x1 x2 Z = some out → z_W gp D K (z_A Z0) s Z H locs → lv_has ls 3 [(0, .ref x0), (1, .int x1), (2, .int x2)] → cells + n * 604 ≤ E → slots + n * 6964 ≤ G → E ≤ 3020 → G ≤ 34820 → (∀ (o1 : Int32) (oZ : c_S), out = (o1, oZ) → ∀ (H : Heap) (locs : List Loc) (ls : Array Slot), z_W gp D K (z_A Z0) s oZ H locs → lv_has ls 3 [(1, .int o1)] → W p l e rmX0_mayDig s m ([.ref a0] : List Value).toArray below meth c H locs E G (MQ below (z_Q (.returned (some (.int r))) D K (z_A Z0) Z') ([.ref a0] : List Value).toArray s 3020 34820 (z_A Z0)) (F0 m 79 ls [])) → W p l e rmX0_mayDig s m ([.ref a0] : List Value).toArray below meth c H locs cells slots (MQ below (z_Q (.returned (some (.int r))) D K (z_A Z0) Z') ([.ref a0] : List Value).toArray s 3020 34820 (z_A Z0)) (F0 m 18 ls []) := by
    intro x0 E G n
    induction n with
    | zero =>
      intro x1 x2 Z out cells slots H locs ls h
      exact (lp_0 h).elim
    | succ n ih =>
      intro x1 x2 Z out cells slots H locs ls h hW hl hcl hsl hE hG k1
      have hcl := nsucc hcl
      have hsl := nsucc hsl
      rw [cm_X0_mayDig_L18_s] at h
      unfold cm_X0_mayDig_B18 at h
      refine lv_iload_n hx hb dX0_mayDig_18 rfl (lv_at hl 2 rfl) ?_
      refine lv_aload_n hx hb dX0_mayDig_19 rfl (lv_at hl 0 rfl) ?_
      refine zw_getA S hW zC_X0 (i := 1) (by decide) (Or.inl q756) (fun _ h => h) dX0_mayDig_20 h (fun a_8 h => ?_)
      refine zw_getA S hW zC_X1 (i := 0) (by decide) (Or.inr ⟨_, nestW_in q667 rfl⟩) (fun _ h => h) dX0_mayDig_23 h (fun a_9 h => ?_)
      refine zw_getA S hW zC_X2 (i := 5) (by decide) (Or.inr ⟨_, nestW_in q405 rfl⟩) (fun _ h => h) dX0_mayDig_26 h (fun a_10 h => ?_)
      obtain ⟨⟨_, k_11⟩, h⟩ := zK_some h
      obtain ⟨x_14, h_12, h⟩ := bnd_some h
      refine d_callF (As := []) (rest := [.int x2]) S hW (metJ2_size h_12) (cwJ2_size_F S.2.2.2.2 q1192 (hW.1.2.2.2.2.1.2.2.2.2.2.2.1 _ (List.mem_of_getElem? (i := 1) rfl)) ⟨Nat.le_of_ble_eq_true rfl, Nat.le_of_ble_eq_true rfl⟩) k_11 rfl rfl hl.1 rfl (Nat.le_of_ble_eq_true rfl) dX0_mayDig_29 ⟨(show _ ≤ 3020 from by omega), (show _ ≤ 34820 from by omega)⟩ rfl (fun H locs hW => ?_)
      refine lv_icmp_ge (tgt := 79) hx hb dX0_mayDig_34 (by decide) (fun c_15 => ?_) (fun c_15 => ?_)
      · have h := if_t h c_15
        exact W.widen (by omega) (by omega) (k1 _ _ (Option.some.inj h).symm _ _ _ hW (lv_sub hl [1] rfl))
      · have h := if_f h c_15
        refine lv_iload_n hx hb dX0_mayDig_37 rfl (lv_at hl 1 rfl) ?_
        refine lv_if_ne (tgt := 67) hx hb dX0_mayDig_38 (by decide) (fun c_16 => ?_) (fun c_16 => ?_)
        · have h := if_f h c_16
          refine lv_iconst (v := 1) hx hb dX0_mayDig_67 (by decide) ?_
          refine lv_goto (tgt := 72) hx hb dX0_mayDig_68 (by decide) ?_
          refine lv_istore_n (lv' := [(1, .int 1), (0, .ref x0), (2, .int x2)]) hx hb dX0_mayDig_72 rfl hl (by decide) rfl (fun ls hl => ?_)
          obtain ⟨x_17, e_18, h⟩ := nmI_some h
          refine lv_iinc (v := x_17) (lv' := [(2, .int x_17), (1, .int 1), (0, .ref x0)]) hx hb dX0_mayDig_73 hl (k := 2) rfl (by rw [e_18]; rfl) (by decide) rfl (fun ls hl => ?_)
          refine lv_goto (tgt := 18) hx hb dX0_mayDig_76 (by decide) ?_
          exact ih 1 x_17 Z out cells slots _ _ _ h hW (lv_sub hl [2, 1, 0] rfl) (by omega) (by omega) hE hG k1
        · have h := if_t h c_16
          refine lv_aload_n hx hb dX0_mayDig_41 rfl (lv_at hl 0 rfl) ?_
          refine zw_getA S hW zC_X0 (i := 1) (by decide) (Or.inl q756) (fun _ h => h) dX0_mayDig_42 h (fun a_19 h => ?_)
          refine zw_getA S hW zC_X1 (i := 0) (by decide) (Or.inr ⟨_, nestW_in q667 rfl⟩) (fun _ h => h) dX0_mayDig_45 h (fun a_20 h => ?_)
          refine zw_getA S hW zC_X2 (i := 5) (by decide) (Or.inr ⟨_, nestW_in q405 rfl⟩) (fun _ h => h) dX0_mayDig_48 h (fun a_21 h => ?_)
          refine lv_iload_n hx hb dX0_mayDig_51 rfl (lv_at hl 2 rfl) ?_
          obtain ⟨⟨_, k_22⟩, h⟩ := zK_some h
          obtain ⟨o_25, h_23, h⟩ := bnd_some h
          refine d_callF (As := [.int x2]) (rest := []) S hW (metJ2_get h_23) (cwJ2_get_F S.2.2.2.2 q1194 (hW.1.2.2.2.2.1.2.2.2.2.2.2.1 _ (List.mem_of_getElem? (i := 2) rfl)) ⟨Nat.le_of_ble_eq_true rfl, Nat.le_of_ble_eq_true rfl⟩) k_22 rfl rfl hl.1 rfl (Nat.le_of_ble_eq_true rfl) dX0_mayDig_52 ⟨(show _ ≤ 3020 from by omega), (show _ ≤ 34820 from by omega)⟩ rfl (fun H locs hW => ?_)
          refine zw_ck (o := o_25) S hW zC_X10 q1347 dX0_mayDig_57 h (fun h => ?_)
          refine lv_aload_n hx hb dX0_mayDig_60 rfl (lv_at hl 0 rfl) ?_
          have h9 := nn_some h
          clear h
          obtain ⟨a_26, rfl, h8⟩ := h9
          have h := h8
          clear h8
          obtain ⟨⟨_, k_27⟩, h⟩ := zK_some h
          obtain ⟨x_30, Z_31, h_28, h⟩ := bnd2_some h
          refine d_callV (As := [.ref x0]) (rest := []) S hW (metX10_lacks h_28) (cwX10_lacks_V S.2.2.2.2 q1348 ⟨Nat.le_of_ble_eq_true rfl, Nat.le_of_ble_eq_true rfl⟩) k_27 rfl rfl hl.1 rfl (Nat.le_of_ble_eq_true rfl) dX0_mayDig_61 ⟨(show _ ≤ 3020 from by omega), (show _ ≤ 34820 from by omega)⟩ rfl (fun H locs hW => ?_)
          refine lv_if_ne (tgt := 71) hx hb dX0_mayDig_64 (by decide) (fun c_32 => ?_) (fun c_32 => ?_)
          · have h := if_f h c_32
            refine lv_iconst (v := 0) hx hb dX0_mayDig_71 (by decide) ?_
            refine lv_istore_n (lv' := [(1, .int 0), (0, .ref x0), (2, .int x2)]) hx hb dX0_mayDig_72 rfl hl (by decide) rfl (fun ls hl => ?_)
            obtain ⟨x_33, e_34, h⟩ := nmI_some h
            refine lv_iinc (v := x_33) (lv' := [(2, .int x_33), (1, .int 0), (0, .ref x0)]) hx hb dX0_mayDig_73 hl (k := 2) rfl (by rw [e_34]; rfl) (by decide) rfl (fun ls hl => ?_)
            refine lv_goto (tgt := 18) hx hb dX0_mayDig_76 (by decide) ?_
            exact ih 0 x_33 Z_31 out (cells + 604) (slots + 6964) _ _ _ h hW (lv_sub hl [2, 1, 0] rfl) (by omega) (by omega) hE hG k1
          · have h := if_t h c_32
            refine lv_iconst (v := 1) hx hb dX0_mayDig_67 (by decide) ?_
            refine lv_goto (tgt := 72) hx hb dX0_mayDig_68 (by decide) ?_
            refine lv_istore_n (lv' := [(1, .int 1), (0, .ref x0), (2, .int x2)]) hx hb dX0_mayDig_72 rfl hl (by decide) rfl (fun ls hl => ?_)
            obtain ⟨x_35, e_36, h⟩ := nmI_some h
            refine lv_iinc (v := x_35) (lv' := [(2, .int x_35), (1, .int 1), (0, .ref x0)]) hx hb dX0_mayDig_73 hl (k := 2) rfl (by rw [e_36]; rfl) (by decide) rfl (fun ls hl => ?_)
            refine lv_goto (tgt := 18) hx hb dX0_mayDig_76 (by decide) ?_
            exact ih 1 x_35 Z_31 out (cells + 604) (slots + 6964) _ _ _ h hW (lv_sub hl [2, 1, 0] rfl) (by omega) (by omega) hE hG k1
  unfold cm_X0_mayDig at h
  refine lv_aload_n hx hb dX0_mayDig_0 rfl (lv_at hl 0 rfl) ?_
  refine zw_getA S hW zC_X0 (i := 1) (by decide) (Or.inl q756) (fun _ h => h) dX0_mayDig_1 h (fun a_1 h => ?_)
  refine zw_getA S hW zC_X1 (i := 0) (by decide) (Or.inr ⟨_, nestW_in q667 rfl⟩) (fun _ h => h) dX0_mayDig_4 h (fun a_2 h => ?_)
  refine zw_getA S hW zC_X2 (i := 5) (by decide) (Or.inr ⟨_, nestW_in q405 rfl⟩) (fun _ h => h) dX0_mayDig_7 h (fun a_3 h => ?_)
  obtain ⟨⟨_, k_4⟩, h⟩ := zK_some h
  obtain ⟨x_7, h_5, h⟩ := bnd_some h
  refine d_callF (As := []) (rest := []) S hW (metJ2_isEmpty h_5) (cwJ2_isEmpty_F S.2.2.2.2 q1339 (hW.1.2.2.2.2.1.2.2.2.2.2.2.1 _ (List.mem_of_getElem? (i := 4) rfl)) ⟨Nat.le_of_ble_eq_true rfl, Nat.le_of_ble_eq_true rfl⟩) k_4 rfl rfl hl.1 rfl (Nat.le_of_ble_eq_true rfl) dX0_mayDig_10 ⟨(Nat.le_of_ble_eq_true rfl), (Nat.le_of_ble_eq_true rfl)⟩ rfl (fun H locs hW => ?_)
  refine lv_istore_n (lv' := [(1, .int x_7), (0, .ref a0)]) hx hb dX0_mayDig_15 rfl hl (by decide) rfl (fun ls hl => ?_)
  refine lv_iconst (v := 0) hx hb dX0_mayDig_16 (by decide) ?_
  refine lv_istore_n (lv' := [(2, .int 0), (1, .int x_7), (0, .ref a0)]) hx hb dX0_mayDig_17 rfl hl (by decide) rfl (fun ls hl => ?_)
  obtain ⟨x_39, Z_40, h_38, h⟩ := bnd2_some h
  refine Lp18 a0 3020 34820 5 x_7 0 Z0  _ 0 0 _ _ _ h_38 hW (lv_sub hl [2, 1, 0] rfl) (by omega) (by omega) (by omega) (by omega) ?_
  intro w0 w1 eo H locs ls hW hl
  cases eo
  refine lv_iload_n hx hb dX0_mayDig_79 rfl (lv_at hl 0 rfl) ?_
  obtain ⟨h_41, h⟩ := okI_some h
  cases h
  exact d_zret S hr hlk (isB_narrow h_41) hW (Nat.le_of_ble_eq_true rfl) (Nat.le_of_ble_eq_true rfl) dX0_mayDig_80
def cm_X0_lacks (Z0 : c_S) (a0 : Nat) (a1 : Int32) : Option (Int32 × c_S) :=
  cA Z0.Sh a0 0 11 1 fun a_1 => cA Z0.Sh a_1 1 20 0 fun a_2 => cA Z0.Sh a_2 2 13 5 fun a_3 => zK Z0 a_3 14 3 <| bnd (cm_J2_size Z0 a_3) (fun x_7 => bnd (cm_X0_in a1.toInt64 0 ((x_7 - 1).toInt64)) (fun x_10 => if x_10 = 0 then (some ((-1), Z0)) else (cA Z0.Sh a0 0 11 1 fun a_12 => cA Z0.Sh a_12 1 20 0 fun a_13 => cA Z0.Sh a_13 2 13 5 fun a_14 => zK Z0 a_14 14 3 <| bnd (cm_J2_get Z0 a_14 a1) (fun o_18 => zCk Z0 o_18 10 2 <| nn o_18 fun a_19 => zK Z0 a_19 10 2 <| bnd (cm_X10_lacks Z0 a_19 a0) (un2 fun x_23 Z_24 => some (x_23, Z_24))))))
abbrev rmX0_lacks : Room := rmD 7 159 604 6964
set_option maxHeartbeats 4000000 in
theorem metX0_lacks {l : Launch} {gp : Nat → Nat} {D : va_G} {K : Nat → ClassId} {Z0 : c_S} {a0 : Nat} {a1 : Int32} {r : Int32} {Z' : c_S} (h : cm_X0_lacks Z0 a0 a1 = some (r, Z')) : Met l yX0_lacks (ws_ yX0_lacks cX0_lacks 2 (some .int)) rmX0_lacks (z_Pc gp [.ref a0, .int a1] D K Z0) (z_Q (.returned (some (.int r))) D K (z_A Z0) Z') 604 6964 (z_A Z0) := by
  refine d_met rfl (Nat.le_of_ble_eq_true rfl) ?_
  intro p e s m below meth c ls S hr hlk hnm hl hW hsz
  have S : CallFix p m c cX0_lacks 2 s ([.ref a0, .int a1] : List Value).toArray lw_all RX0 := S
  have hx := S.1
  have hb := S.2.1
  have hl : lv_has ls 2 [(0, .ref a0), (1, .int a1)] := hl
  have hnm : meth.name = "lacks" := hnm
  unfold cm_X0_lacks at h
  refine lv_iload_n hx hb dX0_lacks_0 rfl (lv_at hl 1 rfl) ?_
  refine lv_i2l (v := a1.toInt64) hx hb dX0_lacks_1 rfl ?_
  refine lv_lconst (v := 0) hx hb dX0_lacks_2 (by decide) ?_
  refine lv_aload_n hx hb dX0_lacks_3 rfl (lv_at hl 0 rfl) ?_
  refine zw_getA S hW zC_X0 (i := 1) (by decide) (Or.inl q756) (fun _ h => h) dX0_lacks_4 h (fun a_1 h => ?_)
  refine zw_getA S hW zC_X1 (i := 0) (by decide) (Or.inr ⟨_, nestW_in q667 rfl⟩) (fun _ h => h) dX0_lacks_7 h (fun a_2 h => ?_)
  refine zw_getA S hW zC_X2 (i := 5) (by decide) (Or.inr ⟨_, nestW_in q405 rfl⟩) (fun _ h => h) dX0_lacks_10 h (fun a_3 h => ?_)
  obtain ⟨⟨_, k_4⟩, h⟩ := zK_some h
  obtain ⟨x_7, h_5, h⟩ := bnd_some h
  refine d_callF (As := []) (rest := [.long 0, .long a1.toInt64]) S hW (metJ2_size h_5) (cwJ2_size_F S.2.2.2.2 q1192 (hW.1.2.2.2.2.1.2.2.2.2.2.2.1 _ (List.mem_of_getElem? (i := 1) rfl)) ⟨Nat.le_of_ble_eq_true rfl, Nat.le_of_ble_eq_true rfl⟩) k_4 rfl rfl hl.1 rfl (Nat.le_of_ble_eq_true rfl) dX0_lacks_13 ⟨(Nat.le_of_ble_eq_true rfl), (Nat.le_of_ble_eq_true rfl)⟩ rfl (fun H locs hW => ?_)
  refine lv_iconst (v := 1) hx hb dX0_lacks_18 (by decide) ?_
  refine lv_isub hx hb dX0_lacks_19 ?_
  refine lv_i2l (v := (x_7 - 1).toInt64) hx hb dX0_lacks_20 rfl ?_
  obtain ⟨x_10, h_8, h⟩ := bnd_some h
  refine d_callS (As := [.long a1.toInt64, .long 0, .long ((x_7 - 1).toInt64)]) (rest := []) S hW (metX0_in h_8) (cwX0_in_S S.2.2.2.2 q149 ⟨Nat.le_of_ble_eq_true rfl, Nat.le_of_ble_eq_true rfl⟩) rfl hl.1 rfl (Nat.le_of_ble_eq_true rfl) dX0_lacks_21 ⟨(Nat.le_of_ble_eq_true rfl), (Nat.le_of_ble_eq_true rfl)⟩ rfl (fun H locs hW => ?_)
  refine lv_if_eq (tgt := 53) hx hb dX0_lacks_24 (by decide) (fun c_11 => ?_) (fun c_11 => ?_)
  · have h := if_t h c_11
    refine lv_iconst (v := (-1)) hx hb dX0_lacks_53 (by decide) ?_
    cases h
    exact d_iret S hr hlk hW (Nat.le_of_ble_eq_true rfl) (Nat.le_of_ble_eq_true rfl) dX0_lacks_54
  · have h := if_f h c_11
    refine lv_aload_n hx hb dX0_lacks_27 rfl (lv_at hl 0 rfl) ?_
    refine zw_getA S hW zC_X0 (i := 1) (by decide) (Or.inl q756) (fun _ h => h) dX0_lacks_28 h (fun a_12 h => ?_)
    refine zw_getA S hW zC_X1 (i := 0) (by decide) (Or.inr ⟨_, nestW_in q667 rfl⟩) (fun _ h => h) dX0_lacks_31 h (fun a_13 h => ?_)
    refine zw_getA S hW zC_X2 (i := 5) (by decide) (Or.inr ⟨_, nestW_in q405 rfl⟩) (fun _ h => h) dX0_lacks_34 h (fun a_14 h => ?_)
    refine lv_iload_n hx hb dX0_lacks_37 rfl (lv_at hl 1 rfl) ?_
    obtain ⟨⟨_, k_15⟩, h⟩ := zK_some h
    obtain ⟨o_18, h_16, h⟩ := bnd_some h
    refine d_callF (As := [.int a1]) (rest := []) S hW (metJ2_get h_16) (cwJ2_get_F S.2.2.2.2 q1194 (hW.1.2.2.2.2.1.2.2.2.2.2.2.1 _ (List.mem_of_getElem? (i := 2) rfl)) ⟨Nat.le_of_ble_eq_true rfl, Nat.le_of_ble_eq_true rfl⟩) k_15 rfl rfl hl.1 rfl (Nat.le_of_ble_eq_true rfl) dX0_lacks_38 ⟨(Nat.le_of_ble_eq_true rfl), (Nat.le_of_ble_eq_true rfl)⟩ rfl (fun H locs hW => ?_)
    refine zw_ck (o := o_18) S hW zC_X10 q1347 dX0_lacks_43 h (fun h => ?_)
    refine lv_aload_n hx hb dX0_lacks_46 rfl (lv_at hl 0 rfl) ?_
    have h9 := nn_some h
    clear h
    obtain ⟨a_19, rfl, h8⟩ := h9
    have h := h8
    clear h8
    obtain ⟨⟨_, k_20⟩, h⟩ := zK_some h
    obtain ⟨x_23, Z_24, h_21, h⟩ := bnd2_some h
    refine d_callV (As := [.ref a0]) (rest := []) S hW (metX10_lacks h_21) (cwX10_lacks_V S.2.2.2.2 q1348 ⟨Nat.le_of_ble_eq_true rfl, Nat.le_of_ble_eq_true rfl⟩) k_20 rfl rfl hl.1 rfl (Nat.le_of_ble_eq_true rfl) dX0_lacks_47 ⟨(Nat.le_of_ble_eq_true rfl), (Nat.le_of_ble_eq_true rfl)⟩ rfl (fun H locs hW => ?_)
    refine lv_goto (tgt := 54) hx hb dX0_lacks_50 (by decide) ?_
    cases h
    exact d_iret S hr hlk hW (Nat.le_of_ble_eq_true rfl) (Nat.le_of_ble_eq_true rfl) dX0_lacks_54
def cm_X0_dig_B114 (x0 : Nat) (Z : c_S) (rec : Int32 → Int32 → Option (Int32)) (x4 : Int32) (x5 : Int32) : Option (Int32) :=
  if 144 ≤ x5 then (some x4) else (cA Z.Sh x0 0 11 1 fun a_40 => cA Z.Sh a_40 1 20 0 fun a_41 => zK Z a_41 2 13 <| bnd (cm_X2_isShaft Z a_41 x5) (fun x_45 => if x_45 = 0 then (nmI (x4 + 0) fun x_47 => nmI (x5 + 1) fun x_49 => rec x_47 x_49) else (cA Z.Sh x0 0 11 1 fun a_51 => cA Z.Sh a_51 1 20 4 fun a_52 => caI Z.Sh Z.V 2 a_52 x5 fun x_53 => if x_53 = 0 then (nmI (x4 + 1) fun x_59 => nmI (x5 + 1) fun x_61 => rec x_59 x_61) else (nmI (x4 + 0) fun x_55 => nmI (x5 + 1) fun x_57 => rec x_55 x_57))))
abbrev cm_X0_dig_F114 (x0 : Nat) (Z : c_S) : (((Int32) × (Int32)) → Option (Int32)) → ((Int32) × (Int32)) → Option (Int32) := fun rec s => cm_X0_dig_B114 x0 Z (fun x4 x5 => rec (x4, x5)) s.1 s.2
def cm_X0_dig_L114 (x0 : Nat) (Z : c_S) (n : Nat) (x4 : Int32) (x5 : Int32) : Option (Int32) := lp (cm_X0_dig_F114 x0 Z) n (x4, x5)
theorem cm_X0_dig_L114_s (x0 : Nat) (Z : c_S) (n : Nat) (x4 : Int32) (x5 : Int32) : cm_X0_dig_L114 x0 Z (n + 1) x4 x5 = cm_X0_dig_B114 x0 Z (fun x4 x5 => cm_X0_dig_L114 x0 Z n x4 x5) x4 x5 := lp_s (cm_X0_dig_F114 x0 Z) n (x4, x5)
def cm_X0_dig (Z0 : c_S) (a0 : Nat) (a1 : Int32) (a2 : Int32) : Option (Int32 × c_S) :=
  nmI ((12 * a2) + a1) fun x_1 => bnd (cm_X0_isCell a1 a2) (fun x_5 => if x_5 = 0 then (some ((-2), Z0)) else (cA Z0.Sh a0 0 11 1 fun a_7 => cA Z0.Sh a_7 1 20 0 fun a_8 => zK Z0 a_8 2 13 <| bnd (cm_X2_isShaft Z0 a_8 x_1) (fun x_12 => if x_12 = 0 then (some ((-2), Z0)) else (cA Z0.Sh a0 0 11 1 fun a_14 => cA Z0.Sh a_14 1 20 4 fun a_15 => caI Z0.Sh Z0.V 2 a_15 x_1 fun x_16 => if x_16 = 0 then (zK Z0 a0 0 11 <| bnd (cm_X0_mayDig Z0 a0) (un2 fun x_21 Z_22 => if x_21 = 0 then (some ((-5), Z_22)) else (cA Z_22.Sh a0 0 11 1 fun a_24 => cI Z_22.Sh Z_22.V a_24 1 20 17 fun x_25 => if x_25 = 0 then (cA Z_22.Sh a0 0 11 1 fun a_27 => cI Z_22.Sh Z_22.V a_27 1 20 14 fun x_28 => cA Z_22.Sh a0 0 11 1 fun a_29 => cA Z_22.Sh a_29 1 20 1 fun a_30 => caI Z_22.Sh Z_22.V 0 a_30 x_1 fun x_31 => cA Z_22.Sh a0 0 11 1 fun a_32 => cA Z_22.Sh a_32 1 20 2 fun a_33 => caI Z_22.Sh Z_22.V 0 a_33 x_1 fun x_34 => zPI Z_22 a_27 1 20 14 (x_28 + (x_31 - x_34)) fun Z_35 => cA Z_35.Sh a0 0 11 1 fun a_36 => cA Z_35.Sh a_36 1 20 4 fun a_37 => zsI Z_35 2 a_37 x_1 1 fun Z_38 => bnd (cm_X0_dig_L114 a0 Z_38 1000 0 0) (fun x_65 => some (x_65, Z_38))) else (some ((-7), Z_22))))) else (some ((-2), Z0))))))
abbrev rmX0_dig : Room := rmD 8 181 3020 34820
theorem cwX0_mayDig_V {own : String} {R : Room} {s : State} {args : Array Value} {index : Nat} (hts : ∀ w ∈ lw_all, w.before args s = true) (hl : Cond.methodLink own index yX0_mayDig ∈ lw_all) (hR : rmX0_mayDig.frames + 1 ≤ R.frames ∧ 8 + (3 + 11) + rmX0_mayDig.locals ≤ R.locals) : CallW R s args own RX0 index yX0_mayDig cX0_mayDig 3 (some .boolean) (ws_ yX0_mayDig cX0_mayDig 3 (some .boolean)) rmX0_mayDig 3020 34820 0 := cwV 0 hts (lw_V hl q1336 qs47 q105 q1337) rfl rfl rfl (by decide +kernel) hR
set_option maxHeartbeats 4000000 in
theorem metX0_dig {l : Launch} {gp : Nat → Nat} {D : va_G} {K : Nat → ClassId} {Z0 : c_S} {a0 : Nat} {a1 : Int32} {a2 : Int32} {r : Int32} {Z' : c_S} (h : cm_X0_dig Z0 a0 a1 a2 = some (r, Z')) : Met l yX0_dig (ws_ yX0_dig cX0_dig 6 (some .int)) rmX0_dig (z_Pc gp [.ref a0, .int a1, .int a2] D K Z0) (z_Q (.returned (some (.int r))) D K (z_A Z0) Z') 3020 34820 (z_A Z0) := by
  refine d_met rfl (Nat.le_of_ble_eq_true rfl) ?_
  intro p e s m below meth c ls S hr hlk hnm hl hW hsz
  have S : CallFix p m c cX0_dig 6 s ([.ref a0, .int a1, .int a2] : List Value).toArray lw_all RX0 := S
  have hx := S.1
  have hb := S.2.1
  have hl : lv_has ls 6 [(0, .ref a0), (1, .int a1), (2, .int a2)] := hl
  have hnm : meth.name = "dig" := hnm
  have Lp114 : ∀ (x0 : Nat) (Z : c_S) (E G : Nat) (n : Nat) (x4 : Int32) (x5 : Int32) (out : (Int32)) (cells slots : Nat) (H : Heap) (locs : List Loc) (ls : Array Slot), cm_X0_dig_L114 x0 Z n x4 x5 = some out → z_W gp D K (z_A Z0) s Z H locs → lv_has ls 6 [(0, .ref x0), (4, .int x4), (5, .int x5)] → cells + n * 0 ≤ E → slots + n * 0 ≤ G → E ≤ 3020 → G ≤ 34820 → (∀ (o4 : Int32), out = o4 → ∀ (H : Heap) (locs : List Loc) (ls : Array Slot), z_W gp D K (z_A Z0) s Z H locs → lv_has ls 6 [(4, .int o4)] → W p l e rmX0_dig s m ([.ref a0, .int a1, .int a2] : List Value).toArray below meth c H locs E G (MQ below (z_Q (.returned (some (.int r))) D K (z_A Z0) Z') ([.ref a0, .int a1, .int a2] : List Value).toArray s 3020 34820 (z_A Z0)) (F0 m 166 ls [])) → W p l e rmX0_dig s m ([.ref a0, .int a1, .int a2] : List Value).toArray below meth c H locs cells slots (MQ below (z_Q (.returned (some (.int r))) D K (z_A Z0) Z') ([.ref a0, .int a1, .int a2] : List Value).toArray s 3020 34820 (z_A Z0)) (F0 m 114 ls []) := by
    intro x0 Z E G n
    induction n with
    | zero =>
      intro x4 x5 out cells slots H locs ls h
      exact (lp_0 h).elim
    | succ n ih =>
      intro x4 x5 out cells slots H locs ls h hW hl hcl hsl hE hG k1
      rw [cm_X0_dig_L114_s] at h
      unfold cm_X0_dig_B114 at h
      refine lv_iload hx hb dX0_dig_114 (lv_at hl 2 rfl) ?_
      refine lv_sipush (v := 144) hx hb dX0_dig_116 (by decide) ?_
      refine lv_icmp_ge (tgt := 166) hx hb dX0_dig_119 (by decide) (fun c_39 => ?_) (fun c_39 => ?_)
      · have h := if_t h c_39
        exact W.widen (by omega) (by omega) (k1 _ (Option.some.inj h).symm _ _ _ hW (lv_sub hl [1] rfl))
      · have h := if_f h c_39
        refine lv_iload hx hb dX0_dig_122 (lv_at hl 1 rfl) ?_
        refine lv_aload_n hx hb dX0_dig_124 rfl (lv_at hl 0 rfl) ?_
        refine zw_getA S hW zC_X0 (i := 1) (by decide) (Or.inl q756) (fun _ h => h) dX0_dig_125 h (fun a_40 h => ?_)
        refine zw_getA S hW zC_X1 (i := 0) (by decide) (Or.inr ⟨_, nestW_in q667 rfl⟩) (fun _ h => h) dX0_dig_128 h (fun a_41 h => ?_)
        refine lv_iload hx hb dX0_dig_131 (lv_at hl 2 rfl) ?_
        obtain ⟨⟨_, k_42⟩, h⟩ := zK_some h
        obtain ⟨x_45, h_43, h⟩ := bnd_some h
        refine d_callV (As := [.int x5]) (rest := [.int x4]) S hW (metX2_isShaft h_43) (cwX2_isShaft_V S.2.2.2.2 q1196 ⟨Nat.le_of_ble_eq_true rfl, Nat.le_of_ble_eq_true rfl⟩) k_42 rfl rfl hl.1 rfl (Nat.le_of_ble_eq_true rfl) dX0_dig_133 ⟨(show _ ≤ 3020 from by omega), (show _ ≤ 34820 from by omega)⟩ rfl (fun H locs hW => ?_)
        refine lv_if_eq (tgt := 156) hx hb dX0_dig_136 (by decide) (fun c_46 => ?_) (fun c_46 => ?_)
        · have h := if_t h c_46
          refine lv_iconst (v := 0) hx hb dX0_dig_156 (by decide) ?_
          refine lv_iadd hx hb dX0_dig_157 ?_
          obtain ⟨x_47, e_48, h⟩ := nmI_some h
          refine g_nmi e_48 ?_
          refine lv_istore (lv' := [(4, .int x_47), (0, .ref x0), (5, .int x5)]) hx hb dX0_dig_158 hl (by decide) rfl (fun ls hl => ?_)
          obtain ⟨x_49, e_50, h⟩ := nmI_some h
          refine lv_iinc (v := x_49) (lv' := [(5, .int x_49), (4, .int x_47), (0, .ref x0)]) hx hb dX0_dig_160 hl (k := 2) rfl (by rw [e_50]; rfl) (by decide) rfl (fun ls hl => ?_)
          refine lv_goto (tgt := 114) hx hb dX0_dig_163 (by decide) ?_
          exact ih x_47 x_49 out cells slots _ _ _ h hW (lv_sub hl [2, 1, 0] rfl) (by omega) (by omega) hE hG k1
        · have h := if_f h c_46
          refine lv_aload_n hx hb dX0_dig_139 rfl (lv_at hl 0 rfl) ?_
          refine zw_getA S hW zC_X0 (i := 1) (by decide) (Or.inl q756) (fun _ h => h) dX0_dig_140 h (fun a_51 h => ?_)
          refine zw_getA S hW zC_X1 (i := 4) (by decide) (Or.inr ⟨_, nestW_in q674 rfl⟩) (fun _ h => h) dX0_dig_143 h (fun a_52 h => ?_)
          refine lv_iload hx hb dX0_dig_146 (lv_at hl 2 rfl) ?_
          refine zw_zald S hW dX0_dig_148 h (fun x_53 h => ?_)
          refine lv_if_ne (tgt := 156) hx hb dX0_dig_149 (by decide) (fun c_54 => ?_) (fun c_54 => ?_)
          · have h := if_f h c_54
            refine lv_iconst (v := 0) hx hb dX0_dig_156 (by decide) ?_
            refine lv_iadd hx hb dX0_dig_157 ?_
            obtain ⟨x_55, e_56, h⟩ := nmI_some h
            refine g_nmi e_56 ?_
            refine lv_istore (lv' := [(4, .int x_55), (0, .ref x0), (5, .int x5)]) hx hb dX0_dig_158 hl (by decide) rfl (fun ls hl => ?_)
            obtain ⟨x_57, e_58, h⟩ := nmI_some h
            refine lv_iinc (v := x_57) (lv' := [(5, .int x_57), (4, .int x_55), (0, .ref x0)]) hx hb dX0_dig_160 hl (k := 2) rfl (by rw [e_58]; rfl) (by decide) rfl (fun ls hl => ?_)
            refine lv_goto (tgt := 114) hx hb dX0_dig_163 (by decide) ?_
            exact ih x_55 x_57 out cells slots _ _ _ h hW (lv_sub hl [2, 1, 0] rfl) (by omega) (by omega) hE hG k1
          · have h := if_t h c_54
            refine lv_iconst (v := 1) hx hb dX0_dig_152 (by decide) ?_
            refine lv_goto (tgt := 157) hx hb dX0_dig_153 (by decide) ?_
            refine lv_iadd hx hb dX0_dig_157 ?_
            obtain ⟨x_59, e_60, h⟩ := nmI_some h
            refine g_nmi e_60 ?_
            refine lv_istore (lv' := [(4, .int x_59), (0, .ref x0), (5, .int x5)]) hx hb dX0_dig_158 hl (by decide) rfl (fun ls hl => ?_)
            obtain ⟨x_61, e_62, h⟩ := nmI_some h
            refine lv_iinc (v := x_61) (lv' := [(5, .int x_61), (4, .int x_59), (0, .ref x0)]) hx hb dX0_dig_160 hl (k := 2) rfl (by rw [e_62]; rfl) (by decide) rfl (fun ls hl => ?_)
            refine lv_goto (tgt := 114) hx hb dX0_dig_163 (by decide) ?_
            exact ih x_59 x_61 out cells slots _ _ _ h hW (lv_sub hl [2, 1, 0] rfl) (by omega) (by omega) hE hG k1
  unfold cm_X0_dig at h
  refine lv_bipush (v := 12) hx hb dX0_dig_0 (by decide) ?_
  refine lv_iload_n hx hb dX0_dig_2 rfl (lv_at hl 2 rfl) ?_
  refine lv_imul hx hb dX0_dig_3 ?_
  refine lv_iload_n hx hb dX0_dig_4 rfl (lv_at hl 1 rfl) ?_
  refine lv_iadd hx hb dX0_dig_5 ?_
  obtain ⟨x_1, e_2, h⟩ := nmI_some h
  refine g_nmi e_2 ?_
  refine lv_istore_n (lv' := [(3, .int x_1), (0, .ref a0), (1, .int a1), (2, .int a2)]) hx hb dX0_dig_6 rfl hl (by decide) rfl (fun ls hl => ?_)
  refine lv_iload_n hx hb dX0_dig_7 rfl (lv_at hl 2 rfl) ?_
  refine lv_iload_n hx hb dX0_dig_8 rfl (lv_at hl 3 rfl) ?_
  obtain ⟨x_5, h_3, h⟩ := bnd_some h
  refine d_callS (As := [.int a1, .int a2]) (rest := []) S hW (metX0_isCell h_3) (cwX0_isCell_S S.2.2.2.2 q1181 ⟨Nat.le_of_ble_eq_true rfl, Nat.le_of_ble_eq_true rfl⟩) rfl hl.1 rfl (Nat.le_of_ble_eq_true rfl) dX0_dig_9 ⟨(Nat.le_of_ble_eq_true rfl), (Nat.le_of_ble_eq_true rfl)⟩ rfl (fun H locs hW => ?_)
  refine lv_if_eq (tgt := 41) hx hb dX0_dig_12 (by decide) (fun c_6 => ?_) (fun c_6 => ?_)
  · have h := if_t h c_6
    refine lv_bipush (v := (-2)) hx hb dX0_dig_41 (by decide) ?_
    cases h
    exact d_iret S hr hlk hW (Nat.le_of_ble_eq_true rfl) (Nat.le_of_ble_eq_true rfl) dX0_dig_43
  · have h := if_f h c_6
    refine lv_aload_n hx hb dX0_dig_15 rfl (lv_at hl 1 rfl) ?_
    refine zw_getA S hW zC_X0 (i := 1) (by decide) (Or.inl q756) (fun _ h => h) dX0_dig_16 h (fun a_7 h => ?_)
    refine zw_getA S hW zC_X1 (i := 0) (by decide) (Or.inr ⟨_, nestW_in q667 rfl⟩) (fun _ h => h) dX0_dig_19 h (fun a_8 h => ?_)
    refine lv_iload_n hx hb dX0_dig_22 rfl (lv_at hl 0 rfl) ?_
    obtain ⟨⟨_, k_9⟩, h⟩ := zK_some h
    obtain ⟨x_12, h_10, h⟩ := bnd_some h
    refine d_callV (As := [.int x_1]) (rest := []) S hW (metX2_isShaft h_10) (cwX2_isShaft_V S.2.2.2.2 q1196 ⟨Nat.le_of_ble_eq_true rfl, Nat.le_of_ble_eq_true rfl⟩) k_9 rfl rfl hl.1 rfl (Nat.le_of_ble_eq_true rfl) dX0_dig_23 ⟨(Nat.le_of_ble_eq_true rfl), (Nat.le_of_ble_eq_true rfl)⟩ rfl (fun H locs hW => ?_)
    refine lv_if_eq (tgt := 41) hx hb dX0_dig_26 (by decide) (fun c_13 => ?_) (fun c_13 => ?_)
    · have h := if_t h c_13
      refine lv_bipush (v := (-2)) hx hb dX0_dig_41 (by decide) ?_
      cases h
      exact d_iret S hr hlk hW (Nat.le_of_ble_eq_true rfl) (Nat.le_of_ble_eq_true rfl) dX0_dig_43
    · have h := if_f h c_13
      refine lv_aload_n hx hb dX0_dig_29 rfl (lv_at hl 1 rfl) ?_
      refine zw_getA S hW zC_X0 (i := 1) (by decide) (Or.inl q756) (fun _ h => h) dX0_dig_30 h (fun a_14 h => ?_)
      refine zw_getA S hW zC_X1 (i := 4) (by decide) (Or.inr ⟨_, nestW_in q674 rfl⟩) (fun _ h => h) dX0_dig_33 h (fun a_15 h => ?_)
      refine lv_iload_n hx hb dX0_dig_36 rfl (lv_at hl 0 rfl) ?_
      refine zw_zald S hW dX0_dig_37 h (fun x_16 h => ?_)
      refine lv_if_eq (tgt := 44) hx hb dX0_dig_38 (by decide) (fun c_17 => ?_) (fun c_17 => ?_)
      · have h := if_t h c_17
        refine lv_aload_n hx hb dX0_dig_44 rfl (lv_at hl 1 rfl) ?_
        obtain ⟨⟨_, k_18⟩, h⟩ := zK_some h
        obtain ⟨x_21, Z_22, h_19, h⟩ := bnd2_some h
        refine d_callV (As := []) (rest := []) S hW (metX0_mayDig h_19) (cwX0_mayDig_V S.2.2.2.2 q1334 ⟨Nat.le_of_ble_eq_true rfl, Nat.le_of_ble_eq_true rfl⟩) k_18 rfl rfl hl.1 rfl (Nat.le_of_ble_eq_true rfl) dX0_dig_45 ⟨(Nat.le_of_ble_eq_true rfl), (Nat.le_of_ble_eq_true rfl)⟩ rfl (fun H locs hW => ?_)
        refine lv_if_ne (tgt := 54) hx hb dX0_dig_48 (by decide) (fun c_23 => ?_) (fun c_23 => ?_)
        · have h := if_f h c_23
          refine lv_aload_n hx hb dX0_dig_54 rfl (lv_at hl 1 rfl) ?_
          refine zw_getA S hW zC_X0 (i := 1) (by decide) (Or.inl q756) (fun _ h => h) dX0_dig_55 h (fun a_24 h => ?_)
          refine zw_getI S hW zC_X1 (i := 17) (by decide) (Or.inr ⟨_, nestW_in q700 rfl⟩) (fun _ h => h) dX0_dig_58 h (fun x_25 h => ?_)
          refine lv_if_eq (tgt := 67) hx hb dX0_dig_61 (by decide) (fun c_26 => ?_) (fun c_26 => ?_)
          · have h := if_t h c_26
            refine lv_aload_n hx hb dX0_dig_67 rfl (lv_at hl 1 rfl) ?_
            refine zw_getA S hW zC_X0 (i := 1) (by decide) (Or.inl q756) (fun _ h => h) dX0_dig_68 h (fun a_27 h => ?_)
            refine lv_dup hx hb dX0_dig_71 rfl ?_
            refine zw_getI S hW zC_X1 (i := 14) (by decide) (Or.inr ⟨_, nestW_in q694 rfl⟩) (fun _ h => h) dX0_dig_72 h (fun x_28 h => ?_)
            refine lv_aload_n hx hb dX0_dig_75 rfl (lv_at hl 1 rfl) ?_
            refine zw_getA S hW zC_X0 (i := 1) (by decide) (Or.inl q756) (fun _ h => h) dX0_dig_76 h (fun a_29 h => ?_)
            refine zw_getA S hW zC_X1 (i := 1) (by decide) (Or.inr ⟨_, nestW_in q669 rfl⟩) (fun _ h => h) dX0_dig_79 h (fun a_30 h => ?_)
            refine lv_iload_n hx hb dX0_dig_82 rfl (lv_at hl 0 rfl) ?_
            refine zw_iald S hW dX0_dig_83 h (fun x_31 h => ?_)
            refine lv_aload_n hx hb dX0_dig_84 rfl (lv_at hl 1 rfl) ?_
            refine zw_getA S hW zC_X0 (i := 1) (by decide) (Or.inl q756) (fun _ h => h) dX0_dig_85 h (fun a_32 h => ?_)
            refine zw_getA S hW zC_X1 (i := 2) (by decide) (Or.inr ⟨_, nestW_in q671 rfl⟩) (fun _ h => h) dX0_dig_88 h (fun a_33 h => ?_)
            refine lv_iload_n hx hb dX0_dig_91 rfl (lv_at hl 0 rfl) ?_
            refine zw_iald S hW dX0_dig_92 h (fun x_34 h => ?_)
            refine lv_isub hx hb dX0_dig_93 ?_
            refine lv_iadd hx hb dX0_dig_94 ?_
            refine zw_putI S hW zC_X1 (i := 14) (by decide) (Or.inl rfl) rfl rfl rfl (Or.inr ⟨_, nestW_in q694 rfl⟩) (fun _ h => h) dX0_dig_95 h (fun Z_35 h H locs hW => ?_)
            refine lv_aload_n hx hb dX0_dig_98 rfl (lv_at hl 1 rfl) ?_
            refine zw_getA S hW zC_X0 (i := 1) (by decide) (Or.inl q756) (fun _ h => h) dX0_dig_99 h (fun a_36 h => ?_)
            refine zw_getA S hW zC_X1 (i := 4) (by decide) (Or.inr ⟨_, nestW_in q674 rfl⟩) (fun _ h => h) dX0_dig_102 h (fun a_37 h => ?_)
            refine lv_iload_n hx hb dX0_dig_105 rfl (lv_at hl 0 rfl) ?_
            refine lv_iconst (v := 1) hx hb dX0_dig_106 (by decide) ?_
            refine zw_zast S hW (by decide) dX0_dig_107 h (fun Z_38 h H locs hW => ?_)
            refine lv_iconst (v := 0) hx hb dX0_dig_108 (by decide) ?_
            refine lv_istore (lv' := [(4, .int 0), (3, .int x_1), (0, .ref a0), (1, .int a1), (2, .int a2)]) hx hb dX0_dig_109 hl (by decide) rfl (fun ls hl => ?_)
            refine lv_iconst (v := 0) hx hb dX0_dig_111 (by decide) ?_
            refine lv_istore (lv' := [(5, .int 0), (4, .int 0), (3, .int x_1), (0, .ref a0), (1, .int a1), (2, .int a2)]) hx hb dX0_dig_112 hl (by decide) rfl (fun ls hl => ?_)
            obtain ⟨x_65, h_64, h⟩ := bnd_some h
            refine Lp114 a0 Z_38 3020 34820 1000 0 0  _ 3020 34820 _ _ _ h_64 hW (lv_sub hl [3, 1, 0] rfl) (by omega) (by omega) (by omega) (by omega) ?_
            intro w0 eo H locs ls hW hl
            subst eo
            refine lv_iload hx hb dX0_dig_166 (lv_at hl 0 rfl) ?_
            cases h
            exact d_iret S hr hlk hW (Nat.le_of_ble_eq_true rfl) (Nat.le_of_ble_eq_true rfl) dX0_dig_168
          · have h := if_f h c_26
            refine lv_bipush (v := (-7)) hx hb dX0_dig_64 (by decide) ?_
            cases h
            exact d_iret S hr hlk hW (Nat.le_of_ble_eq_true rfl) (Nat.le_of_ble_eq_true rfl) dX0_dig_66
        · have h := if_t h c_23
          refine lv_bipush (v := (-5)) hx hb dX0_dig_51 (by decide) ?_
          cases h
          exact d_iret S hr hlk hW (Nat.le_of_ble_eq_true rfl) (Nat.le_of_ble_eq_true rfl) dX0_dig_53
      · have h := if_f h c_17
        refine lv_bipush (v := (-2)) hx hb dX0_dig_41 (by decide) ?_
        cases h
        exact d_iret S hr hlk hW (Nat.le_of_ble_eq_true rfl) (Nat.le_of_ble_eq_true rfl) dX0_dig_43
