/-! walks of the component: X0_pipe X0_cracks X0_house X0_mayHave X0_frost X0_count -/
set_option maxRecDepth 100000
def cm_X0_pipe (Z0 : c_S) (a0 : Nat) (a1 : Int32) (a2 : Int32) : Option (Int32) :=
  zK Z0 a0 0 11 <| bnd (cm_X0_isPipe Z0 a0 a1) (fun x_4 => if x_4 = 0 then (some (-2000000000)) else (cA Z0.Sh a0 0 11 1 fun a_6 => cA Z0.Sh a_6 1 20 5 fun a_7 => zK Z0 a_7 14 3 <| bnd (cm_J2_get Z0 a_7 a1) (fun o_11 => zCk Z0 o_11 5 6 <| nn o_11 fun a_12 => if a2 = 0 then (cI Z0.Sh Z0.V a_12 5 6 0 fun x_14 => some x_14) else (if a2 = 1 then (cI Z0.Sh Z0.V a_12 5 6 1 fun x_16 => some x_16) else (if a2 = 2 then (cI Z0.Sh Z0.V a_12 5 6 2 fun x_18 => some x_18) else (if a2 = 3 then (cI Z0.Sh Z0.V a_12 5 6 3 fun x_20 => if x_20 = 0 then (some 0) else (some 1)) else (if a2 = 4 then (cI Z0.Sh Z0.V a_12 5 6 4 fun x_23 => some x_23) else (if a2 = 5 then (cI Z0.Sh Z0.V a_12 5 6 5 fun x_25 => some x_25) else (some (-2000000000))))))))))
abbrev rmX0_pipe : Room := rmD 3 64 0 0
set_option maxHeartbeats 4000000 in
theorem metX0_pipe {l : Launch} {gp : Nat → Nat} {D : va_G} {K : Nat → ClassId} {Z0 : c_S} {a0 : Nat} {a1 : Int32} {a2 : Int32} {r : Int32} (h : cm_X0_pipe Z0 a0 a1 a2 = some r) : Met l yX0_pipe (ws_ yX0_pipe cX0_pipe 4 (some .int)) rmX0_pipe (z_Pc gp [.ref a0, .int a1, .int a2] D K Z0) (z_Q (.returned (some (.int r))) D K (z_A Z0) Z0) 0 0 (z_A Z0) := by
  refine d_met rfl (Nat.le_of_ble_eq_true rfl) ?_
  intro p e s m below meth c ls S hr hlk hnm hl hW hsz
  have S : CallFix p m c cX0_pipe 4 s ([.ref a0, .int a1, .int a2] : List Value).toArray lw_all RX0 := S
  have hx := S.1
  have hb := S.2.1
  have hl : lv_has ls 4 [(0, .ref a0), (1, .int a1), (2, .int a2)] := hl
  have hnm : meth.name = "pipe" := hnm
  unfold cm_X0_pipe at h
  refine lv_aload_n hx hb dX0_pipe_0 rfl (lv_at hl 0 rfl) ?_
  refine lv_iload_n hx hb dX0_pipe_1 rfl (lv_at hl 1 rfl) ?_
  obtain ⟨⟨_, k_1⟩, h⟩ := zK_some h
  obtain ⟨x_4, h_2, h⟩ := bnd_some h
  refine d_callV (As := [.int a1]) (rest := []) S hW (metX0_isPipe h_2) (cwX0_isPipe_V S.2.2.2.2 q1209 ⟨Nat.le_of_ble_eq_true rfl, Nat.le_of_ble_eq_true rfl⟩) k_1 rfl rfl hl.1 rfl (Nat.le_of_ble_eq_true rfl) dX0_pipe_2 ⟨(Nat.le_of_ble_eq_true rfl), (Nat.le_of_ble_eq_true rfl)⟩ rfl (fun H locs hW => ?_)
  refine lv_if_ne (tgt := 11) hx hb dX0_pipe_5 (by decide) (fun c_5 => ?_) (fun c_5 => ?_)
  · have h := if_f h c_5
    refine lv_aload_n hx hb dX0_pipe_11 rfl (lv_at hl 0 rfl) ?_
    refine zw_getA S hW zC_X0 (i := 1) (by decide) (Or.inl q756) (fun _ h => h) dX0_pipe_12 h (fun a_6 h => ?_)
    refine zw_getA S hW zC_X1 (i := 5) (by decide) (Or.inr ⟨_, nestW_in q676 rfl⟩) (fun _ h => h) dX0_pipe_15 h (fun a_7 h => ?_)
    refine lv_iload_n hx hb dX0_pipe_18 rfl (lv_at hl 1 rfl) ?_
    obtain ⟨⟨_, k_8⟩, h⟩ := zK_some h
    obtain ⟨o_11, h_9, h⟩ := bnd_some h
    refine d_callF (As := [.int a1]) (rest := []) S hW (metJ2_get h_9) (cwJ2_get_F S.2.2.2.2 q1194 (hW.1.2.2.2.2.1.2.2.2.2.2.2.1 _ (List.mem_of_getElem? (i := 2) rfl)) ⟨Nat.le_of_ble_eq_true rfl, Nat.le_of_ble_eq_true rfl⟩) k_8 rfl rfl hl.1 rfl (Nat.le_of_ble_eq_true rfl) dX0_pipe_19 ⟨(Nat.le_of_ble_eq_true rfl), (Nat.le_of_ble_eq_true rfl)⟩ rfl (fun H locs hW => ?_)
    refine zw_ck (o := o_11) S hW zC_X5 q1195 dX0_pipe_24 h (fun h => ?_)
    have h9 := nn_some h
    clear h
    obtain ⟨a_12, rfl, h8⟩ := h9
    have h := h8
    clear h8
    refine lv_astore_n (lv' := [(3, .ref a_12), (0, .ref a0), (1, .int a1), (2, .int a2)]) hx hb dX0_pipe_27 rfl hl (by decide) rfl (fun ls hl => ?_)
    refine lv_iload_n hx hb dX0_pipe_28 rfl (lv_at hl 3 rfl) ?_
    by_cases c_13 : a2 = 0
    · have h := if_t h c_13
      refine lv_tableIn (off := 39) (tgt := 68) hx hb dX0_pipe_29 (by rw [c_13]; decide) (by rw [c_13]; decide) (by rw [c_13]; decide) (by decide) ?_
      refine lv_aload_n hx hb dX0_pipe_68 rfl (lv_at hl 0 rfl) ?_
      refine zw_getI S hW zC_X5 (i := 0) (by decide) (Or.inr ⟨_, nestW_in q537 rfl⟩) (fun _ h => h) dX0_pipe_69 h (fun x_14 h => ?_)
      cases h
      exact d_iret S hr hlk hW (Nat.le_of_ble_eq_true rfl) (Nat.le_of_ble_eq_true rfl) dX0_pipe_72
    have h := if_f h c_13
    by_cases c_15 : a2 = 1
    · have h := if_t h c_15
      refine lv_tableIn (off := 44) (tgt := 73) hx hb dX0_pipe_29 (by rw [c_15]; decide) (by rw [c_15]; decide) (by rw [c_15]; decide) (by decide) ?_
      refine lv_aload_n hx hb dX0_pipe_73 rfl (lv_at hl 0 rfl) ?_
      refine zw_getI S hW zC_X5 (i := 1) (by decide) (Or.inr ⟨_, nestW_in q541 rfl⟩) (fun _ h => h) dX0_pipe_74 h (fun x_16 h => ?_)
      cases h
      exact d_iret S hr hlk hW (Nat.le_of_ble_eq_true rfl) (Nat.le_of_ble_eq_true rfl) dX0_pipe_77
    have h := if_f h c_15
    by_cases c_17 : a2 = 2
    · have h := if_t h c_17
      refine lv_tableIn (off := 49) (tgt := 78) hx hb dX0_pipe_29 (by rw [c_17]; decide) (by rw [c_17]; decide) (by rw [c_17]; decide) (by decide) ?_
      refine lv_aload_n hx hb dX0_pipe_78 rfl (lv_at hl 0 rfl) ?_
      refine zw_getI S hW zC_X5 (i := 2) (by decide) (Or.inr ⟨_, nestW_in q544 rfl⟩) (fun _ h => h) dX0_pipe_79 h (fun x_18 h => ?_)
      cases h
      exact d_iret S hr hlk hW (Nat.le_of_ble_eq_true rfl) (Nat.le_of_ble_eq_true rfl) dX0_pipe_82
    have h := if_f h c_17
    by_cases c_19 : a2 = 3
    · have h := if_t h c_19
      refine lv_tableIn (off := 54) (tgt := 83) hx hb dX0_pipe_29 (by rw [c_19]; decide) (by rw [c_19]; decide) (by rw [c_19]; decide) (by decide) ?_
      refine lv_aload_n hx hb dX0_pipe_83 rfl (lv_at hl 0 rfl) ?_
      refine zw_getI S hW zC_X5 (i := 3) (by decide) (Or.inr ⟨_, nestW_in q547 rfl⟩) (fun _ h => h) dX0_pipe_84 h (fun x_20 h => ?_)
      refine lv_if_eq (tgt := 94) hx hb dX0_pipe_87 (by decide) (fun c_21 => ?_) (fun c_21 => ?_)
      · have h := if_t h c_21
        refine lv_iconst (v := 0) hx hb dX0_pipe_94 (by decide) ?_
        cases h
        exact d_iret S hr hlk hW (Nat.le_of_ble_eq_true rfl) (Nat.le_of_ble_eq_true rfl) dX0_pipe_95
      · have h := if_f h c_21
        refine lv_iconst (v := 1) hx hb dX0_pipe_90 (by decide) ?_
        refine lv_goto (tgt := 95) hx hb dX0_pipe_91 (by decide) ?_
        cases h
        exact d_iret S hr hlk hW (Nat.le_of_ble_eq_true rfl) (Nat.le_of_ble_eq_true rfl) dX0_pipe_95
    have h := if_f h c_19
    by_cases c_22 : a2 = 4
    · have h := if_t h c_22
      refine lv_tableIn (off := 67) (tgt := 96) hx hb dX0_pipe_29 (by rw [c_22]; decide) (by rw [c_22]; decide) (by rw [c_22]; decide) (by decide) ?_
      refine lv_aload_n hx hb dX0_pipe_96 rfl (lv_at hl 0 rfl) ?_
      refine zw_getI S hW zC_X5 (i := 4) (by decide) (Or.inr ⟨_, nestW_in q550 rfl⟩) (fun _ h => h) dX0_pipe_97 h (fun x_23 h => ?_)
      cases h
      exact d_iret S hr hlk hW (Nat.le_of_ble_eq_true rfl) (Nat.le_of_ble_eq_true rfl) dX0_pipe_100
    have h := if_f h c_22
    by_cases c_24 : a2 = 5
    · have h := if_t h c_24
      refine lv_tableIn (off := 72) (tgt := 101) hx hb dX0_pipe_29 (by rw [c_24]; decide) (by rw [c_24]; decide) (by rw [c_24]; decide) (by decide) ?_
      refine lv_aload_n hx hb dX0_pipe_101 rfl (lv_at hl 0 rfl) ?_
      refine zw_getI S hW zC_X5 (i := 5) (by decide) (Or.inr ⟨_, nestW_in q553 rfl⟩) (fun _ h => h) dX0_pipe_102 h (fun x_25 h => ?_)
      cases h
      exact d_iret S hr hlk hW (Nat.le_of_ble_eq_true rfl) (Nat.le_of_ble_eq_true rfl) dX0_pipe_105
    have h := if_f h c_24
    have c_13 := lv_neT (a := 0) c_13 (by decide)
    have c_15 := lv_neT (a := 1) c_15 (by decide)
    have c_17 := lv_neT (a := 2) c_17 (by decide)
    have c_19 := lv_neT (a := 3) c_19 (by decide)
    have c_22 := lv_neT (a := 4) c_22 (by decide)
    have c_24 := lv_neT (a := 5) c_24 (by decide)
    refine lv_tableOut (tgt := 106) hx hb dX0_pipe_29 (by omega) (by decide) ?_
    refine lv_ldc (v := (-2000000000)) hx hb S.2.2.2.1 (S.2.2.2.2 _ q1185) dX0_pipe_106 ?_
    cases h
    exact d_iret S hr hlk hW (Nat.le_of_ble_eq_true rfl) (Nat.le_of_ble_eq_true rfl) dX0_pipe_108
  · have h := if_t h c_5
    refine lv_ldc (v := (-2000000000)) hx hb S.2.2.2.1 (S.2.2.2.2 _ q1185) dX0_pipe_8 ?_
    cases h
    exact d_iret S hr hlk hW (Nat.le_of_ble_eq_true rfl) (Nat.le_of_ble_eq_true rfl) dX0_pipe_10
def cm_X0_cracks_B4 (x0 : Nat) (Z : c_S) (rec : Int32 → Int32 → Option (Int32)) (x1 : Int32) (x2 : Int32) : Option (Int32) :=
  cA Z.Sh x0 0 11 1 fun a_1 => cA Z.Sh a_1 1 20 6 fun a_2 => zK Z a_2 14 3 <| bnd (cm_J2_size Z a_2) (fun x_6 => if x_6 ≤ x2 then (some x1) else (cA Z.Sh x0 0 11 1 fun a_8 => cA Z.Sh a_8 1 20 6 fun a_9 => zK Z a_9 14 3 <| bnd (cm_J2_get Z a_9 x2) (fun o_13 => zCk Z o_13 6 3 <| nn o_13 fun a_14 => cI Z.Sh Z.V a_14 6 3 2 fun x_15 => if x_15 = (-1) then (nmI (x1 ||| 0) fun x_17 => nmI (x2 + 1) fun x_19 => rec x_17 x_19) else (nmI (x1 ||| ((1 : Int32) <<< (x2 &&& 31))) fun x_21 => nmI (x2 + 1) fun x_23 => rec x_21 x_23))))
abbrev cm_X0_cracks_F4 (x0 : Nat) (Z : c_S) : (((Int32) × (Int32)) → Option (Int32)) → ((Int32) × (Int32)) → Option (Int32) := fun rec s => cm_X0_cracks_B4 x0 Z (fun x1 x2 => rec (x1, x2)) s.1 s.2
def cm_X0_cracks_L4 (x0 : Nat) (Z : c_S) (n : Nat) (x1 : Int32) (x2 : Int32) : Option (Int32) := lp (cm_X0_cracks_F4 x0 Z) n (x1, x2)
theorem cm_X0_cracks_L4_s (x0 : Nat) (Z : c_S) (n : Nat) (x1 : Int32) (x2 : Int32) : cm_X0_cracks_L4 x0 Z (n + 1) x1 x2 = cm_X0_cracks_B4 x0 Z (fun x1 x2 => cm_X0_cracks_L4 x0 Z n x1 x2) x1 x2 := lp_s (cm_X0_cracks_F4 x0 Z) n (x1, x2)
def cm_X0_cracks (Z0 : c_S) (a0 : Nat) : Option (Int32) :=
  bnd (cm_X0_cracks_L4 a0 Z0 1000 0 0) (fun x_27 => some x_27)
abbrev rmX0_cracks : Room := rmD 3 64 0 0
set_option maxHeartbeats 4000000 in
theorem metX0_cracks {l : Launch} {gp : Nat → Nat} {D : va_G} {K : Nat → ClassId} {Z0 : c_S} {a0 : Nat} {r : Int32} (h : cm_X0_cracks Z0 a0 = some r) : Met l yX0_cracks (ws_ yX0_cracks cX0_cracks 3 (some .int)) rmX0_cracks (z_Pc gp [.ref a0] D K Z0) (z_Q (.returned (some (.int r))) D K (z_A Z0) Z0) 0 0 (z_A Z0) := by
  refine d_met rfl (Nat.le_of_ble_eq_true rfl) ?_
  intro p e s m below meth c ls S hr hlk hnm hl hW hsz
  have S : CallFix p m c cX0_cracks 3 s ([.ref a0] : List Value).toArray lw_all RX0 := S
  have hx := S.1
  have hb := S.2.1
  have hl : lv_has ls 3 [(0, .ref a0)] := hl
  have hnm : meth.name = "cracks" := hnm
  have Lp4 : ∀ (x0 : Nat) (Z : c_S) (n : Nat) (x1 : Int32) (x2 : Int32) (out : (Int32)) (H : Heap) (locs : List Loc) (ls : Array Slot), cm_X0_cracks_L4 x0 Z n x1 x2 = some out → z_W gp D K (z_A Z0) s Z H locs → lv_has ls 3 [(0, .ref x0), (1, .int x1), (2, .int x2)] → (∀ (o1 : Int32), out = o1 → ∀ (H : Heap) (locs : List Loc) (ls : Array Slot), z_W gp D K (z_A Z0) s Z H locs → lv_has ls 3 [(1, .int o1)] → W p l e rmX0_cracks s m ([.ref a0] : List Value).toArray below meth c H locs 0 0 (MQ below (z_Q (.returned (some (.int r))) D K (z_A Z0) Z0) ([.ref a0] : List Value).toArray s 0 0 (z_A Z0)) (F0 m 59 ls [])) → W p l e rmX0_cracks s m ([.ref a0] : List Value).toArray below meth c H locs 0 0 (MQ below (z_Q (.returned (some (.int r))) D K (z_A Z0) Z0) ([.ref a0] : List Value).toArray s 0 0 (z_A Z0)) (F0 m 4 ls []) := by
    intro x0 Z n
    induction n with
    | zero =>
      intro x1 x2 out H locs ls h
      exact (lp_0 h).elim
    | succ n ih =>
      intro x1 x2 out H locs ls h hW hl k1
      rw [cm_X0_cracks_L4_s] at h
      unfold cm_X0_cracks_B4 at h
      refine lv_iload_n hx hb dX0_cracks_4 rfl (lv_at hl 2 rfl) ?_
      refine lv_aload_n hx hb dX0_cracks_5 rfl (lv_at hl 0 rfl) ?_
      refine zw_getA S hW zC_X0 (i := 1) (by decide) (Or.inl q756) (fun _ h => h) dX0_cracks_6 h (fun a_1 h => ?_)
      refine zw_getA S hW zC_X1 (i := 6) (by decide) (Or.inr ⟨_, nestW_in q678 rfl⟩) (fun _ h => h) dX0_cracks_9 h (fun a_2 h => ?_)
      obtain ⟨⟨_, k_3⟩, h⟩ := zK_some h
      obtain ⟨x_6, h_4, h⟩ := bnd_some h
      refine d_callF (As := []) (rest := [.int x2]) S hW (metJ2_size h_4) (cwJ2_size_F S.2.2.2.2 q1192 (hW.1.2.2.2.2.1.2.2.2.2.2.2.1 _ (List.mem_of_getElem? (i := 1) rfl)) ⟨Nat.le_of_ble_eq_true rfl, Nat.le_of_ble_eq_true rfl⟩) k_3 rfl rfl hl.1 rfl (Nat.le_of_ble_eq_true rfl) dX0_cracks_12 ⟨(Nat.le_of_ble_eq_true rfl), (Nat.le_of_ble_eq_true rfl)⟩ rfl (fun H locs hW => ?_)
      refine lv_icmp_ge (tgt := 59) hx hb dX0_cracks_17 (by decide) (fun c_7 => ?_) (fun c_7 => ?_)
      · have h := if_t h c_7
        exact k1 _ (Option.some.inj h).symm _ _ _ hW (lv_sub hl [1] rfl)
      · have h := if_f h c_7
        refine lv_iload_n hx hb dX0_cracks_20 rfl (lv_at hl 1 rfl) ?_
        refine lv_aload_n hx hb dX0_cracks_21 rfl (lv_at hl 0 rfl) ?_
        refine zw_getA S hW zC_X0 (i := 1) (by decide) (Or.inl q756) (fun _ h => h) dX0_cracks_22 h (fun a_8 h => ?_)
        refine zw_getA S hW zC_X1 (i := 6) (by decide) (Or.inr ⟨_, nestW_in q678 rfl⟩) (fun _ h => h) dX0_cracks_25 h (fun a_9 h => ?_)
        refine lv_iload_n hx hb dX0_cracks_28 rfl (lv_at hl 2 rfl) ?_
        obtain ⟨⟨_, k_10⟩, h⟩ := zK_some h
        obtain ⟨o_13, h_11, h⟩ := bnd_some h
        refine d_callF (As := [.int x2]) (rest := [.int x1]) S hW (metJ2_get h_11) (cwJ2_get_F S.2.2.2.2 q1194 (hW.1.2.2.2.2.1.2.2.2.2.2.2.1 _ (List.mem_of_getElem? (i := 2) rfl)) ⟨Nat.le_of_ble_eq_true rfl, Nat.le_of_ble_eq_true rfl⟩) k_10 rfl rfl hl.1 rfl (Nat.le_of_ble_eq_true rfl) dX0_cracks_29 ⟨(Nat.le_of_ble_eq_true rfl), (Nat.le_of_ble_eq_true rfl)⟩ rfl (fun H locs hW => ?_)
        refine zw_ck (o := o_13) S hW zC_X6 q1389 dX0_cracks_34 h (fun h => ?_)
        have h9 := nn_some h
        clear h
        obtain ⟨a_14, rfl, h8⟩ := h9
        have h := h8
        clear h8
        refine zw_getI S hW zC_X6 (i := 2) (by decide) (Or.inr ⟨_, nestW_in q656 rfl⟩) (fun _ h => h) dX0_cracks_37 h (fun x_15 h => ?_)
        refine lv_iconst (v := (-1)) hx hb dX0_cracks_40 (by decide) ?_
        refine lv_icmp_eq (tgt := 50) hx hb dX0_cracks_41 (by decide) (fun c_16 => ?_) (fun c_16 => ?_)
        · have h := if_t h c_16
          refine lv_iconst (v := 0) hx hb dX0_cracks_50 (by decide) ?_
          refine lv_ior hx hb dX0_cracks_51 ?_
          obtain ⟨x_17, e_18, h⟩ := nmI_some h
          refine g_nmi e_18 ?_
          refine lv_istore_n (lv' := [(1, .int x_17), (0, .ref x0), (2, .int x2)]) hx hb dX0_cracks_52 rfl hl (by decide) rfl (fun ls hl => ?_)
          obtain ⟨x_19, e_20, h⟩ := nmI_some h
          refine lv_iinc (v := x_19) (lv' := [(2, .int x_19), (1, .int x_17), (0, .ref x0)]) hx hb dX0_cracks_53 hl (k := 2) rfl (by rw [e_20]; rfl) (by decide) rfl (fun ls hl => ?_)
          refine lv_goto (tgt := 4) hx hb dX0_cracks_56 (by decide) ?_
          exact ih x_17 x_19 out _ _ _ h hW (lv_sub hl [2, 1, 0] rfl) k1
        · have h := if_f h c_16
          refine lv_iconst (v := 1) hx hb dX0_cracks_44 (by decide) ?_
          refine lv_iload_n hx hb dX0_cracks_45 rfl (lv_at hl 2 rfl) ?_
          refine lv_ishl hx hb dX0_cracks_46 ?_
          refine lv_goto (tgt := 51) hx hb dX0_cracks_47 (by decide) ?_
          refine lv_ior hx hb dX0_cracks_51 ?_
          obtain ⟨x_21, e_22, h⟩ := nmI_some h
          refine g_nmi e_22 ?_
          refine lv_istore_n (lv' := [(1, .int x_21), (0, .ref x0), (2, .int x2)]) hx hb dX0_cracks_52 rfl hl (by decide) rfl (fun ls hl => ?_)
          obtain ⟨x_23, e_24, h⟩ := nmI_some h
          refine lv_iinc (v := x_23) (lv' := [(2, .int x_23), (1, .int x_21), (0, .ref x0)]) hx hb dX0_cracks_53 hl (k := 2) rfl (by rw [e_24]; rfl) (by decide) rfl (fun ls hl => ?_)
          refine lv_goto (tgt := 4) hx hb dX0_cracks_56 (by decide) ?_
          exact ih x_21 x_23 out _ _ _ h hW (lv_sub hl [2, 1, 0] rfl) k1
  unfold cm_X0_cracks at h
  refine lv_iconst (v := 0) hx hb dX0_cracks_0 (by decide) ?_
  refine lv_istore_n (lv' := [(1, .int 0), (0, .ref a0)]) hx hb dX0_cracks_1 rfl hl (by decide) rfl (fun ls hl => ?_)
  refine lv_iconst (v := 0) hx hb dX0_cracks_2 (by decide) ?_
  refine lv_istore_n (lv' := [(2, .int 0), (1, .int 0), (0, .ref a0)]) hx hb dX0_cracks_3 rfl hl (by decide) rfl (fun ls hl => ?_)
  obtain ⟨x_27, h_26, h⟩ := bnd_some h
  refine Lp4 a0 Z0 1000 0 0  _ _ _ _ h_26 hW (lv_sub hl [2, 1, 0] rfl) ?_
  intro w0 eo H locs ls hW hl
  subst eo
  refine lv_iload_n hx hb dX0_cracks_59 rfl (lv_at hl 0 rfl) ?_
  cases h
  exact d_iret S hr hlk hW (Nat.le_of_ble_eq_true rfl) (Nat.le_of_ble_eq_true rfl) dX0_cracks_60
def cm_X0_house (Z0 : c_S) (a0 : Nat) (a1 : Int32) (a2 : Int32) : Option (Int32) :=
  cA Z0.Sh a0 0 11 1 fun a_1 => cA Z0.Sh a_1 1 20 6 fun a_2 => zK Z0 a_2 14 3 <| bnd (cm_J2_size Z0 a_2) (fun x_6 => bnd (cm_X0_in a1.toInt64 0 ((x_6 - 1).toInt64)) (fun x_9 => if x_9 = 0 then (some (-2000000000)) else (cA Z0.Sh a0 0 11 1 fun a_11 => cA Z0.Sh a_11 1 20 6 fun a_12 => zK Z0 a_12 14 3 <| bnd (cm_J2_get Z0 a_12 a1) (fun o_16 => zCk Z0 o_16 6 3 <| nn o_16 fun a_17 => if a2 = 0 then (cI Z0.Sh Z0.V a_17 6 3 0 fun x_23 => some x_23) else (if a2 = 1 then (cI Z0.Sh Z0.V a_17 6 3 1 fun x_22 => some x_22) else (if a2 = 2 then (cI Z0.Sh Z0.V a_17 6 3 2 fun x_21 => some x_21) else (some (-2000000000))))))))
abbrev rmX0_house : Room := rmD 3 64 0 0
set_option maxHeartbeats 4000000 in
theorem metX0_house {l : Launch} {gp : Nat → Nat} {D : va_G} {K : Nat → ClassId} {Z0 : c_S} {a0 : Nat} {a1 : Int32} {a2 : Int32} {r : Int32} (h : cm_X0_house Z0 a0 a1 a2 = some r) : Met l yX0_house (ws_ yX0_house cX0_house 4 (some .int)) rmX0_house (z_Pc gp [.ref a0, .int a1, .int a2] D K Z0) (z_Q (.returned (some (.int r))) D K (z_A Z0) Z0) 0 0 (z_A Z0) := by
  refine d_met rfl (Nat.le_of_ble_eq_true rfl) ?_
  intro p e s m below meth c ls S hr hlk hnm hl hW hsz
  have S : CallFix p m c cX0_house 4 s ([.ref a0, .int a1, .int a2] : List Value).toArray lw_all RX0 := S
  have hx := S.1
  have hb := S.2.1
  have hl : lv_has ls 4 [(0, .ref a0), (1, .int a1), (2, .int a2)] := hl
  have hnm : meth.name = "house" := hnm
  unfold cm_X0_house at h
  refine lv_iload_n hx hb dX0_house_0 rfl (lv_at hl 1 rfl) ?_
  refine lv_i2l (v := a1.toInt64) hx hb dX0_house_1 rfl ?_
  refine lv_lconst (v := 0) hx hb dX0_house_2 (by decide) ?_
  refine lv_aload_n hx hb dX0_house_3 rfl (lv_at hl 0 rfl) ?_
  refine zw_getA S hW zC_X0 (i := 1) (by decide) (Or.inl q756) (fun _ h => h) dX0_house_4 h (fun a_1 h => ?_)
  refine zw_getA S hW zC_X1 (i := 6) (by decide) (Or.inr ⟨_, nestW_in q678 rfl⟩) (fun _ h => h) dX0_house_7 h (fun a_2 h => ?_)
  obtain ⟨⟨_, k_3⟩, h⟩ := zK_some h
  obtain ⟨x_6, h_4, h⟩ := bnd_some h
  refine d_callF (As := []) (rest := [.long 0, .long a1.toInt64]) S hW (metJ2_size h_4) (cwJ2_size_F S.2.2.2.2 q1192 (hW.1.2.2.2.2.1.2.2.2.2.2.2.1 _ (List.mem_of_getElem? (i := 1) rfl)) ⟨Nat.le_of_ble_eq_true rfl, Nat.le_of_ble_eq_true rfl⟩) k_3 rfl rfl hl.1 rfl (Nat.le_of_ble_eq_true rfl) dX0_house_10 ⟨(Nat.le_of_ble_eq_true rfl), (Nat.le_of_ble_eq_true rfl)⟩ rfl (fun H locs hW => ?_)
  refine lv_iconst (v := 1) hx hb dX0_house_15 (by decide) ?_
  refine lv_isub hx hb dX0_house_16 ?_
  refine lv_i2l (v := (x_6 - 1).toInt64) hx hb dX0_house_17 rfl ?_
  obtain ⟨x_9, h_7, h⟩ := bnd_some h
  refine d_callS (As := [.long a1.toInt64, .long 0, .long ((x_6 - 1).toInt64)]) (rest := []) S hW (metX0_in h_7) (cwX0_in_S S.2.2.2.2 q149 ⟨Nat.le_of_ble_eq_true rfl, Nat.le_of_ble_eq_true rfl⟩) rfl hl.1 rfl (Nat.le_of_ble_eq_true rfl) dX0_house_18 ⟨(Nat.le_of_ble_eq_true rfl), (Nat.le_of_ble_eq_true rfl)⟩ rfl (fun H locs hW => ?_)
  refine lv_if_ne (tgt := 27) hx hb dX0_house_21 (by decide) (fun c_10 => ?_) (fun c_10 => ?_)
  · have h := if_f h c_10
    refine lv_aload_n hx hb dX0_house_27 rfl (lv_at hl 0 rfl) ?_
    refine zw_getA S hW zC_X0 (i := 1) (by decide) (Or.inl q756) (fun _ h => h) dX0_house_28 h (fun a_11 h => ?_)
    refine zw_getA S hW zC_X1 (i := 6) (by decide) (Or.inr ⟨_, nestW_in q678 rfl⟩) (fun _ h => h) dX0_house_31 h (fun a_12 h => ?_)
    refine lv_iload_n hx hb dX0_house_34 rfl (lv_at hl 1 rfl) ?_
    obtain ⟨⟨_, k_13⟩, h⟩ := zK_some h
    obtain ⟨o_16, h_14, h⟩ := bnd_some h
    refine d_callF (As := [.int a1]) (rest := []) S hW (metJ2_get h_14) (cwJ2_get_F S.2.2.2.2 q1194 (hW.1.2.2.2.2.1.2.2.2.2.2.2.1 _ (List.mem_of_getElem? (i := 2) rfl)) ⟨Nat.le_of_ble_eq_true rfl, Nat.le_of_ble_eq_true rfl⟩) k_13 rfl rfl hl.1 rfl (Nat.le_of_ble_eq_true rfl) dX0_house_35 ⟨(Nat.le_of_ble_eq_true rfl), (Nat.le_of_ble_eq_true rfl)⟩ rfl (fun H locs hW => ?_)
    refine zw_ck (o := o_16) S hW zC_X6 q1389 dX0_house_40 h (fun h => ?_)
    have h9 := nn_some h
    clear h
    obtain ⟨a_17, rfl, h8⟩ := h9
    have h := h8
    clear h8
    refine lv_astore_n (lv' := [(3, .ref a_17), (0, .ref a0), (1, .int a1), (2, .int a2)]) hx hb dX0_house_43 rfl hl (by decide) rfl (fun ls hl => ?_)
    refine lv_iload_n hx hb dX0_house_44 rfl (lv_at hl 3 rfl) ?_
    refine lv_if_ne (tgt := 55) hx hb dX0_house_45 (by decide) (fun c_18 => ?_) (fun c_18 => ?_)
    · have h := if_f h c_18
      refine lv_iload_n hx hb dX0_house_55 rfl (lv_at hl 3 rfl) ?_
      refine lv_iconst (v := 1) hx hb dX0_house_56 (by decide) ?_
      refine lv_icmp_ne (tgt := 67) hx hb dX0_house_57 (by decide) (fun c_19 => ?_) (fun c_19 => ?_)
      · have h := if_f h c_19
        refine lv_iload_n hx hb dX0_house_67 rfl (lv_at hl 3 rfl) ?_
        refine lv_iconst (v := 2) hx hb dX0_house_68 (by decide) ?_
        refine lv_icmp_ne (tgt := 79) hx hb dX0_house_69 (by decide) (fun c_20 => ?_) (fun c_20 => ?_)
        · have h := if_f h c_20
          refine lv_ldc (v := (-2000000000)) hx hb S.2.2.2.1 (S.2.2.2.2 _ q1185) dX0_house_79 ?_
          cases h
          exact d_iret S hr hlk hW (Nat.le_of_ble_eq_true rfl) (Nat.le_of_ble_eq_true rfl) dX0_house_81
        · have h := if_t h c_20
          refine lv_aload_n hx hb dX0_house_72 rfl (lv_at hl 0 rfl) ?_
          refine zw_getI S hW zC_X6 (i := 2) (by decide) (Or.inr ⟨_, nestW_in q656 rfl⟩) (fun _ h => h) dX0_house_73 h (fun x_21 h => ?_)
          refine lv_goto (tgt := 81) hx hb dX0_house_76 (by decide) ?_
          cases h
          exact d_iret S hr hlk hW (Nat.le_of_ble_eq_true rfl) (Nat.le_of_ble_eq_true rfl) dX0_house_81
      · have h := if_t h c_19
        refine lv_aload_n hx hb dX0_house_60 rfl (lv_at hl 0 rfl) ?_
        refine zw_getI S hW zC_X6 (i := 1) (by decide) (Or.inr ⟨_, nestW_in q653 rfl⟩) (fun _ h => h) dX0_house_61 h (fun x_22 h => ?_)
        refine lv_goto (tgt := 81) hx hb dX0_house_64 (by decide) ?_
        cases h
        exact d_iret S hr hlk hW (Nat.le_of_ble_eq_true rfl) (Nat.le_of_ble_eq_true rfl) dX0_house_81
    · have h := if_t h c_18
      refine lv_aload_n hx hb dX0_house_48 rfl (lv_at hl 0 rfl) ?_
      refine zw_getI S hW zC_X6 (i := 0) (by decide) (Or.inr ⟨_, nestW_in q650 rfl⟩) (fun _ h => h) dX0_house_49 h (fun x_23 h => ?_)
      refine lv_goto (tgt := 81) hx hb dX0_house_52 (by decide) ?_
      cases h
      exact d_iret S hr hlk hW (Nat.le_of_ble_eq_true rfl) (Nat.le_of_ble_eq_true rfl) dX0_house_81
  · have h := if_t h c_10
    refine lv_ldc (v := (-2000000000)) hx hb S.2.2.2.1 (S.2.2.2.2 _ q1185) dX0_house_24 ?_
    cases h
    exact d_iret S hr hlk hW (Nat.le_of_ble_eq_true rfl) (Nat.le_of_ble_eq_true rfl) dX0_house_26
def cm_X0_mayHave_B71 (x0 : Nat) (x1 : Nat) (x3 : Int32) (Z : c_S) (rec : Int32 → Int32 → Option (Int32)) (x2 : Int32) (x4 : Int32) : Option (Int32) :=
  if x3 ≤ x4 then (some x2) else (if x2 = 0 then (nmI (x4 + 1) fun x_9 => rec 0 x_9) else (zK Z x1 7 1 <| bnd (cm_X7_number Z x1 x4) (fun x_14 => zK Z x1 7 1 <| bnd (cm_X7_number Z x1 x3) (fun x_18 => if (lg_cmp x_14 x_18) = 0 then (nmI (x4 + 1) fun x_20 => rec 0 x_20) else (nmI (x4 + 1) fun x_22 => rec 1 x_22)))))
abbrev cm_X0_mayHave_F71 (x0 : Nat) (x1 : Nat) (x3 : Int32) (Z : c_S) : (((Int32) × (Int32)) → Option (Int32)) → ((Int32) × (Int32)) → Option (Int32) := fun rec s => cm_X0_mayHave_B71 x0 x1 x3 Z (fun x2 x4 => rec (x2, x4)) s.1 s.2
def cm_X0_mayHave_L71 (x0 : Nat) (x1 : Nat) (x3 : Int32) (Z : c_S) (n : Nat) (x2 : Int32) (x4 : Int32) : Option (Int32) := lp (cm_X0_mayHave_F71 x0 x1 x3 Z) n (x2, x4)
theorem cm_X0_mayHave_L71_s (x0 : Nat) (x1 : Nat) (x3 : Int32) (Z : c_S) (n : Nat) (x2 : Int32) (x4 : Int32) : cm_X0_mayHave_L71 x0 x1 x3 Z (n + 1) x2 x4 = cm_X0_mayHave_B71 x0 x1 x3 Z (fun x2 x4 => cm_X0_mayHave_L71 x0 x1 x3 Z n x2 x4) x2 x4 := lp_s (cm_X0_mayHave_F71 x0 x1 x3 Z) n (x2, x4)
def cm_X0_mayHave_J67 (rec : Int32 → Int32 → Option (Int32)) (x0 : Nat) (x1 : Nat) (y3 : Int32) (z0 : Int32) (Z : c_S) : Option (Int32) :=
  bnd (cm_X0_mayHave_L71 x0 x1 y3 Z 1000 z0 0) (fun x_26 => nmI (y3 + 1) fun x_27 => rec x_26 x_27)
def cm_X0_mayHave_J66 (rec : Int32 → Int32 → Option (Int32)) (x0 : Nat) (x1 : Nat) (y3 : Int32) (Z : c_S) : Option (Int32) :=
  cm_X0_mayHave_J67 rec x0 x1 y3 0 Z
def cm_X0_mayHave_B4 (x0 : Nat) (x1 : Nat) (Z : c_S) (rec : Int32 → Int32 → Option (Int32)) (x2 : Int32) (x3 : Int32) : Option (Int32) :=
  zK Z x1 7 1 <| bnd (cm_X7_many Z x1) (fun x_4 => if x_4 ≤ x3 then (some x2) else (if x2 = 0 then (cm_X0_mayHave_J66 rec x0 x1 x3 Z) else (zK Z x1 7 1 <| bnd (cm_X7_number Z x1 x3) (fun x_32 => bnd (cm_X0_in x_32 0 143) (fun x_35 => if x_35 = 0 then (cm_X0_mayHave_J66 rec x0 x1 x3 Z) else (zK Z x1 7 1 <| bnd (cm_X7_number Z x1 x3) (fun x_40 => zK Z x0 0 11 <| bnd (cm_X0_pipeAt Z x0 x_40.toInt32) (fun x_44 => if x_44 = (-1) then (cA Z.Sh x0 0 11 1 fun a_46 => cA Z.Sh a_46 1 20 4 fun a_47 => zK Z x1 7 1 <| bnd (cm_X7_number Z x1 x3) (fun x_51 => caI Z.Sh Z.V 2 a_47 x_51.toInt32 fun x_52 => if x_52 = 0 then (cm_X0_mayHave_J67 rec x0 x1 x3 1 Z) else (cm_X0_mayHave_J66 rec x0 x1 x3 Z))) else (cm_X0_mayHave_J66 rec x0 x1 x3 Z)))))))))
abbrev cm_X0_mayHave_F4 (x0 : Nat) (x1 : Nat) (Z : c_S) : (((Int32) × (Int32)) → Option (Int32)) → ((Int32) × (Int32)) → Option (Int32) := fun rec s => cm_X0_mayHave_B4 x0 x1 Z (fun x2 x3 => rec (x2, x3)) s.1 s.2
def cm_X0_mayHave_L4 (x0 : Nat) (x1 : Nat) (Z : c_S) (n : Nat) (x2 : Int32) (x3 : Int32) : Option (Int32) := lp (cm_X0_mayHave_F4 x0 x1 Z) n (x2, x3)
theorem cm_X0_mayHave_L4_s (x0 : Nat) (x1 : Nat) (Z : c_S) (n : Nat) (x2 : Int32) (x3 : Int32) : cm_X0_mayHave_L4 x0 x1 Z (n + 1) x2 x3 = cm_X0_mayHave_B4 x0 x1 Z (fun x2 x3 => cm_X0_mayHave_L4 x0 x1 Z n x2 x3) x2 x3 := lp_s (cm_X0_mayHave_F4 x0 x1 Z) n (x2, x3)
def cm_X0_mayHave (Z0 : c_S) (a0 : Nat) (a1 : Nat) : Option (Int32) :=
  bnd (cm_X0_mayHave_L4 a0 a1 Z0 1000 1 0) (fun x_56 => okI (isB x_56) <| some x_56)
abbrev rmX0_mayHave : Room := rmD 4 86 0 0
theorem cwX7_many_V {own : String} {R : Room} {s : State} {args : Array Value} {index : Nat} (hts : ∀ w ∈ lw_all, w.before args s = true) (hl : Cond.methodLink own index yX7_many ∈ lw_all) (hR : rmX7_many.frames + 1 ≤ R.frames ∧ 8 + (1 + 11) + rmX7_many.locals ≤ R.locals) : CallW R s args own RX7 index yX7_many cX7_many 1 (some .int) (ws_ yX7_many cX7_many 1 (some .int)) rmX7_many 0 0 0 := cwV 0 hts (lw_V hl q1413 q1414 q121 q1415) rfl rfl rfl (by decide +kernel) hR
theorem cwX7_number_V {own : String} {R : Room} {s : State} {args : Array Value} {index : Nat} (hts : ∀ w ∈ lw_all, w.before args s = true) (hl : Cond.methodLink own index yX7_number ∈ lw_all) (hR : rmX7_number.frames + 1 ≤ R.frames ∧ 8 + (2 + 11) + rmX7_number.locals ≤ R.locals) : CallW R s args own RX7 index yX7_number cX7_number 2 (some .long) (ws_ yX7_number cX7_number 2 (some .long)) rmX7_number 0 0 1 := cwV 1 hts (lw_V hl q1421 q1422 q121 q1423) rfl rfl rfl (by decide +kernel) hR
theorem cwX0_pipeAt_V {own : String} {R : Room} {s : State} {args : Array Value} {index : Nat} (hts : ∀ w ∈ lw_all, w.before args s = true) (hl : Cond.methodLink own index yX0_pipeAt ∈ lw_all) (hR : rmX0_pipeAt.frames + 1 ≤ R.frames ∧ 8 + (3 + 11) + rmX0_pipeAt.locals ≤ R.locals) : CallW R s args own RX0 index yX0_pipeAt cX0_pipeAt 3 (some .int) (ws_ yX0_pipeAt cX0_pipeAt 3 (some .int)) rmX0_pipeAt 0 0 1 := cwV 1 hts (lw_V hl q1189 qs37 q105 q1190) rfl rfl rfl (by decide +kernel) hR
set_option maxHeartbeats 4000000 in
theorem metX0_mayHave {l : Launch} {gp : Nat → Nat} {D : va_G} {K : Nat → ClassId} {Z0 : c_S} {a0 : Nat} {a1 : Nat} {r : Int32} (h : cm_X0_mayHave Z0 a0 a1 = some r) : Met l yX0_mayHave (ws_ yX0_mayHave cX0_mayHave 5 (some .boolean)) rmX0_mayHave (z_Pc gp [.ref a0, .ref a1] D K Z0) (z_Q (.returned (some (.int r))) D K (z_A Z0) Z0) 0 0 (z_A Z0) := by
  refine d_met rfl (Nat.le_of_ble_eq_true rfl) ?_
  intro p e s m below meth c ls S hr hlk hnm hl hW hsz
  have S : CallFix p m c cX0_mayHave 5 s ([.ref a0, .ref a1] : List Value).toArray lw_all RX0 := S
  have hx := S.1
  have hb := S.2.1
  have hl : lv_has ls 5 [(0, .ref a0), (1, .ref a1)] := hl
  have hnm : meth.name = "mayHave" := hnm
  have Lp71 : ∀ (x0 : Nat) (x1 : Nat) (x3 : Int32) (Z : c_S) (n : Nat) (x2 : Int32) (x4 : Int32) (out : (Int32)) (H : Heap) (locs : List Loc) (ls : Array Slot), cm_X0_mayHave_L71 x0 x1 x3 Z n x2 x4 = some out → z_W gp D K (z_A Z0) s Z H locs → lv_has ls 5 [(0, .ref x0), (1, .ref x1), (2, .int x2), (3, .int x3), (4, .int x4)] → (∀ (o2 : Int32), out = o2 → ∀ (H : Heap) (locs : List Loc) (ls : Array Slot), z_W gp D K (z_A Z0) s Z H locs → lv_has ls 5 [(0, .ref x0), (1, .ref x1), (2, .int o2), (3, .int x3)] → W p l e rmX0_mayHave s m ([.ref a0, .ref a1] : List Value).toArray below meth c H locs 0 0 (MQ below (z_Q (.returned (some (.int r))) D K (z_A Z0) Z0) ([.ref a0, .ref a1] : List Value).toArray s 0 0 (z_A Z0)) (F0 m 108 ls [])) → W p l e rmX0_mayHave s m ([.ref a0, .ref a1] : List Value).toArray below meth c H locs 0 0 (MQ below (z_Q (.returned (some (.int r))) D K (z_A Z0) Z0) ([.ref a0, .ref a1] : List Value).toArray s 0 0 (z_A Z0)) (F0 m 71 ls []) := by
    intro x0 x1 x3 Z n
    induction n with
    | zero =>
      intro x2 x4 out H locs ls h
      exact (lp_0 h).elim
    | succ n ih =>
      intro x2 x4 out H locs ls h hW hl k1
      rw [cm_X0_mayHave_L71_s] at h
      unfold cm_X0_mayHave_B71 at h
      refine lv_iload hx hb dX0_mayHave_71 (lv_at hl 4 rfl) ?_
      refine lv_iload_n hx hb dX0_mayHave_73 rfl (lv_at hl 3 rfl) ?_
      refine lv_icmp_ge (tgt := 108) hx hb dX0_mayHave_74 (by decide) (fun c_7 => ?_) (fun c_7 => ?_)
      · have h := if_t h c_7
        exact k1 _ (Option.some.inj h).symm _ _ _ hW (lv_sub hl [0, 1, 2, 3] rfl)
      · have h := if_f h c_7
        refine lv_iload_n hx hb dX0_mayHave_77 rfl (lv_at hl 2 rfl) ?_
        refine lv_if_eq (tgt := 100) hx hb dX0_mayHave_78 (by decide) (fun c_8 => ?_) (fun c_8 => ?_)
        · have h := if_t h c_8
          refine lv_iconst (v := 0) hx hb dX0_mayHave_100 (by decide) ?_
          refine lv_istore_n (lv' := [(2, .int 0), (0, .ref x0), (1, .ref x1), (3, .int x3), (4, .int x4)]) hx hb dX0_mayHave_101 rfl hl (by decide) rfl (fun ls hl => ?_)
          obtain ⟨x_9, e_10, h⟩ := nmI_some h
          refine lv_iinc (v := x_9) (lv' := [(4, .int x_9), (2, .int 0), (0, .ref x0), (1, .ref x1), (3, .int x3)]) hx hb dX0_mayHave_102 hl (k := 4) rfl (by rw [e_10]; rfl) (by decide) rfl (fun ls hl => ?_)
          refine lv_goto (tgt := 71) hx hb dX0_mayHave_105 (by decide) ?_
          exact ih 0 x_9 out _ _ _ h hW (lv_sub hl [2, 3, 1, 4, 0] rfl) k1
        · have h := if_f h c_8
          refine lv_aload_n hx hb dX0_mayHave_81 rfl (lv_at hl 1 rfl) ?_
          refine lv_iload hx hb dX0_mayHave_82 (lv_at hl 4 rfl) ?_
          obtain ⟨⟨_, k_11⟩, h⟩ := zK_some h
          obtain ⟨x_14, h_12, h⟩ := bnd_some h
          refine d_callV (As := [.int x4]) (rest := []) S hW (metX7_number h_12) (cwX7_number_V S.2.2.2.2 q1420 ⟨Nat.le_of_ble_eq_true rfl, Nat.le_of_ble_eq_true rfl⟩) k_11 rfl rfl hl.1 rfl (Nat.le_of_ble_eq_true rfl) dX0_mayHave_84 ⟨(Nat.le_of_ble_eq_true rfl), (Nat.le_of_ble_eq_true rfl)⟩ rfl (fun H locs hW => ?_)
          refine lv_aload_n hx hb dX0_mayHave_87 rfl (lv_at hl 1 rfl) ?_
          refine lv_iload_n hx hb dX0_mayHave_88 rfl (lv_at hl 3 rfl) ?_
          obtain ⟨⟨_, k_15⟩, h⟩ := zK_some h
          obtain ⟨x_18, h_16, h⟩ := bnd_some h
          refine d_callV (As := [.int x3]) (rest := [.long x_14]) S hW (metX7_number h_16) (cwX7_number_V S.2.2.2.2 q1420 ⟨Nat.le_of_ble_eq_true rfl, Nat.le_of_ble_eq_true rfl⟩) k_15 rfl rfl hl.1 rfl (Nat.le_of_ble_eq_true rfl) dX0_mayHave_89 ⟨(Nat.le_of_ble_eq_true rfl), (Nat.le_of_ble_eq_true rfl)⟩ rfl (fun H locs hW => ?_)
          refine W.lcmp hx hb dX0_mayHave_92 ?_
          refine lv_if_eq (tgt := 100) hx hb dX0_mayHave_93 (by decide) (fun c_19 => ?_) (fun c_19 => ?_)
          · have h := if_t h c_19
            refine lv_iconst (v := 0) hx hb dX0_mayHave_100 (by decide) ?_
            refine lv_istore_n (lv' := [(2, .int 0), (0, .ref x0), (1, .ref x1), (3, .int x3), (4, .int x4)]) hx hb dX0_mayHave_101 rfl hl (by decide) rfl (fun ls hl => ?_)
            obtain ⟨x_20, e_21, h⟩ := nmI_some h
            refine lv_iinc (v := x_20) (lv' := [(4, .int x_20), (2, .int 0), (0, .ref x0), (1, .ref x1), (3, .int x3)]) hx hb dX0_mayHave_102 hl (k := 4) rfl (by rw [e_21]; rfl) (by decide) rfl (fun ls hl => ?_)
            refine lv_goto (tgt := 71) hx hb dX0_mayHave_105 (by decide) ?_
            exact ih 0 x_20 out _ _ _ h hW (lv_sub hl [2, 3, 1, 4, 0] rfl) k1
          · have h := if_f h c_19
            refine lv_iconst (v := 1) hx hb dX0_mayHave_96 (by decide) ?_
            refine lv_goto (tgt := 101) hx hb dX0_mayHave_97 (by decide) ?_
            refine lv_istore_n (lv' := [(2, .int 1), (0, .ref x0), (1, .ref x1), (3, .int x3), (4, .int x4)]) hx hb dX0_mayHave_101 rfl hl (by decide) rfl (fun ls hl => ?_)
            obtain ⟨x_22, e_23, h⟩ := nmI_some h
            refine lv_iinc (v := x_22) (lv' := [(4, .int x_22), (2, .int 1), (0, .ref x0), (1, .ref x1), (3, .int x3)]) hx hb dX0_mayHave_102 hl (k := 4) rfl (by rw [e_23]; rfl) (by decide) rfl (fun ls hl => ?_)
            refine lv_goto (tgt := 71) hx hb dX0_mayHave_105 (by decide) ?_
            exact ih 1 x_22 out _ _ _ h hW (lv_sub hl [2, 3, 1, 4, 0] rfl) k1
  have Lp4 : ∀ (x0 : Nat) (x1 : Nat) (Z : c_S) (n : Nat) (x2 : Int32) (x3 : Int32) (out : (Int32)) (H : Heap) (locs : List Loc) (ls : Array Slot), cm_X0_mayHave_L4 x0 x1 Z n x2 x3 = some out → z_W gp D K (z_A Z0) s Z H locs → lv_has ls 5 [(0, .ref x0), (1, .ref x1), (2, .int x2), (3, .int x3)] → (∀ (o2 : Int32), out = o2 → ∀ (H : Heap) (locs : List Loc) (ls : Array Slot), z_W gp D K (z_A Z0) s Z H locs → lv_has ls 5 [(2, .int o2)] → W p l e rmX0_mayHave s m ([.ref a0, .ref a1] : List Value).toArray below meth c H locs 0 0 (MQ below (z_Q (.returned (some (.int r))) D K (z_A Z0) Z0) ([.ref a0, .ref a1] : List Value).toArray s 0 0 (z_A Z0)) (F0 m 114 ls [])) → W p l e rmX0_mayHave s m ([.ref a0, .ref a1] : List Value).toArray below meth c H locs 0 0 (MQ below (z_Q (.returned (some (.int r))) D K (z_A Z0) Z0) ([.ref a0, .ref a1] : List Value).toArray s 0 0 (z_A Z0)) (F0 m 4 ls []) := by
    intro x0 x1 Z n
    induction n with
    | zero =>
      intro x2 x3 out H locs ls h
      exact (lp_0 h).elim
    | succ n ih =>
      intro x2 x3 out H locs ls h hW hl k1
      have J67 : ∀ (y3 : Int32) (z0 : Int32) (H : Heap) (locs : List Loc) (ls : Array Slot), cm_X0_mayHave_J67 (fun x2 x3 => cm_X0_mayHave_L4 x0 x1 Z n x2 x3) x0 x1 y3 z0 Z = some out → z_W gp D K (z_A Z0) s Z H locs → lv_has ls 5 [(0, .ref x0), (1, .ref x1), (3, .int y3)] → W p l e rmX0_mayHave s m ([.ref a0, .ref a1] : List Value).toArray below meth c H locs 0 0 (MQ below (z_Q (.returned (some (.int r))) D K (z_A Z0) Z0) ([.ref a0, .ref a1] : List Value).toArray s 0 0 (z_A Z0)) (F0 m 67 ls [.int z0]) := by
        intro y3 z0 H locs ls h hW hl
        unfold cm_X0_mayHave_J67 at h
        refine lv_istore_n (lv' := [(2, .int z0), (0, .ref x0), (1, .ref x1), (3, .int y3)]) hx hb dX0_mayHave_67 rfl hl (by decide) rfl (fun ls hl => ?_)
        refine lv_iconst (v := 0) hx hb dX0_mayHave_68 (by decide) ?_
        refine lv_istore (lv' := [(4, .int 0), (2, .int z0), (0, .ref x0), (1, .ref x1), (3, .int y3)]) hx hb dX0_mayHave_69 hl (by decide) rfl (fun ls hl => ?_)
        obtain ⟨x_26, h_25, h⟩ := bnd_some h
        refine Lp71 x0 x1 y3 Z 1000 z0 0  _ _ _ _ h_25 hW (lv_sub hl [2, 3, 1, 4, 0] rfl) ?_
        intro w0 eo H locs ls hW hl
        subst eo
        obtain ⟨x_27, e_28, h⟩ := nmI_some h
        refine lv_iinc (v := x_27) (lv' := [(3, .int x_27), (0, .ref x0), (1, .ref x1), (2, .int x_26)]) hx hb dX0_mayHave_108 hl (k := 3) rfl (by rw [e_28]; rfl) (by decide) rfl (fun ls hl => ?_)
        refine lv_goto (tgt := 4) hx hb dX0_mayHave_111 (by decide) ?_
        exact ih x_26 x_27 out _ _ _ h hW (lv_sub hl [1, 2, 3, 0] rfl) k1
      have J66 : ∀ (y3 : Int32) (H : Heap) (locs : List Loc) (ls : Array Slot), cm_X0_mayHave_J66 (fun x2 x3 => cm_X0_mayHave_L4 x0 x1 Z n x2 x3) x0 x1 y3 Z = some out → z_W gp D K (z_A Z0) s Z H locs → lv_has ls 5 [(0, .ref x0), (1, .ref x1), (3, .int y3)] → W p l e rmX0_mayHave s m ([.ref a0, .ref a1] : List Value).toArray below meth c H locs 0 0 (MQ below (z_Q (.returned (some (.int r))) D K (z_A Z0) Z0) ([.ref a0, .ref a1] : List Value).toArray s 0 0 (z_A Z0)) (F0 m 66 ls []) := by
        intro y3 H locs ls h hW hl
        unfold cm_X0_mayHave_J66 at h
        refine lv_iconst (v := 0) hx hb dX0_mayHave_66 (by decide) ?_
        exact J67 y3 0 _ _ _ h hW hl
      rw [cm_X0_mayHave_L4_s] at h
      unfold cm_X0_mayHave_B4 at h
      refine lv_iload_n hx hb dX0_mayHave_4 rfl (lv_at hl 3 rfl) ?_
      refine lv_aload_n hx hb dX0_mayHave_5 rfl (lv_at hl 1 rfl) ?_
      obtain ⟨⟨_, k_1⟩, h⟩ := zK_some h
      obtain ⟨x_4, h_2, h⟩ := bnd_some h
      refine d_callV (As := []) (rest := [.int x3]) S hW (metX7_many h_2) (cwX7_many_V S.2.2.2.2 q1412 ⟨Nat.le_of_ble_eq_true rfl, Nat.le_of_ble_eq_true rfl⟩) k_1 rfl rfl hl.1 rfl (Nat.le_of_ble_eq_true rfl) dX0_mayHave_6 ⟨(Nat.le_of_ble_eq_true rfl), (Nat.le_of_ble_eq_true rfl)⟩ rfl (fun H locs hW => ?_)
      refine lv_icmp_ge (tgt := 114) hx hb dX0_mayHave_9 (by decide) (fun c_5 => ?_) (fun c_5 => ?_)
      · have h := if_t h c_5
        exact k1 _ (Option.some.inj h).symm _ _ _ hW (lv_sub hl [2] rfl)
      · have h := if_f h c_5
        refine lv_iload_n hx hb dX0_mayHave_12 rfl (lv_at hl 2 rfl) ?_
        refine lv_if_eq (tgt := 66) hx hb dX0_mayHave_13 (by decide) (fun c_6 => ?_) (fun c_6 => ?_)
        · have h := if_t h c_6
          exact J66 x3 _ _ _ h hW (lv_sub hl [0, 1, 3] rfl)
        · have h := if_f h c_6
          refine lv_aload_n hx hb dX0_mayHave_16 rfl (lv_at hl 1 rfl) ?_
          refine lv_iload_n hx hb dX0_mayHave_17 rfl (lv_at hl 3 rfl) ?_
          obtain ⟨⟨_, k_29⟩, h⟩ := zK_some h
          obtain ⟨x_32, h_30, h⟩ := bnd_some h
          refine d_callV (As := [.int x3]) (rest := []) S hW (metX7_number h_30) (cwX7_number_V S.2.2.2.2 q1420 ⟨Nat.le_of_ble_eq_true rfl, Nat.le_of_ble_eq_true rfl⟩) k_29 rfl rfl hl.1 rfl (Nat.le_of_ble_eq_true rfl) dX0_mayHave_18 ⟨(Nat.le_of_ble_eq_true rfl), (Nat.le_of_ble_eq_true rfl)⟩ rfl (fun H locs hW => ?_)
          refine lv_lconst (v := 0) hx hb dX0_mayHave_21 (by decide) ?_
          refine lv_ldc2 (v := 143) hx hb S.2.2.2.1 (S.2.2.2.2 _ q1424) dX0_mayHave_22 ?_
          obtain ⟨x_35, h_33, h⟩ := bnd_some h
          refine d_callS (As := [.long x_32, .long 0, .long 143]) (rest := []) S hW (metX0_in h_33) (cwX0_in_S S.2.2.2.2 q149 ⟨Nat.le_of_ble_eq_true rfl, Nat.le_of_ble_eq_true rfl⟩) rfl hl.1 rfl (Nat.le_of_ble_eq_true rfl) dX0_mayHave_25 ⟨(Nat.le_of_ble_eq_true rfl), (Nat.le_of_ble_eq_true rfl)⟩ rfl (fun H locs hW => ?_)
          refine lv_if_eq (tgt := 66) hx hb dX0_mayHave_28 (by decide) (fun c_36 => ?_) (fun c_36 => ?_)
          · have h := if_t h c_36
            exact J66 x3 _ _ _ h hW (lv_sub hl [0, 1, 3] rfl)
          · have h := if_f h c_36
            refine lv_aload_n hx hb dX0_mayHave_31 rfl (lv_at hl 0 rfl) ?_
            refine lv_aload_n hx hb dX0_mayHave_32 rfl (lv_at hl 1 rfl) ?_
            refine lv_iload_n hx hb dX0_mayHave_33 rfl (lv_at hl 3 rfl) ?_
            obtain ⟨⟨_, k_37⟩, h⟩ := zK_some h
            obtain ⟨x_40, h_38, h⟩ := bnd_some h
            refine d_callV (As := [.int x3]) (rest := [.ref x0]) S hW (metX7_number h_38) (cwX7_number_V S.2.2.2.2 q1420 ⟨Nat.le_of_ble_eq_true rfl, Nat.le_of_ble_eq_true rfl⟩) k_37 rfl rfl hl.1 rfl (Nat.le_of_ble_eq_true rfl) dX0_mayHave_34 ⟨(Nat.le_of_ble_eq_true rfl), (Nat.le_of_ble_eq_true rfl)⟩ rfl (fun H locs hW => ?_)
            refine lv_l2i (v := x_40.toInt32) hx hb dX0_mayHave_37 rfl ?_
            obtain ⟨⟨_, k_41⟩, h⟩ := zK_some h
            obtain ⟨x_44, h_42, h⟩ := bnd_some h
            refine d_callV (As := [.int x_40.toInt32]) (rest := []) S hW (metX0_pipeAt h_42) (cwX0_pipeAt_V S.2.2.2.2 q1187 ⟨Nat.le_of_ble_eq_true rfl, Nat.le_of_ble_eq_true rfl⟩) k_41 rfl rfl hl.1 rfl (Nat.le_of_ble_eq_true rfl) dX0_mayHave_38 ⟨(Nat.le_of_ble_eq_true rfl), (Nat.le_of_ble_eq_true rfl)⟩ rfl (fun H locs hW => ?_)
            refine lv_iconst (v := (-1)) hx hb dX0_mayHave_41 (by decide) ?_
            refine lv_icmp_ne (tgt := 66) hx hb dX0_mayHave_42 (by decide) (fun c_45 => ?_) (fun c_45 => ?_)
            · have h := if_f h c_45
              exact J66 x3 _ _ _ h hW (lv_sub hl [0, 1, 3] rfl)
            · have h := if_t h c_45
              refine lv_aload_n hx hb dX0_mayHave_45 rfl (lv_at hl 0 rfl) ?_
              refine zw_getA S hW zC_X0 (i := 1) (by decide) (Or.inl q756) (fun _ h => h) dX0_mayHave_46 h (fun a_46 h => ?_)
              refine zw_getA S hW zC_X1 (i := 4) (by decide) (Or.inr ⟨_, nestW_in q674 rfl⟩) (fun _ h => h) dX0_mayHave_49 h (fun a_47 h => ?_)
              refine lv_aload_n hx hb dX0_mayHave_52 rfl (lv_at hl 1 rfl) ?_
              refine lv_iload_n hx hb dX0_mayHave_53 rfl (lv_at hl 3 rfl) ?_
              obtain ⟨⟨_, k_48⟩, h⟩ := zK_some h
              obtain ⟨x_51, h_49, h⟩ := bnd_some h
              refine d_callV (As := [.int x3]) (rest := [.ref a_47]) S hW (metX7_number h_49) (cwX7_number_V S.2.2.2.2 q1420 ⟨Nat.le_of_ble_eq_true rfl, Nat.le_of_ble_eq_true rfl⟩) k_48 rfl rfl hl.1 rfl (Nat.le_of_ble_eq_true rfl) dX0_mayHave_54 ⟨(Nat.le_of_ble_eq_true rfl), (Nat.le_of_ble_eq_true rfl)⟩ rfl (fun H locs hW => ?_)
              refine lv_l2i (v := x_51.toInt32) hx hb dX0_mayHave_57 rfl ?_
              refine zw_zald S hW dX0_mayHave_58 h (fun x_52 h => ?_)
              refine lv_if_ne (tgt := 66) hx hb dX0_mayHave_59 (by decide) (fun c_53 => ?_) (fun c_53 => ?_)
              · have h := if_f h c_53
                exact J66 x3 _ _ _ h hW (lv_sub hl [0, 1, 3] rfl)
              · have h := if_t h c_53
                refine lv_iconst (v := 1) hx hb dX0_mayHave_62 (by decide) ?_
                refine lv_goto (tgt := 67) hx hb dX0_mayHave_63 (by decide) ?_
                exact J67 x3 1 _ _ _ h hW (lv_sub hl [0, 1, 3] rfl)
  unfold cm_X0_mayHave at h
  refine lv_iconst (v := 1) hx hb dX0_mayHave_0 (by decide) ?_
  refine lv_istore_n (lv' := [(2, .int 1), (0, .ref a0), (1, .ref a1)]) hx hb dX0_mayHave_1 rfl hl (by decide) rfl (fun ls hl => ?_)
  refine lv_iconst (v := 0) hx hb dX0_mayHave_2 (by decide) ?_
  refine lv_istore_n (lv' := [(3, .int 0), (2, .int 1), (0, .ref a0), (1, .ref a1)]) hx hb dX0_mayHave_3 rfl hl (by decide) rfl (fun ls hl => ?_)
  obtain ⟨x_56, h_55, h⟩ := bnd_some h
  refine Lp4 a0 a1 Z0 1000 1 0  _ _ _ _ h_55 hW (lv_sub hl [2, 3, 1, 0] rfl) ?_
  intro w0 eo H locs ls hW hl
  subst eo
  refine lv_iload_n hx hb dX0_mayHave_114 rfl (lv_at hl 0 rfl) ?_
  obtain ⟨h_57, h⟩ := okI_some h
  cases h
  exact d_zret S hr hlk (isB_narrow h_57) hW (Nat.le_of_ble_eq_true rfl) (Nat.le_of_ble_eq_true rfl) dX0_mayHave_115
def cm_X0_frost_B18 (x0 : Nat) (x1 : Int32) (Z : c_S) (rec : Int32 → Int32 → Option (Int32)) (x2 : Int32) (x3 : Int32) : Option (Int32) :=
  if 12 ≤ x3 then (some x2) else (cA Z.Sh x0 0 11 1 fun a_6 => zK Z a_6 1 20 <| bnd (cm_X1_isFrozen Z a_6 ((12 * x1) + x3)) (fun x_10 => if x_10 = 0 then (nmI (x2 ||| 0) fun x_12 => nmI (x3 + 1) fun x_14 => rec x_12 x_14) else (nmI (x2 ||| ((1 : Int32) <<< (x3 &&& 31))) fun x_16 => nmI (x3 + 1) fun x_18 => rec x_16 x_18)))
abbrev cm_X0_frost_F18 (x0 : Nat) (x1 : Int32) (Z : c_S) : (((Int32) × (Int32)) → Option (Int32)) → ((Int32) × (Int32)) → Option (Int32) := fun rec s => cm_X0_frost_B18 x0 x1 Z (fun x2 x3 => rec (x2, x3)) s.1 s.2
def cm_X0_frost_L18 (x0 : Nat) (x1 : Int32) (Z : c_S) (n : Nat) (x2 : Int32) (x3 : Int32) : Option (Int32) := lp (cm_X0_frost_F18 x0 x1 Z) n (x2, x3)
theorem cm_X0_frost_L18_s (x0 : Nat) (x1 : Int32) (Z : c_S) (n : Nat) (x2 : Int32) (x3 : Int32) : cm_X0_frost_L18 x0 x1 Z (n + 1) x2 x3 = cm_X0_frost_B18 x0 x1 Z (fun x2 x3 => cm_X0_frost_L18 x0 x1 Z n x2 x3) x2 x3 := lp_s (cm_X0_frost_F18 x0 x1 Z) n (x2, x3)
def cm_X0_frost (Z0 : c_S) (a0 : Nat) (a1 : Int32) : Option (Int32) :=
  bnd (cm_X0_in a1.toInt64 0 11) (fun x_3 => if x_3 = 0 then (some (-1)) else (bnd (cm_X0_frost_L18 a0 a1 Z0 1000 0 0) (fun x_22 => some x_22)))
abbrev rmX0_frost : Room := rmD 2 42 0 0
set_option maxHeartbeats 4000000 in
theorem metX0_frost {l : Launch} {gp : Nat → Nat} {D : va_G} {K : Nat → ClassId} {Z0 : c_S} {a0 : Nat} {a1 : Int32} {r : Int32} (h : cm_X0_frost Z0 a0 a1 = some r) : Met l yX0_frost (ws_ yX0_frost cX0_frost 4 (some .int)) rmX0_frost (z_Pc gp [.ref a0, .int a1] D K Z0) (z_Q (.returned (some (.int r))) D K (z_A Z0) Z0) 0 0 (z_A Z0) := by
  refine d_met rfl (Nat.le_of_ble_eq_true rfl) ?_
  intro p e s m below meth c ls S hr hlk hnm hl hW hsz
  have S : CallFix p m c cX0_frost 4 s ([.ref a0, .int a1] : List Value).toArray lw_all RX0 := S
  have hx := S.1
  have hb := S.2.1
  have hl : lv_has ls 4 [(0, .ref a0), (1, .int a1)] := hl
  have hnm : meth.name = "frost" := hnm
  have Lp18 : ∀ (x0 : Nat) (x1 : Int32) (Z : c_S) (n : Nat) (x2 : Int32) (x3 : Int32) (out : (Int32)) (H : Heap) (locs : List Loc) (ls : Array Slot), cm_X0_frost_L18 x0 x1 Z n x2 x3 = some out → z_W gp D K (z_A Z0) s Z H locs → lv_has ls 4 [(0, .ref x0), (1, .int x1), (2, .int x2), (3, .int x3)] → (∀ (o2 : Int32), out = o2 → ∀ (H : Heap) (locs : List Loc) (ls : Array Slot), z_W gp D K (z_A Z0) s Z H locs → lv_has ls 4 [(2, .int o2)] → W p l e rmX0_frost s m ([.ref a0, .int a1] : List Value).toArray below meth c H locs 0 0 (MQ below (z_Q (.returned (some (.int r))) D K (z_A Z0) Z0) ([.ref a0, .int a1] : List Value).toArray s 0 0 (z_A Z0)) (F0 m 56 ls [])) → W p l e rmX0_frost s m ([.ref a0, .int a1] : List Value).toArray below meth c H locs 0 0 (MQ below (z_Q (.returned (some (.int r))) D K (z_A Z0) Z0) ([.ref a0, .int a1] : List Value).toArray s 0 0 (z_A Z0)) (F0 m 18 ls []) := by
    intro x0 x1 Z n
    induction n with
    | zero =>
      intro x2 x3 out H locs ls h
      exact (lp_0 h).elim
    | succ n ih =>
      intro x2 x3 out H locs ls h hW hl k1
      rw [cm_X0_frost_L18_s] at h
      unfold cm_X0_frost_B18 at h
      refine lv_iload_n hx hb dX0_frost_18 rfl (lv_at hl 3 rfl) ?_
      refine lv_bipush (v := 12) hx hb dX0_frost_19 (by decide) ?_
      refine lv_icmp_ge (tgt := 56) hx hb dX0_frost_21 (by decide) (fun c_5 => ?_) (fun c_5 => ?_)
      · have h := if_t h c_5
        exact k1 _ (Option.some.inj h).symm _ _ _ hW (lv_sub hl [2] rfl)
      · have h := if_f h c_5
        refine lv_iload_n hx hb dX0_frost_24 rfl (lv_at hl 2 rfl) ?_
        refine lv_aload_n hx hb dX0_frost_25 rfl (lv_at hl 0 rfl) ?_
        refine zw_getA S hW zC_X0 (i := 1) (by decide) (Or.inl q756) (fun _ h => h) dX0_frost_26 h (fun a_6 h => ?_)
        refine lv_bipush (v := 12) hx hb dX0_frost_29 (by decide) ?_
        refine lv_iload_n hx hb dX0_frost_31 rfl (lv_at hl 1 rfl) ?_
        refine lv_imul hx hb dX0_frost_32 ?_
        refine lv_iload_n hx hb dX0_frost_33 rfl (lv_at hl 3 rfl) ?_
        refine lv_iadd hx hb dX0_frost_34 ?_
        obtain ⟨⟨_, k_7⟩, h⟩ := zK_some h
        obtain ⟨x_10, h_8, h⟩ := bnd_some h
        refine d_callV (As := [.int ((12 * x1) + x3)]) (rest := [.int x2]) S hW (metX1_isFrozen h_8) (cwX1_isFrozen_V S.2.2.2.2 q1186 ⟨Nat.le_of_ble_eq_true rfl, Nat.le_of_ble_eq_true rfl⟩) k_7 rfl rfl hl.1 rfl (Nat.le_of_ble_eq_true rfl) dX0_frost_35 ⟨(Nat.le_of_ble_eq_true rfl), (Nat.le_of_ble_eq_true rfl)⟩ rfl (fun H locs hW => ?_)
        refine lv_if_eq (tgt := 47) hx hb dX0_frost_38 (by decide) (fun c_11 => ?_) (fun c_11 => ?_)
        · have h := if_t h c_11
          refine lv_iconst (v := 0) hx hb dX0_frost_47 (by decide) ?_
          refine lv_ior hx hb dX0_frost_48 ?_
          obtain ⟨x_12, e_13, h⟩ := nmI_some h
          refine g_nmi e_13 ?_
          refine lv_istore_n (lv' := [(2, .int x_12), (0, .ref x0), (1, .int x1), (3, .int x3)]) hx hb dX0_frost_49 rfl hl (by decide) rfl (fun ls hl => ?_)
          obtain ⟨x_14, e_15, h⟩ := nmI_some h
          refine lv_iinc (v := x_14) (lv' := [(3, .int x_14), (2, .int x_12), (0, .ref x0), (1, .int x1)]) hx hb dX0_frost_50 hl (k := 3) rfl (by rw [e_15]; rfl) (by decide) rfl (fun ls hl => ?_)
          refine lv_goto (tgt := 18) hx hb dX0_frost_53 (by decide) ?_
          exact ih x_12 x_14 out _ _ _ h hW (lv_sub hl [2, 3, 1, 0] rfl) k1
        · have h := if_f h c_11
          refine lv_iconst (v := 1) hx hb dX0_frost_41 (by decide) ?_
          refine lv_iload_n hx hb dX0_frost_42 rfl (lv_at hl 3 rfl) ?_
          refine lv_ishl hx hb dX0_frost_43 ?_
          refine lv_goto (tgt := 48) hx hb dX0_frost_44 (by decide) ?_
          refine lv_ior hx hb dX0_frost_48 ?_
          obtain ⟨x_16, e_17, h⟩ := nmI_some h
          refine g_nmi e_17 ?_
          refine lv_istore_n (lv' := [(2, .int x_16), (0, .ref x0), (1, .int x1), (3, .int x3)]) hx hb dX0_frost_49 rfl hl (by decide) rfl (fun ls hl => ?_)
          obtain ⟨x_18, e_19, h⟩ := nmI_some h
          refine lv_iinc (v := x_18) (lv' := [(3, .int x_18), (2, .int x_16), (0, .ref x0), (1, .int x1)]) hx hb dX0_frost_50 hl (k := 3) rfl (by rw [e_19]; rfl) (by decide) rfl (fun ls hl => ?_)
          refine lv_goto (tgt := 18) hx hb dX0_frost_53 (by decide) ?_
          exact ih x_16 x_18 out _ _ _ h hW (lv_sub hl [2, 3, 1, 0] rfl) k1
  unfold cm_X0_frost at h
  refine lv_iload_n hx hb dX0_frost_0 rfl (lv_at hl 1 rfl) ?_
  refine lv_i2l (v := a1.toInt64) hx hb dX0_frost_1 rfl ?_
  refine lv_lconst (v := 0) hx hb dX0_frost_2 (by decide) ?_
  refine lv_ldc2 (v := 11) hx hb S.2.2.2.1 (S.2.2.2.2 _ q1184) dX0_frost_3 ?_
  obtain ⟨x_3, h_1, h⟩ := bnd_some h
  refine d_callS (As := [.long a1.toInt64, .long 0, .long 11]) (rest := []) S hW (metX0_in h_1) (cwX0_in_S S.2.2.2.2 q149 ⟨Nat.le_of_ble_eq_true rfl, Nat.le_of_ble_eq_true rfl⟩) rfl hl.1 rfl (Nat.le_of_ble_eq_true rfl) dX0_frost_6 ⟨(Nat.le_of_ble_eq_true rfl), (Nat.le_of_ble_eq_true rfl)⟩ rfl (fun H locs hW => ?_)
  refine lv_if_ne (tgt := 14) hx hb dX0_frost_9 (by decide) (fun c_4 => ?_) (fun c_4 => ?_)
  · have h := if_f h c_4
    refine lv_iconst (v := 0) hx hb dX0_frost_14 (by decide) ?_
    refine lv_istore_n (lv' := [(2, .int 0), (0, .ref a0), (1, .int a1)]) hx hb dX0_frost_15 rfl hl (by decide) rfl (fun ls hl => ?_)
    refine lv_iconst (v := 0) hx hb dX0_frost_16 (by decide) ?_
    refine lv_istore_n (lv' := [(3, .int 0), (2, .int 0), (0, .ref a0), (1, .int a1)]) hx hb dX0_frost_17 rfl hl (by decide) rfl (fun ls hl => ?_)
    obtain ⟨x_22, h_21, h⟩ := bnd_some h
    refine Lp18 a0 a1 Z0 1000 0 0  _ _ _ _ h_21 hW (lv_sub hl [2, 3, 1, 0] rfl) ?_
    intro w0 eo H locs ls hW hl
    subst eo
    refine lv_iload_n hx hb dX0_frost_56 rfl (lv_at hl 0 rfl) ?_
    cases h
    exact d_iret S hr hlk hW (Nat.le_of_ble_eq_true rfl) (Nat.le_of_ble_eq_true rfl) dX0_frost_57
  · have h := if_t h c_4
    refine lv_iconst (v := (-1)) hx hb dX0_frost_12 (by decide) ?_
    cases h
    exact d_iret S hr hlk hW (Nat.le_of_ble_eq_true rfl) (Nat.le_of_ble_eq_true rfl) dX0_frost_13
def cm_X0_count_B102 (x0 : Nat) (Z : c_S) (rec : Int32 → Int32 → Option (Int32)) (x2 : Int32) (x3 : Int32) : Option (Int32) :=
  if 144 ≤ x3 then (some x2) else (cA Z.Sh x0 0 11 1 fun a_17 => zK Z a_17 1 20 <| bnd (cm_X1_isFrozen Z a_17 x3) (fun x_21 => if x_21 = 0 then (nmI (x2 + 0) fun x_23 => nmI (x3 + 1) fun x_25 => rec x_23 x_25) else (nmI (x2 + 1) fun x_27 => nmI (x3 + 1) fun x_29 => rec x_27 x_29)))
abbrev cm_X0_count_F102 (x0 : Nat) (Z : c_S) : (((Int32) × (Int32)) → Option (Int32)) → ((Int32) × (Int32)) → Option (Int32) := fun rec s => cm_X0_count_B102 x0 Z (fun x2 x3 => rec (x2, x3)) s.1 s.2
def cm_X0_count_L102 (x0 : Nat) (Z : c_S) (n : Nat) (x2 : Int32) (x3 : Int32) : Option (Int32) := lp (cm_X0_count_F102 x0 Z) n (x2, x3)
theorem cm_X0_count_L102_s (x0 : Nat) (Z : c_S) (n : Nat) (x2 : Int32) (x3 : Int32) : cm_X0_count_L102 x0 Z (n + 1) x2 x3 = cm_X0_count_B102 x0 Z (fun x2 x3 => cm_X0_count_L102 x0 Z n x2 x3) x2 x3 := lp_s (cm_X0_count_F102 x0 Z) n (x2, x3)
def cm_X0_count_B138 (x0 : Nat) (Z : c_S) (rec : Int32 → Int32 → Option (Int32)) (x2 : Int32) (x3 : Int32) : Option (Int32) :=
  if 144 ≤ x3 then (some x2) else (cA Z.Sh x0 0 11 1 fun a_36 => cA Z.Sh a_36 1 20 4 fun a_37 => caI Z.Sh Z.V 2 a_37 x3 fun x_38 => if x_38 = 0 then (nmI (x2 + 0) fun x_40 => nmI (x3 + 1) fun x_42 => rec x_40 x_42) else (nmI (x2 + 1) fun x_44 => nmI (x3 + 1) fun x_46 => rec x_44 x_46))
abbrev cm_X0_count_F138 (x0 : Nat) (Z : c_S) : (((Int32) × (Int32)) → Option (Int32)) → ((Int32) × (Int32)) → Option (Int32) := fun rec s => cm_X0_count_B138 x0 Z (fun x2 x3 => rec (x2, x3)) s.1 s.2
def cm_X0_count_L138 (x0 : Nat) (Z : c_S) (n : Nat) (x2 : Int32) (x3 : Int32) : Option (Int32) := lp (cm_X0_count_F138 x0 Z) n (x2, x3)
theorem cm_X0_count_L138_s (x0 : Nat) (Z : c_S) (n : Nat) (x2 : Int32) (x3 : Int32) : cm_X0_count_L138 x0 Z (n + 1) x2 x3 = cm_X0_count_B138 x0 Z (fun x2 x3 => cm_X0_count_L138 x0 Z n x2 x3) x2 x3 := lp_s (cm_X0_count_F138 x0 Z) n (x2, x3)
def cm_X0_count_B233 (x0 : Nat) (Z : c_S) (rec : Int32 → Int32 → Option (Int32)) (x2 : Int32) (x3 : Int32) : Option (Int32) :=
  if 4 ≤ x3 then (some x2) else (cA Z.Sh x0 0 11 0 fun a_77 => caR Z.Sh 7 a_77 x3 fun o_78 => nn o_78 fun a_79 => cR Z.Sh a_79 7 1 0 fun o_80 => zNl o_80 (nmI (x2 + 0) fun x_82 => nmI (x3 + 1) fun x_84 => rec x_82 x_84) (fun a_81 => nmI (x2 + 1) fun x_86 => nmI (x3 + 1) fun x_88 => rec x_86 x_88))
abbrev cm_X0_count_F233 (x0 : Nat) (Z : c_S) : (((Int32) × (Int32)) → Option (Int32)) → ((Int32) × (Int32)) → Option (Int32) := fun rec s => cm_X0_count_B233 x0 Z (fun x2 x3 => rec (x2, x3)) s.1 s.2
def cm_X0_count_L233 (x0 : Nat) (Z : c_S) (n : Nat) (x2 : Int32) (x3 : Int32) : Option (Int32) := lp (cm_X0_count_F233 x0 Z) n (x2, x3)
theorem cm_X0_count_L233_s (x0 : Nat) (Z : c_S) (n : Nat) (x2 : Int32) (x3 : Int32) : cm_X0_count_L233 x0 Z (n + 1) x2 x3 = cm_X0_count_B233 x0 Z (fun x2 x3 => cm_X0_count_L233 x0 Z n x2 x3) x2 x3 := lp_s (cm_X0_count_F233 x0 Z) n (x2, x3)
def cm_X0_count (Z0 : c_S) (a0 : Nat) (a1 : Int32) : Option (Int32) :=
  if a1 = 0 then (cA Z0.Sh a0 0 11 1 fun a_2 => cA Z0.Sh a_2 1 20 0 fun a_3 => cI Z0.Sh Z0.V a_3 2 13 12 fun x_4 => some x_4) else (if a1 = 1 then (cA Z0.Sh a0 0 11 1 fun a_6 => cI Z0.Sh Z0.V a_6 1 20 9 fun x_7 => some x_7) else (if a1 = 2 then (cA Z0.Sh a0 0 11 1 fun a_9 => cA Z0.Sh a_9 1 20 5 fun a_10 => zK Z0 a_10 14 3 <| bnd (cm_J2_size Z0 a_10) (fun x_14 => some x_14)) else (if a1 = 3 then (bnd (cm_X0_count_L102 a0 Z0 1000 0 0) (fun x_33 => some x_33)) else (if a1 = 4 then (bnd (cm_X0_count_L138 a0 Z0 1000 0 0) (fun x_50 => some x_50)) else (if a1 = 5 then (cA Z0.Sh a0 0 11 1 fun a_52 => cA Z0.Sh a_52 1 20 0 fun a_53 => cA Z0.Sh a_53 2 13 5 fun a_54 => zK Z0 a_54 14 3 <| bnd (cm_J2_size Z0 a_54) (fun x_58 => some x_58)) else (if a1 = 6 then (cI Z0.Sh Z0.V a0 0 11 5 fun x_60 => some x_60) else (if a1 = 7 then (cA Z0.Sh a0 0 11 1 fun a_62 => cA Z0.Sh a_62 1 20 6 fun a_63 => zK Z0 a_63 14 3 <| bnd (cm_J2_size Z0 a_63) (fun x_67 => some x_67)) else (if a1 = 8 then (cA Z0.Sh a0 0 11 1 fun a_69 => cI Z0.Sh Z0.V a_69 1 20 17 fun x_70 => if x_70 = 0 then (some 0) else (some 1)) else (if a1 = 9 then (cA Z0.Sh a0 0 11 1 fun a_73 => cI Z0.Sh Z0.V a_73 1 20 10 fun x_74 => some x_74) else (if a1 = 10 then (bnd (cm_X0_count_L233 a0 Z0 1000 0 0) (fun x_92 => some x_92)) else (if a1 = 11 then (cA Z0.Sh a0 0 11 1 fun a_94 => cA Z0.Sh a_94 1 20 0 fun a_95 => cI Z0.Sh Z0.V a_95 2 13 6 fun x_96 => some x_96) else (if a1 = 12 then (cA Z0.Sh a0 0 11 1 fun a_98 => cI Z0.Sh Z0.V a_98 1 20 16 fun x_99 => some x_99) else (some (-1))))))))))))))
abbrev rmX0_count : Room := rmD 2 42 0 0
set_option maxHeartbeats 4000000 in
theorem metX0_count {l : Launch} {gp : Nat → Nat} {D : va_G} {K : Nat → ClassId} {Z0 : c_S} {a0 : Nat} {a1 : Int32} {r : Int32} (h : cm_X0_count Z0 a0 a1 = some r) : Met l yX0_count (ws_ yX0_count cX0_count 4 (some .int)) rmX0_count (z_Pc gp [.ref a0, .int a1] D K Z0) (z_Q (.returned (some (.int r))) D K (z_A Z0) Z0) 0 0 (z_A Z0) := by
  refine d_met rfl (Nat.le_of_ble_eq_true rfl) ?_
  intro p e s m below meth c ls S hr hlk hnm hl hW hsz
  have S : CallFix p m c cX0_count 4 s ([.ref a0, .int a1] : List Value).toArray lw_all RX0 := S
  have hx := S.1
  have hb := S.2.1
  have hl : lv_has ls 4 [(0, .ref a0), (1, .int a1)] := hl
  have hnm : meth.name = "count" := hnm
  have Lp102 : ∀ (x0 : Nat) (Z : c_S) (n : Nat) (x2 : Int32) (x3 : Int32) (out : (Int32)) (H : Heap) (locs : List Loc) (ls : Array Slot), cm_X0_count_L102 x0 Z n x2 x3 = some out → z_W gp D K (z_A Z0) s Z H locs → lv_has ls 4 [(0, .ref x0), (2, .int x2), (3, .int x3)] → (∀ (o2 : Int32), out = o2 → ∀ (H : Heap) (locs : List Loc) (ls : Array Slot), z_W gp D K (z_A Z0) s Z H locs → lv_has ls 4 [(2, .int o2)] → W p l e rmX0_count s m ([.ref a0, .int a1] : List Value).toArray below meth c H locs 0 0 (MQ below (z_Q (.returned (some (.int r))) D K (z_A Z0) Z0) ([.ref a0, .int a1] : List Value).toArray s 0 0 (z_A Z0)) (F0 m 134 ls [])) → W p l e rmX0_count s m ([.ref a0, .int a1] : List Value).toArray below meth c H locs 0 0 (MQ below (z_Q (.returned (some (.int r))) D K (z_A Z0) Z0) ([.ref a0, .int a1] : List Value).toArray s 0 0 (z_A Z0)) (F0 m 102 ls []) := by
    intro x0 Z n
    induction n with
    | zero =>
      intro x2 x3 out H locs ls h
      exact (lp_0 h).elim
    | succ n ih =>
      intro x2 x3 out H locs ls h hW hl k1
      rw [cm_X0_count_L102_s] at h
      unfold cm_X0_count_B102 at h
      refine lv_iload_n hx hb dX0_count_102 rfl (lv_at hl 2 rfl) ?_
      refine lv_sipush (v := 144) hx hb dX0_count_103 (by decide) ?_
      refine lv_icmp_ge (tgt := 134) hx hb dX0_count_106 (by decide) (fun c_16 => ?_) (fun c_16 => ?_)
      · have h := if_t h c_16
        exact k1 _ (Option.some.inj h).symm _ _ _ hW (lv_sub hl [1] rfl)
      · have h := if_f h c_16
        refine lv_iload_n hx hb dX0_count_109 rfl (lv_at hl 1 rfl) ?_
        refine lv_aload_n hx hb dX0_count_110 rfl (lv_at hl 0 rfl) ?_
        refine zw_getA S hW zC_X0 (i := 1) (by decide) (Or.inl q756) (fun _ h => h) dX0_count_111 h (fun a_17 h => ?_)
        refine lv_iload_n hx hb dX0_count_114 rfl (lv_at hl 2 rfl) ?_
        obtain ⟨⟨_, k_18⟩, h⟩ := zK_some h
        obtain ⟨x_21, h_19, h⟩ := bnd_some h
        refine d_callV (As := [.int x3]) (rest := [.int x2]) S hW (metX1_isFrozen h_19) (cwX1_isFrozen_V S.2.2.2.2 q1186 ⟨Nat.le_of_ble_eq_true rfl, Nat.le_of_ble_eq_true rfl⟩) k_18 rfl rfl hl.1 rfl (Nat.le_of_ble_eq_true rfl) dX0_count_115 ⟨(Nat.le_of_ble_eq_true rfl), (Nat.le_of_ble_eq_true rfl)⟩ rfl (fun H locs hW => ?_)
        refine lv_if_eq (tgt := 125) hx hb dX0_count_118 (by decide) (fun c_22 => ?_) (fun c_22 => ?_)
        · have h := if_t h c_22
          refine lv_iconst (v := 0) hx hb dX0_count_125 (by decide) ?_
          refine lv_iadd hx hb dX0_count_126 ?_
          obtain ⟨x_23, e_24, h⟩ := nmI_some h
          refine g_nmi e_24 ?_
          refine lv_istore_n (lv' := [(2, .int x_23), (0, .ref x0), (3, .int x3)]) hx hb dX0_count_127 rfl hl (by decide) rfl (fun ls hl => ?_)
          obtain ⟨x_25, e_26, h⟩ := nmI_some h
          refine lv_iinc (v := x_25) (lv' := [(3, .int x_25), (2, .int x_23), (0, .ref x0)]) hx hb dX0_count_128 hl (k := 2) rfl (by rw [e_26]; rfl) (by decide) rfl (fun ls hl => ?_)
          refine lv_goto (tgt := 102) hx hb dX0_count_131 (by decide) ?_
          exact ih x_23 x_25 out _ _ _ h hW (lv_sub hl [2, 1, 0] rfl) k1
        · have h := if_f h c_22
          refine lv_iconst (v := 1) hx hb dX0_count_121 (by decide) ?_
          refine lv_goto (tgt := 126) hx hb dX0_count_122 (by decide) ?_
          refine lv_iadd hx hb dX0_count_126 ?_
          obtain ⟨x_27, e_28, h⟩ := nmI_some h
          refine g_nmi e_28 ?_
          refine lv_istore_n (lv' := [(2, .int x_27), (0, .ref x0), (3, .int x3)]) hx hb dX0_count_127 rfl hl (by decide) rfl (fun ls hl => ?_)
          obtain ⟨x_29, e_30, h⟩ := nmI_some h
          refine lv_iinc (v := x_29) (lv' := [(3, .int x_29), (2, .int x_27), (0, .ref x0)]) hx hb dX0_count_128 hl (k := 2) rfl (by rw [e_30]; rfl) (by decide) rfl (fun ls hl => ?_)
          refine lv_goto (tgt := 102) hx hb dX0_count_131 (by decide) ?_
          exact ih x_27 x_29 out _ _ _ h hW (lv_sub hl [2, 1, 0] rfl) k1
  have Lp138 : ∀ (x0 : Nat) (Z : c_S) (n : Nat) (x2 : Int32) (x3 : Int32) (out : (Int32)) (H : Heap) (locs : List Loc) (ls : Array Slot), cm_X0_count_L138 x0 Z n x2 x3 = some out → z_W gp D K (z_A Z0) s Z H locs → lv_has ls 4 [(0, .ref x0), (2, .int x2), (3, .int x3)] → (∀ (o2 : Int32), out = o2 → ∀ (H : Heap) (locs : List Loc) (ls : Array Slot), z_W gp D K (z_A Z0) s Z H locs → lv_has ls 4 [(2, .int o2)] → W p l e rmX0_count s m ([.ref a0, .int a1] : List Value).toArray below meth c H locs 0 0 (MQ below (z_Q (.returned (some (.int r))) D K (z_A Z0) Z0) ([.ref a0, .int a1] : List Value).toArray s 0 0 (z_A Z0)) (F0 m 171 ls [])) → W p l e rmX0_count s m ([.ref a0, .int a1] : List Value).toArray below meth c H locs 0 0 (MQ below (z_Q (.returned (some (.int r))) D K (z_A Z0) Z0) ([.ref a0, .int a1] : List Value).toArray s 0 0 (z_A Z0)) (F0 m 138 ls []) := by
    intro x0 Z n
    induction n with
    | zero =>
      intro x2 x3 out H locs ls h
      exact (lp_0 h).elim
    | succ n ih =>
      intro x2 x3 out H locs ls h hW hl k1
      rw [cm_X0_count_L138_s] at h
      unfold cm_X0_count_B138 at h
      refine lv_iload_n hx hb dX0_count_138 rfl (lv_at hl 2 rfl) ?_
      refine lv_sipush (v := 144) hx hb dX0_count_139 (by decide) ?_
      refine lv_icmp_ge (tgt := 171) hx hb dX0_count_142 (by decide) (fun c_35 => ?_) (fun c_35 => ?_)
      · have h := if_t h c_35
        exact k1 _ (Option.some.inj h).symm _ _ _ hW (lv_sub hl [1] rfl)
      · have h := if_f h c_35
        refine lv_iload_n hx hb dX0_count_145 rfl (lv_at hl 1 rfl) ?_
        refine lv_aload_n hx hb dX0_count_146 rfl (lv_at hl 0 rfl) ?_
        refine zw_getA S hW zC_X0 (i := 1) (by decide) (Or.inl q756) (fun _ h => h) dX0_count_147 h (fun a_36 h => ?_)
        refine zw_getA S hW zC_X1 (i := 4) (by decide) (Or.inr ⟨_, nestW_in q674 rfl⟩) (fun _ h => h) dX0_count_150 h (fun a_37 h => ?_)
        refine lv_iload_n hx hb dX0_count_153 rfl (lv_at hl 2 rfl) ?_
        refine zw_zald S hW dX0_count_154 h (fun x_38 h => ?_)
        refine lv_if_eq (tgt := 162) hx hb dX0_count_155 (by decide) (fun c_39 => ?_) (fun c_39 => ?_)
        · have h := if_t h c_39
          refine lv_iconst (v := 0) hx hb dX0_count_162 (by decide) ?_
          refine lv_iadd hx hb dX0_count_163 ?_
          obtain ⟨x_40, e_41, h⟩ := nmI_some h
          refine g_nmi e_41 ?_
          refine lv_istore_n (lv' := [(2, .int x_40), (0, .ref x0), (3, .int x3)]) hx hb dX0_count_164 rfl hl (by decide) rfl (fun ls hl => ?_)
          obtain ⟨x_42, e_43, h⟩ := nmI_some h
          refine lv_iinc (v := x_42) (lv' := [(3, .int x_42), (2, .int x_40), (0, .ref x0)]) hx hb dX0_count_165 hl (k := 2) rfl (by rw [e_43]; rfl) (by decide) rfl (fun ls hl => ?_)
          refine lv_goto (tgt := 138) hx hb dX0_count_168 (by decide) ?_
          exact ih x_40 x_42 out _ _ _ h hW (lv_sub hl [2, 1, 0] rfl) k1
        · have h := if_f h c_39
          refine lv_iconst (v := 1) hx hb dX0_count_158 (by decide) ?_
          refine lv_goto (tgt := 163) hx hb dX0_count_159 (by decide) ?_
          refine lv_iadd hx hb dX0_count_163 ?_
          obtain ⟨x_44, e_45, h⟩ := nmI_some h
          refine g_nmi e_45 ?_
          refine lv_istore_n (lv' := [(2, .int x_44), (0, .ref x0), (3, .int x3)]) hx hb dX0_count_164 rfl hl (by decide) rfl (fun ls hl => ?_)
          obtain ⟨x_46, e_47, h⟩ := nmI_some h
          refine lv_iinc (v := x_46) (lv' := [(3, .int x_46), (2, .int x_44), (0, .ref x0)]) hx hb dX0_count_165 hl (k := 2) rfl (by rw [e_47]; rfl) (by decide) rfl (fun ls hl => ?_)
          refine lv_goto (tgt := 138) hx hb dX0_count_168 (by decide) ?_
          exact ih x_44 x_46 out _ _ _ h hW (lv_sub hl [2, 1, 0] rfl) k1
  have Lp233 : ∀ (x0 : Nat) (Z : c_S) (n : Nat) (x2 : Int32) (x3 : Int32) (out : (Int32)) (H : Heap) (locs : List Loc) (ls : Array Slot), cm_X0_count_L233 x0 Z n x2 x3 = some out → z_W gp D K (z_A Z0) s Z H locs → lv_has ls 4 [(0, .ref x0), (2, .int x2), (3, .int x3)] → (∀ (o2 : Int32), out = o2 → ∀ (H : Heap) (locs : List Loc) (ls : Array Slot), z_W gp D K (z_A Z0) s Z H locs → lv_has ls 4 [(2, .int o2)] → W p l e rmX0_count s m ([.ref a0, .int a1] : List Value).toArray below meth c H locs 0 0 (MQ below (z_Q (.returned (some (.int r))) D K (z_A Z0) Z0) ([.ref a0, .int a1] : List Value).toArray s 0 0 (z_A Z0)) (F0 m 264 ls [])) → W p l e rmX0_count s m ([.ref a0, .int a1] : List Value).toArray below meth c H locs 0 0 (MQ below (z_Q (.returned (some (.int r))) D K (z_A Z0) Z0) ([.ref a0, .int a1] : List Value).toArray s 0 0 (z_A Z0)) (F0 m 233 ls []) := by
    intro x0 Z n
    induction n with
    | zero =>
      intro x2 x3 out H locs ls h
      exact (lp_0 h).elim
    | succ n ih =>
      intro x2 x3 out H locs ls h hW hl k1
      rw [cm_X0_count_L233_s] at h
      unfold cm_X0_count_B233 at h
      refine lv_iload_n hx hb dX0_count_233 rfl (lv_at hl 2 rfl) ?_
      refine lv_iconst (v := 4) hx hb dX0_count_234 (by decide) ?_
      refine lv_icmp_ge (tgt := 264) hx hb dX0_count_235 (by decide) (fun c_76 => ?_) (fun c_76 => ?_)
      · have h := if_t h c_76
        exact k1 _ (Option.some.inj h).symm _ _ _ hW (lv_sub hl [1] rfl)
      · have h := if_f h c_76
        refine lv_iload_n hx hb dX0_count_238 rfl (lv_at hl 1 rfl) ?_
        refine lv_aload_n hx hb dX0_count_239 rfl (lv_at hl 0 rfl) ?_
        refine zw_getA S hW zC_X0 (i := 0) (by decide) (Or.inl q754) (fun _ h => h) dX0_count_240 h (fun a_77 h => ?_)
        refine lv_iload_n hx hb dX0_count_243 rfl (lv_at hl 2 rfl) ?_
        refine zw_aald (t := 7) S hW rfl dX0_count_244 h (fun o_78 h => ?_)
        have h9 := nn_some h
        clear h
        obtain ⟨a_79, rfl, h8⟩ := h9
        have h := h8
        clear h8
        refine zw_getR S hW zC_X7 (i := 0) (by decide) (Or.inr ⟨_, nestW_in q750 rfl⟩) (fun _ h => h) dX0_count_245 h (fun o_80 h => ?_)
        refine z_ifnonnull (tgt := 255) hx hb dX0_count_248 (by decide) h (fun a_81 eo h9 => ?_) (fun eo h9 => ?_)
        · subst eo; have h := h9; clear h9
          refine lv_iconst (v := 1) hx hb dX0_count_255 (by decide) ?_
          refine lv_iadd hx hb dX0_count_256 ?_
          obtain ⟨x_86, e_87, h⟩ := nmI_some h
          refine g_nmi e_87 ?_
          refine lv_istore_n (lv' := [(2, .int x_86), (0, .ref x0), (3, .int x3)]) hx hb dX0_count_257 rfl hl (by decide) rfl (fun ls hl => ?_)
          obtain ⟨x_88, e_89, h⟩ := nmI_some h
          refine lv_iinc (v := x_88) (lv' := [(3, .int x_88), (2, .int x_86), (0, .ref x0)]) hx hb dX0_count_258 hl (k := 2) rfl (by rw [e_89]; rfl) (by decide) rfl (fun ls hl => ?_)
          refine lv_goto (tgt := 233) hx hb dX0_count_261 (by decide) ?_
          exact ih x_86 x_88 out _ _ _ h hW (lv_sub hl [2, 1, 0] rfl) k1
        · subst eo; have h := h9; clear h9
          refine lv_iconst (v := 0) hx hb dX0_count_251 (by decide) ?_
          refine lv_goto (tgt := 256) hx hb dX0_count_252 (by decide) ?_
          refine lv_iadd hx hb dX0_count_256 ?_
          obtain ⟨x_82, e_83, h⟩ := nmI_some h
          refine g_nmi e_83 ?_
          refine lv_istore_n (lv' := [(2, .int x_82), (0, .ref x0), (3, .int x3)]) hx hb dX0_count_257 rfl hl (by decide) rfl (fun ls hl => ?_)
          obtain ⟨x_84, e_85, h⟩ := nmI_some h
          refine lv_iinc (v := x_84) (lv' := [(3, .int x_84), (2, .int x_82), (0, .ref x0)]) hx hb dX0_count_258 hl (k := 2) rfl (by rw [e_85]; rfl) (by decide) rfl (fun ls hl => ?_)
          refine lv_goto (tgt := 233) hx hb dX0_count_261 (by decide) ?_
          exact ih x_82 x_84 out _ _ _ h hW (lv_sub hl [2, 1, 0] rfl) k1
  unfold cm_X0_count at h
  refine lv_iconst (v := 0) hx hb dX0_count_0 (by decide) ?_
  refine lv_istore_n (lv' := [(2, .int 0), (0, .ref a0), (1, .int a1)]) hx hb dX0_count_1 rfl hl (by decide) rfl (fun ls hl => ?_)
  refine lv_iload_n hx hb dX0_count_2 rfl (lv_at hl 2 rfl) ?_
  by_cases c_1 : a1 = 0
  · have h := if_t h c_1
    refine lv_tableIn (off := 65) (tgt := 68) hx hb dX0_count_3 (by rw [c_1]; decide) (by rw [c_1]; decide) (by rw [c_1]; decide) (by decide) ?_
    refine lv_aload_n hx hb dX0_count_68 rfl (lv_at hl 1 rfl) ?_
    refine zw_getA S hW zC_X0 (i := 1) (by decide) (Or.inl q756) (fun _ h => h) dX0_count_69 h (fun a_2 h => ?_)
    refine zw_getA S hW zC_X1 (i := 0) (by decide) (Or.inr ⟨_, nestW_in q667 rfl⟩) (fun _ h => h) dX0_count_72 h (fun a_3 h => ?_)
    refine zw_getI S hW zC_X2 (i := 12) (by decide) (Or.inr ⟨_, nestW_in q421 rfl⟩) (fun _ h => h) dX0_count_75 h (fun x_4 h => ?_)
    cases h
    exact d_iret S hr hlk hW (Nat.le_of_ble_eq_true rfl) (Nat.le_of_ble_eq_true rfl) dX0_count_78
  have h := if_f h c_1
  by_cases c_5 : a1 = 1
  · have h := if_t h c_5
    refine lv_tableIn (off := 76) (tgt := 79) hx hb dX0_count_3 (by rw [c_5]; decide) (by rw [c_5]; decide) (by rw [c_5]; decide) (by decide) ?_
    refine lv_aload_n hx hb dX0_count_79 rfl (lv_at hl 1 rfl) ?_
    refine zw_getA S hW zC_X0 (i := 1) (by decide) (Or.inl q756) (fun _ h => h) dX0_count_80 h (fun a_6 h => ?_)
    refine zw_getI S hW zC_X1 (i := 9) (by decide) (Or.inr ⟨_, nestW_in q684 rfl⟩) (fun _ h => h) dX0_count_83 h (fun x_7 h => ?_)
    cases h
    exact d_iret S hr hlk hW (Nat.le_of_ble_eq_true rfl) (Nat.le_of_ble_eq_true rfl) dX0_count_86
  have h := if_f h c_5
  by_cases c_8 : a1 = 2
  · have h := if_t h c_8
    refine lv_tableIn (off := 84) (tgt := 87) hx hb dX0_count_3 (by rw [c_8]; decide) (by rw [c_8]; decide) (by rw [c_8]; decide) (by decide) ?_
    refine lv_aload_n hx hb dX0_count_87 rfl (lv_at hl 1 rfl) ?_
    refine zw_getA S hW zC_X0 (i := 1) (by decide) (Or.inl q756) (fun _ h => h) dX0_count_88 h (fun a_9 h => ?_)
    refine zw_getA S hW zC_X1 (i := 5) (by decide) (Or.inr ⟨_, nestW_in q676 rfl⟩) (fun _ h => h) dX0_count_91 h (fun a_10 h => ?_)
    obtain ⟨⟨_, k_11⟩, h⟩ := zK_some h
    obtain ⟨x_14, h_12, h⟩ := bnd_some h
    refine d_callF (As := []) (rest := []) S hW (metJ2_size h_12) (cwJ2_size_F S.2.2.2.2 q1192 (hW.1.2.2.2.2.1.2.2.2.2.2.2.1 _ (List.mem_of_getElem? (i := 1) rfl)) ⟨Nat.le_of_ble_eq_true rfl, Nat.le_of_ble_eq_true rfl⟩) k_11 rfl rfl hl.1 rfl (Nat.le_of_ble_eq_true rfl) dX0_count_94 ⟨(Nat.le_of_ble_eq_true rfl), (Nat.le_of_ble_eq_true rfl)⟩ rfl (fun H locs hW => ?_)
    cases h
    exact d_iret S hr hlk hW (Nat.le_of_ble_eq_true rfl) (Nat.le_of_ble_eq_true rfl) dX0_count_99
  have h := if_f h c_8
  by_cases c_15 : a1 = 3
  · have h := if_t h c_15
    refine lv_tableIn (off := 97) (tgt := 100) hx hb dX0_count_3 (by rw [c_15]; decide) (by rw [c_15]; decide) (by rw [c_15]; decide) (by decide) ?_
    refine lv_iconst (v := 0) hx hb dX0_count_100 (by decide) ?_
    refine lv_istore_n (lv' := [(3, .int 0), (2, .int 0), (0, .ref a0), (1, .int a1)]) hx hb dX0_count_101 rfl hl (by decide) rfl (fun ls hl => ?_)
    obtain ⟨x_33, h_32, h⟩ := bnd_some h
    refine Lp102 a0 Z0 1000 0 0  _ _ _ _ h_32 hW (lv_sub hl [2, 1, 0] rfl) ?_
    intro w0 eo H locs ls hW hl
    subst eo
    refine lv_iload_n hx hb dX0_count_134 rfl (lv_at hl 0 rfl) ?_
    cases h
    exact d_iret S hr hlk hW (Nat.le_of_ble_eq_true rfl) (Nat.le_of_ble_eq_true rfl) dX0_count_135
  have h := if_f h c_15
  by_cases c_34 : a1 = 4
  · have h := if_t h c_34
    refine lv_tableIn (off := 133) (tgt := 136) hx hb dX0_count_3 (by rw [c_34]; decide) (by rw [c_34]; decide) (by rw [c_34]; decide) (by decide) ?_
    refine lv_iconst (v := 0) hx hb dX0_count_136 (by decide) ?_
    refine lv_istore_n (lv' := [(3, .int 0), (2, .int 0), (0, .ref a0), (1, .int a1)]) hx hb dX0_count_137 rfl hl (by decide) rfl (fun ls hl => ?_)
    obtain ⟨x_50, h_49, h⟩ := bnd_some h
    refine Lp138 a0 Z0 1000 0 0  _ _ _ _ h_49 hW (lv_sub hl [2, 1, 0] rfl) ?_
    intro w0 eo H locs ls hW hl
    subst eo
    refine lv_iload_n hx hb dX0_count_171 rfl (lv_at hl 0 rfl) ?_
    cases h
    exact d_iret S hr hlk hW (Nat.le_of_ble_eq_true rfl) (Nat.le_of_ble_eq_true rfl) dX0_count_172
  have h := if_f h c_34
  by_cases c_51 : a1 = 5
  · have h := if_t h c_51
    refine lv_tableIn (off := 170) (tgt := 173) hx hb dX0_count_3 (by rw [c_51]; decide) (by rw [c_51]; decide) (by rw [c_51]; decide) (by decide) ?_
    refine lv_aload_n hx hb dX0_count_173 rfl (lv_at hl 1 rfl) ?_
    refine zw_getA S hW zC_X0 (i := 1) (by decide) (Or.inl q756) (fun _ h => h) dX0_count_174 h (fun a_52 h => ?_)
    refine zw_getA S hW zC_X1 (i := 0) (by decide) (Or.inr ⟨_, nestW_in q667 rfl⟩) (fun _ h => h) dX0_count_177 h (fun a_53 h => ?_)
    refine zw_getA S hW zC_X2 (i := 5) (by decide) (Or.inr ⟨_, nestW_in q405 rfl⟩) (fun _ h => h) dX0_count_180 h (fun a_54 h => ?_)
    obtain ⟨⟨_, k_55⟩, h⟩ := zK_some h
    obtain ⟨x_58, h_56, h⟩ := bnd_some h
    refine d_callF (As := []) (rest := []) S hW (metJ2_size h_56) (cwJ2_size_F S.2.2.2.2 q1192 (hW.1.2.2.2.2.1.2.2.2.2.2.2.1 _ (List.mem_of_getElem? (i := 1) rfl)) ⟨Nat.le_of_ble_eq_true rfl, Nat.le_of_ble_eq_true rfl⟩) k_55 rfl rfl hl.1 rfl (Nat.le_of_ble_eq_true rfl) dX0_count_183 ⟨(Nat.le_of_ble_eq_true rfl), (Nat.le_of_ble_eq_true rfl)⟩ rfl (fun H locs hW => ?_)
    cases h
    exact d_iret S hr hlk hW (Nat.le_of_ble_eq_true rfl) (Nat.le_of_ble_eq_true rfl) dX0_count_188
  have h := if_f h c_51
  by_cases c_59 : a1 = 6
  · have h := if_t h c_59
    refine lv_tableIn (off := 186) (tgt := 189) hx hb dX0_count_3 (by rw [c_59]; decide) (by rw [c_59]; decide) (by rw [c_59]; decide) (by decide) ?_
    refine lv_aload_n hx hb dX0_count_189 rfl (lv_at hl 1 rfl) ?_
    refine zw_getI S hW zC_X0 (i := 5) (by decide) (Or.inl q760) (fun _ h => h) dX0_count_190 h (fun x_60 h => ?_)
    cases h
    exact d_iret S hr hlk hW (Nat.le_of_ble_eq_true rfl) (Nat.le_of_ble_eq_true rfl) dX0_count_193
  have h := if_f h c_59
  by_cases c_61 : a1 = 7
  · have h := if_t h c_61
    refine lv_tableIn (off := 191) (tgt := 194) hx hb dX0_count_3 (by rw [c_61]; decide) (by rw [c_61]; decide) (by rw [c_61]; decide) (by decide) ?_
    refine lv_aload_n hx hb dX0_count_194 rfl (lv_at hl 1 rfl) ?_
    refine zw_getA S hW zC_X0 (i := 1) (by decide) (Or.inl q756) (fun _ h => h) dX0_count_195 h (fun a_62 h => ?_)
    refine zw_getA S hW zC_X1 (i := 6) (by decide) (Or.inr ⟨_, nestW_in q678 rfl⟩) (fun _ h => h) dX0_count_198 h (fun a_63 h => ?_)
    obtain ⟨⟨_, k_64⟩, h⟩ := zK_some h
    obtain ⟨x_67, h_65, h⟩ := bnd_some h
    refine d_callF (As := []) (rest := []) S hW (metJ2_size h_65) (cwJ2_size_F S.2.2.2.2 q1192 (hW.1.2.2.2.2.1.2.2.2.2.2.2.1 _ (List.mem_of_getElem? (i := 1) rfl)) ⟨Nat.le_of_ble_eq_true rfl, Nat.le_of_ble_eq_true rfl⟩) k_64 rfl rfl hl.1 rfl (Nat.le_of_ble_eq_true rfl) dX0_count_201 ⟨(Nat.le_of_ble_eq_true rfl), (Nat.le_of_ble_eq_true rfl)⟩ rfl (fun H locs hW => ?_)
    cases h
    exact d_iret S hr hlk hW (Nat.le_of_ble_eq_true rfl) (Nat.le_of_ble_eq_true rfl) dX0_count_206
  have h := if_f h c_61
  by_cases c_68 : a1 = 8
  · have h := if_t h c_68
    refine lv_tableIn (off := 204) (tgt := 207) hx hb dX0_count_3 (by rw [c_68]; decide) (by rw [c_68]; decide) (by rw [c_68]; decide) (by decide) ?_
    refine lv_aload_n hx hb dX0_count_207 rfl (lv_at hl 1 rfl) ?_
    refine zw_getA S hW zC_X0 (i := 1) (by decide) (Or.inl q756) (fun _ h => h) dX0_count_208 h (fun a_69 h => ?_)
    refine zw_getI S hW zC_X1 (i := 17) (by decide) (Or.inr ⟨_, nestW_in q700 rfl⟩) (fun _ h => h) dX0_count_211 h (fun x_70 h => ?_)
    refine lv_if_eq (tgt := 221) hx hb dX0_count_214 (by decide) (fun c_71 => ?_) (fun c_71 => ?_)
    · have h := if_t h c_71
      refine lv_iconst (v := 0) hx hb dX0_count_221 (by decide) ?_
      cases h
      exact d_iret S hr hlk hW (Nat.le_of_ble_eq_true rfl) (Nat.le_of_ble_eq_true rfl) dX0_count_222
    · have h := if_f h c_71
      refine lv_iconst (v := 1) hx hb dX0_count_217 (by decide) ?_
      refine lv_goto (tgt := 222) hx hb dX0_count_218 (by decide) ?_
      cases h
      exact d_iret S hr hlk hW (Nat.le_of_ble_eq_true rfl) (Nat.le_of_ble_eq_true rfl) dX0_count_222
  have h := if_f h c_68
  by_cases c_72 : a1 = 9
  · have h := if_t h c_72
    refine lv_tableIn (off := 220) (tgt := 223) hx hb dX0_count_3 (by rw [c_72]; decide) (by rw [c_72]; decide) (by rw [c_72]; decide) (by decide) ?_
    refine lv_aload_n hx hb dX0_count_223 rfl (lv_at hl 1 rfl) ?_
    refine zw_getA S hW zC_X0 (i := 1) (by decide) (Or.inl q756) (fun _ h => h) dX0_count_224 h (fun a_73 h => ?_)
    refine zw_getI S hW zC_X1 (i := 10) (by decide) (Or.inr ⟨_, nestW_in q686 rfl⟩) (fun _ h => h) dX0_count_227 h (fun x_74 h => ?_)
    cases h
    exact d_iret S hr hlk hW (Nat.le_of_ble_eq_true rfl) (Nat.le_of_ble_eq_true rfl) dX0_count_230
  have h := if_f h c_72
  by_cases c_75 : a1 = 10
  · have h := if_t h c_75
    refine lv_tableIn (off := 228) (tgt := 231) hx hb dX0_count_3 (by rw [c_75]; decide) (by rw [c_75]; decide) (by rw [c_75]; decide) (by decide) ?_
    refine lv_iconst (v := 0) hx hb dX0_count_231 (by decide) ?_
    refine lv_istore_n (lv' := [(3, .int 0), (2, .int 0), (0, .ref a0), (1, .int a1)]) hx hb dX0_count_232 rfl hl (by decide) rfl (fun ls hl => ?_)
    obtain ⟨x_92, h_91, h⟩ := bnd_some h
    refine Lp233 a0 Z0 1000 0 0  _ _ _ _ h_91 hW (lv_sub hl [2, 1, 0] rfl) ?_
    intro w0 eo H locs ls hW hl
    subst eo
    refine lv_iload_n hx hb dX0_count_264 rfl (lv_at hl 0 rfl) ?_
    cases h
    exact d_iret S hr hlk hW (Nat.le_of_ble_eq_true rfl) (Nat.le_of_ble_eq_true rfl) dX0_count_265
  have h := if_f h c_75
  by_cases c_93 : a1 = 11
  · have h := if_t h c_93
    refine lv_tableIn (off := 263) (tgt := 266) hx hb dX0_count_3 (by rw [c_93]; decide) (by rw [c_93]; decide) (by rw [c_93]; decide) (by decide) ?_
    refine lv_aload_n hx hb dX0_count_266 rfl (lv_at hl 1 rfl) ?_
    refine zw_getA S hW zC_X0 (i := 1) (by decide) (Or.inl q756) (fun _ h => h) dX0_count_267 h (fun a_94 h => ?_)
    refine zw_getA S hW zC_X1 (i := 0) (by decide) (Or.inr ⟨_, nestW_in q667 rfl⟩) (fun _ h => h) dX0_count_270 h (fun a_95 h => ?_)
    refine zw_getI S hW zC_X2 (i := 6) (by decide) (Or.inr ⟨_, nestW_in q409 rfl⟩) (fun _ h => h) dX0_count_273 h (fun x_96 h => ?_)
    cases h
    exact d_iret S hr hlk hW (Nat.le_of_ble_eq_true rfl) (Nat.le_of_ble_eq_true rfl) dX0_count_276
  have h := if_f h c_93
  by_cases c_97 : a1 = 12
  · have h := if_t h c_97
    refine lv_tableIn (off := 274) (tgt := 277) hx hb dX0_count_3 (by rw [c_97]; decide) (by rw [c_97]; decide) (by rw [c_97]; decide) (by decide) ?_
    refine lv_aload_n hx hb dX0_count_277 rfl (lv_at hl 1 rfl) ?_
    refine zw_getA S hW zC_X0 (i := 1) (by decide) (Or.inl q756) (fun _ h => h) dX0_count_278 h (fun a_98 h => ?_)
    refine zw_getI S hW zC_X1 (i := 16) (by decide) (Or.inr ⟨_, nestW_in q698 rfl⟩) (fun _ h => h) dX0_count_281 h (fun x_99 h => ?_)
    cases h
    exact d_iret S hr hlk hW (Nat.le_of_ble_eq_true rfl) (Nat.le_of_ble_eq_true rfl) dX0_count_284
  have h := if_f h c_97
  have c_1 := lv_neT (a := 0) c_1 (by decide)
  have c_5 := lv_neT (a := 1) c_5 (by decide)
  have c_8 := lv_neT (a := 2) c_8 (by decide)
  have c_15 := lv_neT (a := 3) c_15 (by decide)
  have c_34 := lv_neT (a := 4) c_34 (by decide)
  have c_51 := lv_neT (a := 5) c_51 (by decide)
  have c_59 := lv_neT (a := 6) c_59 (by decide)
  have c_61 := lv_neT (a := 7) c_61 (by decide)
  have c_68 := lv_neT (a := 8) c_68 (by decide)
  have c_72 := lv_neT (a := 9) c_72 (by decide)
  have c_75 := lv_neT (a := 10) c_75 (by decide)
  have c_93 := lv_neT (a := 11) c_93 (by decide)
  have c_97 := lv_neT (a := 12) c_97 (by decide)
  refine lv_tableOut (tgt := 285) hx hb dX0_count_3 (by omega) (by decide) ?_
  refine lv_iconst (v := (-1)) hx hb dX0_count_285 (by decide) ?_
  cases h
  exact d_iret S hr hlk hW (Nat.le_of_ble_eq_true rfl) (Nat.le_of_ble_eq_true rfl) dX0_count_286
