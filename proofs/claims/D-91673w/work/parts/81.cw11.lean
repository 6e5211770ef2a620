/-! walks of the component: X3_ground J2_add X1_begins X1_ticks -/
set_option maxRecDepth 100000
def cm_X3_ground_J33 (gp : Nat → Nat) (y0 : Nat) (y1 : Nat) (Z : c_S) : Option ((c_S) ⊕ (Nat × c_S)) :=
  zK Z y0 3 11 <| bnd (cm_X3_number gp Z y0 0 3) (cs2 (un2 fun x_6 Z_7 => zK Z_7 y0 3 11 <| bnd (cm_X3_number_2 gp Z_7 y0 (gp 13) 0 15) (cs2 (un2 fun x_14 Z_15 => zK Z_15 y0 3 11 <| bnd (cm_X3_number_2 gp Z_15 y0 (gp 14) 0 15) (cs2 (un2 fun x_22 Z_23 => zK Z_23 y0 3 11 <| bnd (cm_X3_number_2 gp Z_23 y0 (gp 15) 1 999) (cs2 (un2 fun x_30 Z_31 => cA Z_31.Sh y1 2 13 0 fun a_35 => zNew Z_31 4 4 tyX4 fun Z_36 a_37 => zK Z_36 y0 3 11 <| bnd (cm_X3_below gp Z_36 y0 (gp 16) (-30)) (cs2 (un2 fun x_41 Z_42 => bnd (cm_X4_init Z_42 a_37 x_14 x_22 x_30 x_41) (fun Z_48 => zsR [4] Z_48 8 a_35 x_6 (some a_37) fun Z_49 => some (.inl Z_49))) (un2 fun x_43 Z_44 => some (.inr (x_43, Z_44))))) (un2 fun x_32 Z_33 => some (.inr (x_32, Z_33))))) (un2 fun x_24 Z_25 => some (.inr (x_24, Z_25))))) (un2 fun x_16 Z_17 => some (.inr (x_16, Z_17))))) (un2 fun x_8 Z_9 => some (.inr (x_8, Z_9))))
def cm_X3_ground (gp : Nat → Nat) (Z0 : c_S) (a0 : Nat) (a1 : Nat) : Option ((c_S) ⊕ (Nat × c_S)) :=
  cI Z0.Sh Z0.V a0 3 11 6 fun x_1 => if x_1 = 2 then (cI Z0.Sh Z0.V a0 3 11 8 fun x_50 => if 4 ≤ x_50 then (cm_X3_ground_J33 gp a0 a1 Z0) else (cA Z0.Sh a1 2 13 0 fun a_52 => cI Z0.Sh Z0.V a0 3 11 8 fun x_53 => caR Z0.Sh 8 a_52 x_53 fun o_54 => zNl o_54 (cm_X3_ground_J33 gp a0 a1 Z0) (fun a_55 => zK Z0 a0 3 11 <| bnd (cm_X3_fails gp Z0 a0 2) (cs2 (fun Z_59 => cm_X3_ground_J33 gp a0 a1 Z_59) (un2 fun x_60 Z_61 => some (.inr (x_60, Z_61))))))) else (cm_X3_ground_J33 gp a0 a1 Z0)
abbrev rmX3_ground : Room := rmD 8 209 16 124
theorem cwX3_below_V {own : String} {R : Room} {s : State} {args : Array Value} {index : Nat} (hts : ∀ w ∈ lw_all, w.before args s = true) (hl : Cond.methodLink own index yX3_below ∈ lw_all) (hR : rmX3_below.frames + 1 ≤ R.frames ∧ 8 + (3 + 11) + rmX3_below.locals ≤ R.locals) : CallW R s args own RX3 index yX3_below cX3_below 3 (some .int) (ws_ yX3_below cX3_below 3 (some .int)) rmX3_below 3 24 2 := cwV 2 hts (lw_V hl q1004 qs21 q111 q1005) rfl rfl rfl (by decide +kernel) hR
set_option maxHeartbeats 4000000 in
theorem metX3_ground {l : Launch} {gp : Nat → Nat} {D : va_G} {K : Nat → ClassId} {Z0 : c_S} {a0 : Nat} {a1 : Nat} {Out : ((c_S) ⊕ (Nat × c_S))} (h : cm_X3_ground gp Z0 a0 a1 = some Out) : MetT l yX3_ground (ws_ yX3_ground cX3_ground 6 (none)) rmX3_ground (z_Pc gp [.ref a0, .ref a1] D K Z0) (z_Q (oV Out) D K (z_A Z0) (oVs Out)) 16 124 (z_A Z0) := by
  refine d_metT rfl (Nat.le_of_ble_eq_true rfl) ?_
  intro p e s m below meth c ls S hr hlk hnm hne hl hW hsz
  have S : CallFix p m c cX3_ground 6 s ([.ref a0, .ref a1] : List Value).toArray lw_all RX3 := S
  have hx := S.1
  have hb := S.2.1
  have hl : lv_has ls 6 [(0, .ref a0), (1, .ref a1)] := hl
  have hnm : meth.name = "ground" := hnm
  have J33 : ∀ (y0 : Nat) (y1 : Nat) (Z : c_S) (cells slots : Nat) (H : Heap) (locs : List Loc) (ls : Array Slot), cm_X3_ground_J33 gp y0 y1 Z = some Out → z_W gp D K (z_A Z0) s Z H locs → lv_has ls 6 [(0, .ref y0), (1, .ref y1)] → cells + 15 ≤ 16 → slots + 116 ≤ 124 → W p l e rmX3_ground s m ([.ref a0, .ref a1] : List Value).toArray below meth c H locs cells slots (MQT below (z_Q (oV Out) D K (z_A Z0) (oVs Out)) ([.ref a0, .ref a1] : List Value).toArray s 16 124 (z_A Z0)) (F0 m 33 ls []) := by
    intro y0 y1 Z cells slots H locs ls h hW hl hcl hsl
    unfold cm_X3_ground_J33 at h
    refine lv_aload_n hx hb dX3_ground_33 rfl (lv_at hl 0 rfl) ?_
    refine lv_iconst (v := 0) hx hb dX3_ground_34 (by decide) ?_
    refine lv_iconst (v := 3) hx hb dX3_ground_35 (by decide) ?_
    obtain ⟨⟨_, k_3⟩, h⟩ := zK_some h
    obtain ⟨q_10, h_4, h⟩ := bnd_some h
    have h9 := cs2_some h
    clear h
    rcases h9 with ⟨_, rfl, h⟩ | ⟨_, rfl, h⟩
    · have h9 := un2_some h
      clear h
      obtain ⟨x_6, Z_7, rfl, h⟩ := h9
      refine d_callVTr (As := [.int 0, .int 3]) (rest := []) S hW (metX3_number h_4) (cwX3_number_V S.2.2.2.2 q981 ⟨Nat.le_of_ble_eq_true rfl, Nat.le_of_ble_eq_true rfl⟩) k_3 rfl rfl hl.1 rfl (Nat.le_of_ble_eq_true rfl) dX3_ground_36 ⟨(show _ ≤ 16 from by omega), (show _ ≤ 124 from by omega)⟩ rfl (fun H locs hW => ?_)
      refine lv_istore_n (lv' := [(2, .int x_6), (0, .ref y0), (1, .ref y1)]) hx hb dX3_ground_39 rfl hl (by decide) rfl (fun ls hl => ?_)
      refine lv_aload_n hx hb dX3_ground_40 rfl (lv_at hl 1 rfl) ?_
      refine g_ldcS (w := 13) (tx := "lead") S hW.1 (List.mem_of_getElem? (i := 13) rfl) dX3_ground_41 ?_
      refine lv_iconst (v := 0) hx hb dX3_ground_43 (by decide) ?_
      refine lv_bipush (v := 15) hx hb dX3_ground_44 (by decide) ?_
      obtain ⟨⟨_, k_11⟩, h⟩ := zK_some h
      obtain ⟨q_18, h_12, h⟩ := bnd_some h
      have h9 := cs2_some h
      clear h
      rcases h9 with ⟨_, rfl, h⟩ | ⟨_, rfl, h⟩
      · have h9 := un2_some h
        clear h
        obtain ⟨x_14, Z_15, rfl, h⟩ := h9
        refine d_callVTr (As := [.ref (gp 13), .int 0, .int 15]) (rest := []) S hW (metX3_number_2 h_12) (cwX3_number_2_V S.2.2.2.2 q987 ⟨Nat.le_of_ble_eq_true rfl, Nat.le_of_ble_eq_true rfl⟩) k_11 rfl rfl hl.1 rfl (Nat.le_of_ble_eq_true rfl) dX3_ground_46 ⟨(show _ ≤ 16 from by omega), (show _ ≤ 124 from by omega)⟩ rfl (fun H locs hW => ?_)
        refine lv_istore_n (lv' := [(3, .int x_14), (2, .int x_6), (0, .ref y0), (1, .ref y1)]) hx hb dX3_ground_49 rfl hl (by decide) rfl (fun ls hl => ?_)
        refine lv_aload_n hx hb dX3_ground_50 rfl (lv_at hl 2 rfl) ?_
        refine g_ldcS (w := 14) (tx := "ice") S hW.1 (List.mem_of_getElem? (i := 14) rfl) dX3_ground_51 ?_
        refine lv_iconst (v := 0) hx hb dX3_ground_53 (by decide) ?_
        refine lv_bipush (v := 15) hx hb dX3_ground_54 (by decide) ?_
        obtain ⟨⟨_, k_19⟩, h⟩ := zK_some h
        obtain ⟨q_26, h_20, h⟩ := bnd_some h
        have h9 := cs2_some h
        clear h
        rcases h9 with ⟨_, rfl, h⟩ | ⟨_, rfl, h⟩
        · have h9 := un2_some h
          clear h
          obtain ⟨x_22, Z_23, rfl, h⟩ := h9
          refine d_callVTr (As := [.ref (gp 14), .int 0, .int 15]) (rest := []) S hW (metX3_number_2 h_20) (cwX3_number_2_V S.2.2.2.2 q987 ⟨Nat.le_of_ble_eq_true rfl, Nat.le_of_ble_eq_true rfl⟩) k_19 rfl rfl hl.1 rfl (Nat.le_of_ble_eq_true rfl) dX3_ground_56 ⟨(show _ ≤ 16 from by omega), (show _ ≤ 124 from by omega)⟩ rfl (fun H locs hW => ?_)
          refine lv_istore (lv' := [(4, .int x_22), (3, .int x_14), (2, .int x_6), (0, .ref y0), (1, .ref y1)]) hx hb dX3_ground_59 hl (by decide) rfl (fun ls hl => ?_)
          refine lv_aload_n hx hb dX3_ground_61 rfl (lv_at hl 3 rfl) ?_
          refine g_ldcS (w := 15) (tx := "latent") S hW.1 (List.mem_of_getElem? (i := 15) rfl) dX3_ground_62 ?_
          refine lv_iconst (v := 1) hx hb dX3_ground_64 (by decide) ?_
          refine lv_sipush (v := 999) hx hb dX3_ground_65 (by decide) ?_
          obtain ⟨⟨_, k_27⟩, h⟩ := zK_some h
          obtain ⟨q_34, h_28, h⟩ := bnd_some h
          have h9 := cs2_some h
          clear h
          rcases h9 with ⟨_, rfl, h⟩ | ⟨_, rfl, h⟩
          · have h9 := un2_some h
            clear h
            obtain ⟨x_30, Z_31, rfl, h⟩ := h9
            refine d_callVTr (As := [.ref (gp 15), .int 1, .int 999]) (rest := []) S hW (metX3_number_2 h_28) (cwX3_number_2_V S.2.2.2.2 q987 ⟨Nat.le_of_ble_eq_true rfl, Nat.le_of_ble_eq_true rfl⟩) k_27 rfl rfl hl.1 rfl (Nat.le_of_ble_eq_true rfl) dX3_ground_68 ⟨(show _ ≤ 16 from by omega), (show _ ≤ 124 from by omega)⟩ rfl (fun H locs hW => ?_)
            refine lv_istore (lv' := [(5, .int x_30), (4, .int x_22), (3, .int x_14), (2, .int x_6), (0, .ref y0), (1, .ref y1)]) hx hb dX3_ground_71 hl (by decide) rfl (fun ls hl => ?_)
            refine lv_aload_n hx hb dX3_ground_73 rfl (lv_at hl 5 rfl) ?_
            refine zw_getA S hW zC_X2 (i := 0) (by decide) (Or.inr ⟨_, nestW_in q390 rfl⟩) (fun _ h => h) dX3_ground_74 h (fun a_35 h => ?_)
            refine lv_iload_n hx hb dX3_ground_77 rfl (lv_at hl 3 rfl) ?_
            refine zw_new S hW zC_X4 q453 q454 q112 (show _ ≤ 16 from by omega) (show _ ≤ 124 from by omega) dX3_ground_78 h (fun Z_36 a_37 h H hW => ?_)
            refine lv_dup hx hb dX3_ground_81 rfl ?_
            refine lv_iload_n hx hb dX3_ground_82 rfl (lv_at hl 2 rfl) ?_
            refine lv_iload hx hb dX3_ground_83 (lv_at hl 1 rfl) ?_
            refine lv_iload hx hb dX3_ground_85 (lv_at hl 0 rfl) ?_
            refine lv_aload_n hx hb dX3_ground_87 rfl (lv_at hl 4 rfl) ?_
            refine g_ldcS (w := 16) (tx := "mark") S hW.1 (List.mem_of_getElem? (i := 16) rfl) dX3_ground_88 ?_
            refine lv_bipush (v := (-30)) hx hb dX3_ground_90 (by decide) ?_
            obtain ⟨⟨_, k_38⟩, h⟩ := zK_some h
            obtain ⟨q_45, h_39, h⟩ := bnd_some h
            have h9 := cs2_some h
            clear h
            rcases h9 with ⟨_, rfl, h⟩ | ⟨_, rfl, h⟩
            · have h9 := un2_some h
              clear h
              obtain ⟨x_41, Z_42, rfl, h⟩ := h9
              refine d_callVTr (As := [.ref (gp 16), .int (-30)]) (rest := [.int x_30, .int x_22, .int x_14, .ref a_37, .ref a_37, .int x_6, .ref a_35]) S hW (metX3_below h_39) (cwX3_below_V S.2.2.2.2 q1002 ⟨Nat.le_of_ble_eq_true rfl, Nat.le_of_ble_eq_true rfl⟩) k_38 rfl rfl hl.1 rfl (Nat.le_of_ble_eq_true rfl) dX3_ground_92 ⟨(show _ ≤ 16 from by omega), (show _ ≤ 124 from by omega)⟩ rfl (fun H locs hW => ?_)
              obtain ⟨Z_48, h_46, h⟩ := bnd_some h
              refine d_callI (As := [.int x_14, .int x_22, .int x_30, .int x_41]) (rest := [.ref a_37, .int x_6, .ref a_35]) S hW (metX4_init h_46) (cwX4_init_I S.2.2.2.2 q455 ⟨Nat.le_of_ble_eq_true rfl, Nat.le_of_ble_eq_true rfl⟩) rfl hl.1 rfl (Nat.le_of_ble_eq_true rfl) dX3_ground_95 ⟨(show _ ≤ 16 from by omega), (show _ ≤ 124 from by omega)⟩ rfl (fun H locs hW => ?_)
              refine zw_aast (o := some a_37) S hW (t := 8) rfl zal_8 dX3_ground_98 h (fun Z_49 h H locs hW => ?_)
              cases h
              exact W.toT (d_vret S hr hlk hW (show _ ≤ 16 from by omega) (show _ ≤ 124 from by omega) dX3_ground_99)
            · have h9 := un2_some h
              clear h
              obtain ⟨x_43, Z_44, rfl, h⟩ := h9
              refine d_callVTt (As := [.ref (gp 16), .int (-30)]) (rest := [.int x_30, .int x_22, .int x_14, .ref a_37, .ref a_37, .int x_6, .ref a_35]) S hW (metX3_below h_39) (cwX3_below_V S.2.2.2.2 q1002 ⟨Nat.le_of_ble_eq_true rfl, Nat.le_of_ble_eq_true rfl⟩) k_38 rfl rfl hl.1 rfl (Nat.le_of_ble_eq_true rfl) dX3_ground_92 ⟨(show _ ≤ 16 from by omega), (show _ ≤ 124 from by omega)⟩ (fun H locs hW => ?_)
              cases h
              exact d_leave hlk hne hW (show _ ≤ 16 from by omega) (show _ ≤ 124 from by omega)
          · have h9 := un2_some h
            clear h
            obtain ⟨x_32, Z_33, rfl, h⟩ := h9
            refine d_callVTt (As := [.ref (gp 15), .int 1, .int 999]) (rest := []) S hW (metX3_number_2 h_28) (cwX3_number_2_V S.2.2.2.2 q987 ⟨Nat.le_of_ble_eq_true rfl, Nat.le_of_ble_eq_true rfl⟩) k_27 rfl rfl hl.1 rfl (Nat.le_of_ble_eq_true rfl) dX3_ground_68 ⟨(show _ ≤ 16 from by omega), (show _ ≤ 124 from by omega)⟩ (fun H locs hW => ?_)
            cases h
            exact d_leave hlk hne hW (show _ ≤ 16 from by omega) (show _ ≤ 124 from by omega)
        · have h9 := un2_some h
          clear h
          obtain ⟨x_24, Z_25, rfl, h⟩ := h9
          refine d_callVTt (As := [.ref (gp 14), .int 0, .int 15]) (rest := []) S hW (metX3_number_2 h_20) (cwX3_number_2_V S.2.2.2.2 q987 ⟨Nat.le_of_ble_eq_true rfl, Nat.le_of_ble_eq_true rfl⟩) k_19 rfl rfl hl.1 rfl (Nat.le_of_ble_eq_true rfl) dX3_ground_56 ⟨(show _ ≤ 16 from by omega), (show _ ≤ 124 from by omega)⟩ (fun H locs hW => ?_)
          cases h
          exact d_leave hlk hne hW (show _ ≤ 16 from by omega) (show _ ≤ 124 from by omega)
      · have h9 := un2_some h
        clear h
        obtain ⟨x_16, Z_17, rfl, h⟩ := h9
        refine d_callVTt (As := [.ref (gp 13), .int 0, .int 15]) (rest := []) S hW (metX3_number_2 h_12) (cwX3_number_2_V S.2.2.2.2 q987 ⟨Nat.le_of_ble_eq_true rfl, Nat.le_of_ble_eq_true rfl⟩) k_11 rfl rfl hl.1 rfl (Nat.le_of_ble_eq_true rfl) dX3_ground_46 ⟨(show _ ≤ 16 from by omega), (show _ ≤ 124 from by omega)⟩ (fun H locs hW => ?_)
        cases h
        exact d_leave hlk hne hW (show _ ≤ 16 from by omega) (show _ ≤ 124 from by omega)
    · have h9 := un2_some h
      clear h
      obtain ⟨x_8, Z_9, rfl, h⟩ := h9
      refine d_callVTt (As := [.int 0, .int 3]) (rest := []) S hW (metX3_number h_4) (cwX3_number_V S.2.2.2.2 q981 ⟨Nat.le_of_ble_eq_true rfl, Nat.le_of_ble_eq_true rfl⟩) k_3 rfl rfl hl.1 rfl (Nat.le_of_ble_eq_true rfl) dX3_ground_36 ⟨(show _ ≤ 16 from by omega), (show _ ≤ 124 from by omega)⟩ (fun H locs hW => ?_)
      cases h
      exact d_leave hlk hne hW (show _ ≤ 16 from by omega) (show _ ≤ 124 from by omega)
  unfold cm_X3_ground at h
  refine lv_aload_n hx hb dX3_ground_0 rfl (lv_at hl 0 rfl) ?_
  refine zw_getI S hW zC_X3 (i := 6) (by decide) (Or.inl q833) (fun _ h => h) dX3_ground_1 h (fun x_1 h => ?_)
  refine lv_iconst (v := 2) hx hb dX3_ground_4 (by decide) ?_
  refine lv_icmp_ne (tgt := 33) hx hb dX3_ground_5 (by decide) (fun c_2 => ?_) (fun c_2 => ?_)
  · have h := if_f h c_2
    exact J33 a0 a1 Z0 0 0 _ _ _ h hW hl (by omega) (by omega)
  · have h := if_t h c_2
    refine lv_aload_n hx hb dX3_ground_8 rfl (lv_at hl 0 rfl) ?_
    refine zw_getI S hW zC_X3 (i := 8) (by decide) (Or.inl q835) (fun _ h => h) dX3_ground_9 h (fun x_50 h => ?_)
    refine lv_iconst (v := 4) hx hb dX3_ground_12 (by decide) ?_
    refine lv_icmp_ge (tgt := 33) hx hb dX3_ground_13 (by decide) (fun c_51 => ?_) (fun c_51 => ?_)
    · have h := if_t h c_51
      exact J33 a0 a1 Z0 0 0 _ _ _ h hW hl (by omega) (by omega)
    · have h := if_f h c_51
      refine lv_aload_n hx hb dX3_ground_16 rfl (lv_at hl 1 rfl) ?_
      refine zw_getA S hW zC_X2 (i := 0) (by decide) (Or.inr ⟨_, nestW_in q390 rfl⟩) (fun _ h => h) dX3_ground_17 h (fun a_52 h => ?_)
      refine lv_aload_n hx hb dX3_ground_20 rfl (lv_at hl 0 rfl) ?_
      refine zw_getI S hW zC_X3 (i := 8) (by decide) (Or.inl q835) (fun _ h => h) dX3_ground_21 h (fun x_53 h => ?_)
      refine zw_aald (t := 8) S hW rfl dX3_ground_24 h (fun o_54 h => ?_)
      refine z_ifnull (tgt := 33) hx hb dX3_ground_25 (by decide) h (fun eo h9 => ?_) (fun a_55 eo h9 => ?_)
      · subst eo; have h := h9; clear h9
        exact J33 a0 a1 Z0 0 0 _ _ _ h hW hl (by omega) (by omega)
      · subst eo; have h := h9; clear h9
        refine lv_aload_n hx hb dX3_ground_28 rfl (lv_at hl 0 rfl) ?_
        refine lv_iconst (v := 2) hx hb dX3_ground_29 (by decide) ?_
        obtain ⟨⟨_, k_56⟩, h⟩ := zK_some h
        obtain ⟨q_62, h_57, h⟩ := bnd_some h
        have h9 := cs2_some h
        clear h
        rcases h9 with ⟨_, rfl, h⟩ | ⟨_, rfl, h⟩
        · rename_i Z_59
          refine d_callVTr (As := [.int 2]) (rest := []) S hW (metX3_fails h_57) (cwX3_fails_V S.2.2.2.2 q931 ⟨Nat.le_of_ble_eq_true rfl, Nat.le_of_ble_eq_true rfl⟩) k_56 rfl rfl hl.1 rfl (Nat.le_of_ble_eq_true rfl) dX3_ground_30 ⟨(Nat.le_of_ble_eq_true rfl), (Nat.le_of_ble_eq_true rfl)⟩ rfl (fun H locs hW => ?_)
          exact J33 a0 a1 Z_59 1 8 _ _ _ h hW hl (by omega) (by omega)
        · have h9 := un2_some h
          clear h
          obtain ⟨x_60, Z_61, rfl, h⟩ := h9
          refine d_callVTt (As := [.int 2]) (rest := []) S hW (metX3_fails h_57) (cwX3_fails_V S.2.2.2.2 q931 ⟨Nat.le_of_ble_eq_true rfl, Nat.le_of_ble_eq_true rfl⟩) k_56 rfl rfl hl.1 rfl (Nat.le_of_ble_eq_true rfl) dX3_ground_30 ⟨(Nat.le_of_ble_eq_true rfl), (Nat.le_of_ble_eq_true rfl)⟩ (fun H locs hW => ?_)
          cases h
          exact d_leave hlk hne hW (Nat.le_of_ble_eq_true rfl) (Nat.le_of_ble_eq_true rfl)
def cm_J2_add (gp : Nat → Nat) (Z0 : c_S) (a0 : Nat) (a1 : Nat) : Option (Int32 × c_S) :=
  cI Z0.Sh Z0.V a0 14 3 0 fun x_1 => zPI Z0 a0 14 3 0 (x_1 + 1) fun Z_2 => cA Z_2.Sh a0 14 3 1 fun a_3 => cI Z_2.Sh Z_2.V a0 14 3 2 fun x_4 => zK Z_2 a0 14 3 <| bnd (cm_J2_add_2 gp Z_2 a0 a1 a_3 x_4) (fun Z_8 => some (1, Z_8))
abbrev rmJ2_add : Room := rmD 6 170 1 19
theorem cwJ2_add_2_V {own : String} {R : Room} {s : State} {args : Array Value} {index : Nat} (hts : ∀ w ∈ lw_all, w.before args s = true) (hl : Cond.methodLink own index yJ2_add_2 ∈ lw_all) (hR : rmJ2_add_2.frames + 1 ≤ R.frames ∧ 8 + (4 + 11) + rmJ2_add_2.locals ≤ R.locals) : CallW R s args own RJ2 index yJ2_add_2 cJ2_add_2 4 (none) (ws_ yJ2_add_2 cJ2_add_2 4 (none)) rmJ2_add_2 1 19 3 := cwV 3 hts (lw_V hl q579 qs5 q110 q580) rfl rfl rfl (by decide +kernel) hR
set_option maxHeartbeats 4000000 in
theorem metJ2_add {l : Launch} {gp : Nat → Nat} {D : va_G} {K : Nat → ClassId} {Z0 : c_S} {a0 : Nat} {a1 : Nat} {r : Int32} {Z' : c_S} (h : cm_J2_add gp Z0 a0 a1 = some (r, Z')) : Met l yJ2_add (ws_ yJ2_add cJ2_add 2 (some .boolean)) rmJ2_add (z_Pc gp [.ref a0, .ref a1] D K Z0) (z_Q (.returned (some (.int r))) D K (z_A Z0) Z') 1 19 (z_A Z0) := by
  refine d_met rfl (Nat.le_of_ble_eq_true rfl) ?_
  intro p e s m below meth c ls S hr hlk hnm hl hW hsz
  have S : CallFix p m c cJ2_add 2 s ([.ref a0, .ref a1] : List Value).toArray lw_all RJ2 := S
  have hx := S.1
  have hb := S.2.1
  have hl : lv_has ls 2 [(0, .ref a0), (1, .ref a1)] := hl
  have hnm : meth.name = "add" := hnm
  unfold cm_J2_add at h
  refine lv_aload_n hx hb dJ2_add_0 rfl (lv_at hl 0 rfl) ?_
  refine lv_dup hx hb dJ2_add_1 rfl ?_
  refine zw_getI S hW zC_J2 (i := 0) (by decide) (Or.inl q379) (zsame_mod S) dJ2_add_2 h (fun x_1 h => ?_)
  refine lv_iconst (v := 1) hx hb dJ2_add_5 (by decide) ?_
  refine lv_iadd hx hb dJ2_add_6 ?_
  refine zw_putI S hW zC_J2 (i := 0) (by decide) (Or.inl rfl) rfl rfl rfl (Or.inl q379) (zsame_mod S) dJ2_add_7 h (fun Z_2 h H locs hW => ?_)
  refine lv_aload_n hx hb dJ2_add_10 rfl (lv_at hl 0 rfl) ?_
  refine lv_aload_n hx hb dJ2_add_11 rfl (lv_at hl 1 rfl) ?_
  refine lv_aload_n hx hb dJ2_add_12 rfl (lv_at hl 0 rfl) ?_
  refine zw_getA S hW zC_J2 (i := 1) (by decide) (Or.inl q376) (fun _ h => h) dJ2_add_13 h (fun a_3 h => ?_)
  refine lv_aload_n hx hb dJ2_add_16 rfl (lv_at hl 0 rfl) ?_
  refine zw_getI S hW zC_J2 (i := 2) (by decide) (Or.inl q377) (fun _ h => h) dJ2_add_17 h (fun x_4 h => ?_)
  obtain ⟨⟨_, k_5⟩, h⟩ := zK_some h
  obtain ⟨Z_8, h_6, h⟩ := bnd_some h
  refine d_callV (As := [.ref a1, .ref a_3, .int x_4]) (rest := []) S hW (metJ2_add_2 h_6) (cwJ2_add_2_V S.2.2.2.2 q577 ⟨Nat.le_of_ble_eq_true rfl, Nat.le_of_ble_eq_true rfl⟩) k_5 rfl rfl hl.1 rfl (Nat.le_of_ble_eq_true rfl) dJ2_add_20 ⟨(Nat.le_of_ble_eq_true rfl), (Nat.le_of_ble_eq_true rfl)⟩ rfl (fun H locs hW => ?_)
  refine lv_iconst (v := 1) hx hb dJ2_add_23 (by decide) ?_
  cases h
  exact d_zret S hr hlk rfl hW (Nat.le_of_ble_eq_true rfl) (Nat.le_of_ble_eq_true rfl) dJ2_add_24
def cm_X1_begins_B68 (gp : Nat → Nat) (x0 : Nat) (x1 : Nat) (rec : Int32 → c_S → Option (c_S)) (x2 : Int32) (Z : c_S) : Option (c_S) :=
  cA Z.Sh x1 2 13 3 fun a_21 => zK Z a_21 14 3 <| bnd (cm_J2_size Z a_21) (fun x_25 => if x_25 ≤ x2 then (some Z) else (cA Z.Sh x0 1 20 5 fun a_27 => cA Z.Sh x1 2 13 3 fun a_28 => zK Z a_28 14 3 <| bnd (cm_J2_get Z a_28 x2) (fun o_32 => zCk Z o_32 5 6 <| nn o_32 fun a_33 => zK Z a_33 5 6 <| bnd (cm_X5_copy Z a_33) (un2 fun o_37 Z_38 => nn o_37 fun a_39 => zK Z_38 a_27 14 3 <| bnd (cm_J2_add gp Z_38 a_27 a_39) (un2 fun x_43 Z_44 => nmI (x2 + 1) fun x_45 => rec x_45 Z_44)))))
abbrev cm_X1_begins_F68 (gp : Nat → Nat) (x0 : Nat) (x1 : Nat) : (((Int32) × (c_S)) → Option (c_S)) → ((Int32) × (c_S)) → Option (c_S) := fun rec s => cm_X1_begins_B68 gp x0 x1 (fun x2 Z => rec (x2, Z)) s.1 s.2
def cm_X1_begins_L68 (gp : Nat → Nat) (x0 : Nat) (x1 : Nat) (n : Nat) (x2 : Int32) (Z : c_S) : Option (c_S) := lp (cm_X1_begins_F68 gp x0 x1) n (x2, Z)
theorem cm_X1_begins_L68_s (gp : Nat → Nat) (x0 : Nat) (x1 : Nat) (n : Nat) (x2 : Int32) (Z : c_S) : cm_X1_begins_L68 gp x0 x1 (n + 1) x2 Z = cm_X1_begins_B68 gp x0 x1 (fun x2 Z => cm_X1_begins_L68 gp x0 x1 n x2 Z) x2 Z := lp_s (cm_X1_begins_F68 gp x0 x1) n (x2, Z)
def cm_X1_begins_B115 (gp : Nat → Nat) (x0 : Nat) (x1 : Nat) (rec : Int32 → c_S → Option (c_S)) (x2 : Int32) (Z : c_S) : Option (c_S) :=
  cA Z.Sh x1 2 13 4 fun a_50 => zK Z a_50 14 3 <| bnd (cm_J2_size Z a_50) (fun x_54 => if x_54 ≤ x2 then (some Z) else (cA Z.Sh x0 1 20 6 fun a_56 => cA Z.Sh x1 2 13 4 fun a_57 => zK Z a_57 14 3 <| bnd (cm_J2_get Z a_57 x2) (fun o_61 => zCk Z o_61 6 3 <| nn o_61 fun a_62 => zK Z a_62 6 3 <| bnd (cm_X6_copy Z a_62) (un2 fun o_66 Z_67 => nn o_66 fun a_68 => zK Z_67 a_56 14 3 <| bnd (cm_J2_add gp Z_67 a_56 a_68) (un2 fun x_72 Z_73 => nmI (x2 + 1) fun x_74 => rec x_74 Z_73)))))
abbrev cm_X1_begins_F115 (gp : Nat → Nat) (x0 : Nat) (x1 : Nat) : (((Int32) × (c_S)) → Option (c_S)) → ((Int32) × (c_S)) → Option (c_S) := fun rec s => cm_X1_begins_B115 gp x0 x1 (fun x2 Z => rec (x2, Z)) s.1 s.2
def cm_X1_begins_L115 (gp : Nat → Nat) (x0 : Nat) (x1 : Nat) (n : Nat) (x2 : Int32) (Z : c_S) : Option (c_S) := lp (cm_X1_begins_F115 gp x0 x1) n (x2, Z)
theorem cm_X1_begins_L115_s (gp : Nat → Nat) (x0 : Nat) (x1 : Nat) (n : Nat) (x2 : Int32) (Z : c_S) : cm_X1_begins_L115 gp x0 x1 (n + 1) x2 Z = cm_X1_begins_B115 gp x0 x1 (fun x2 Z => cm_X1_begins_L115 gp x0 x1 n x2 Z) x2 Z := lp_s (cm_X1_begins_F115 gp x0 x1) n (x2, Z)
def cm_X1_begins_B162 (gp : Nat → Nat) (x0 : Nat) (x1 : Nat) (rec : Int32 → c_S → Option (c_S)) (x2 : Int32) (Z : c_S) : Option (c_S) :=
  if 10 ≤ x2 then (some Z) else (cA Z.Sh x0 1 20 7 fun a_80 => zsI Z 0 a_80 x2 (-1) fun Z_81 => nmI (x2 + 1) fun x_82 => rec x_82 Z_81)
abbrev cm_X1_begins_F162 (gp : Nat → Nat) (x0 : Nat) (x1 : Nat) : (((Int32) × (c_S)) → Option (c_S)) → ((Int32) × (c_S)) → Option (c_S) := fun rec s => cm_X1_begins_B162 gp x0 x1 (fun x2 Z => rec (x2, Z)) s.1 s.2
def cm_X1_begins_L162 (gp : Nat → Nat) (x0 : Nat) (x1 : Nat) (n : Nat) (x2 : Int32) (Z : c_S) : Option (c_S) := lp (cm_X1_begins_F162 gp x0 x1) n (x2, Z)
theorem cm_X1_begins_L162_s (gp : Nat → Nat) (x0 : Nat) (x1 : Nat) (n : Nat) (x2 : Int32) (Z : c_S) : cm_X1_begins_L162 gp x0 x1 (n + 1) x2 Z = cm_X1_begins_B162 gp x0 x1 (fun x2 Z => cm_X1_begins_L162 gp x0 x1 n x2 Z) x2 Z := lp_s (cm_X1_begins_F162 gp x0 x1) n (x2, Z)
def cm_X1_begins_B183 (gp : Nat → Nat) (x0 : Nat) (x1 : Nat) (rec : Int32 → c_S → Option (c_S)) (x2 : Int32) (Z : c_S) : Option (c_S) :=
  if 144 ≤ x2 then (some Z) else (cA Z.Sh x0 1 20 1 fun a_88 => cI Z.Sh Z.V x1 2 13 6 fun x_89 => zsI Z 0 a_88 x2 x_89 fun Z_90 => cA Z_90.Sh x0 1 20 2 fun a_91 => zsI Z_90 0 a_91 x2 0 fun Z_92 => cA Z_92.Sh x0 1 20 4 fun a_93 => zsI Z_92 2 a_93 x2 0 fun Z_94 => nmI (x2 + 1) fun x_95 => rec x_95 Z_94)
abbrev cm_X1_begins_F183 (gp : Nat → Nat) (x0 : Nat) (x1 : Nat) : (((Int32) × (c_S)) → Option (c_S)) → ((Int32) × (c_S)) → Option (c_S) := fun rec s => cm_X1_begins_B183 gp x0 x1 (fun x2 Z => rec (x2, Z)) s.1 s.2
def cm_X1_begins_L183 (gp : Nat → Nat) (x0 : Nat) (x1 : Nat) (n : Nat) (x2 : Int32) (Z : c_S) : Option (c_S) := lp (cm_X1_begins_F183 gp x0 x1) n (x2, Z)
theorem cm_X1_begins_L183_s (gp : Nat → Nat) (x0 : Nat) (x1 : Nat) (n : Nat) (x2 : Int32) (Z : c_S) : cm_X1_begins_L183 gp x0 x1 (n + 1) x2 Z = cm_X1_begins_B183 gp x0 x1 (fun x2 Z => cm_X1_begins_L183 gp x0 x1 n x2 Z) x2 Z := lp_s (cm_X1_begins_F183 gp x0 x1) n (x2, Z)
def cm_X1_begins (gp : Nat → Nat) (Z0 : c_S) (a0 : Nat) (a1 : Nat) : Option (c_S) :=
  zPR Z0 a0 1 20 0 (some a1) fun Z_1 => zPI Z_1 a0 1 20 9 0 fun Z_2 => cI Z_2.Sh Z_2.V a1 2 13 11 fun x_3 => zPI Z_2 a0 1 20 10 x_3 fun Z_4 => zPI Z_4 a0 1 20 11 0 fun Z_5 => zPI Z_5 a0 1 20 12 0 fun Z_6 => zPI Z_6 a0 1 20 13 0 fun Z_7 => zPI Z_7 a0 1 20 14 0 fun Z_8 => zPI Z_8 a0 1 20 16 0 fun Z_9 => zPI Z_9 a0 1 20 17 0 fun Z_10 => cA Z_10.Sh a0 1 20 5 fun a_11 => zK Z_10 a_11 14 3 <| bnd (cm_J2_clear Z_10 a_11) (fun Z_15 => cA Z_15.Sh a0 1 20 6 fun a_16 => zK Z_15 a_16 14 3 <| bnd (cm_J2_clear Z_15 a_16) (fun Z_20 => bnd (cm_X1_begins_L68 gp a0 a1 13 0 Z_20) (fun Z_49 => bnd (cm_X1_begins_L115 gp a0 a1 7 0 Z_49) (fun Z_78 => bnd (cm_X1_begins_L162 gp a0 a1 1000 0 Z_78) (fun Z_86 => bnd (cm_X1_begins_L183 gp a0 a1 1000 0 Z_86) (fun Z_99 => cI Z_99.Sh Z_99.V a1 2 13 6 fun x_100 => zPI Z_99 a0 1 20 15 (144 * x_100) fun Z_101 => some Z_101))))))
abbrev rmX1_begins : Room := rmD 7 191 40 479
theorem cwJ2_clear_F {own : String} {R : Room} {s : State} {args : Array Value} {index : Nat} (hts : ∀ w ∈ lw_all, w.before args s = true) (hl : Cond.methodLink own index ⟨"java/util/List", "clear", "()V"⟩ ∈ lw_all) (hF : va_Fw "java/util/ArrayList" ⟨"java/util/List", "clear", "()V"⟩ yJ2_clear s) (hR : rmJ2_clear.frames + 1 ≤ R.frames ∧ 8 + (4 + 11) + rmJ2_clear.locals ≤ R.locals) : va_CI R s args own RJ2 index ⟨"java/util/List", "clear", "()V"⟩ yJ2_clear cJ2_clear 4 (none) (ws_ yJ2_clear cJ2_clear 4 (none)) rmJ2_clear 0 0 0 := va_cwF 0 hts (lw_app (by intro w hw; simp only [List.mem_cons, List.not_mem_nil, or_false] at hw; rcases hw with rfl | rfl | rfl | rfl; exact hl; exact q491; exact q493; exact q110) (lw_meth q495)) rfl rfl rfl hF ⟨by decide, by decide, by decide +kernel⟩ hR
theorem cwX5_copy_V {own : String} {R : Room} {s : State} {args : Array Value} {index : Nat} (hts : ∀ w ∈ lw_all, w.before args s = true) (hl : Cond.methodLink own index yX5_copy ∈ lw_all) (hR : rmX5_copy.frames + 1 ≤ R.frames ∧ 8 + (2 + 11) + rmX5_copy.locals ≤ R.locals) : CallW R s args own RX5 index yX5_copy cX5_copy 2 (some (.object "FrostRing$Pipe")) (ws_ yX5_copy cX5_copy 2 (some (.object "FrostRing$Pipe"))) rmX5_copy 1 6 0 := cwV 0 hts (lw_V hl q526 q527 q115 q528) rfl rfl rfl (by decide +kernel) hR
theorem cwJ2_add_F {own : String} {R : Room} {s : State} {args : Array Value} {index : Nat} (hts : ∀ w ∈ lw_all, w.before args s = true) (hl : Cond.methodLink own index ⟨"java/util/List", "add", "(Ljava/lang/Object;)Z"⟩ ∈ lw_all) (hF : va_Fw "java/util/ArrayList" ⟨"java/util/List", "add", "(Ljava/lang/Object;)Z"⟩ yJ2_add s) (hR : rmJ2_add.frames + 1 ≤ R.frames ∧ 8 + (2 + 11) + rmJ2_add.locals ≤ R.locals) : va_CI R s args own RJ2 index ⟨"java/util/List", "add", "(Ljava/lang/Object;)Z"⟩ yJ2_add cJ2_add 2 (some .boolean) (ws_ yJ2_add cJ2_add 2 (some .boolean)) rmJ2_add 1 19 1 := va_cwF 1 hts (lw_app (by intro w hw; simp only [List.mem_cons, List.not_mem_nil, or_false] at hw; rcases hw with rfl | rfl | rfl | rfl; exact hl; exact q572; exact q574; exact q110) (lw_meth q576)) rfl rfl rfl hF ⟨by decide, by decide, by decide +kernel⟩ hR
theorem cwX6_copy_V {own : String} {R : Room} {s : State} {args : Array Value} {index : Nat} (hts : ∀ w ∈ lw_all, w.before args s = true) (hl : Cond.methodLink own index yX6_copy ∈ lw_all) (hR : rmX6_copy.frames + 1 ≤ R.frames ∧ 8 + (2 + 11) + rmX6_copy.locals ≤ R.locals) : CallW R s args own RX6 index yX6_copy cX6_copy 2 (some (.object "FrostRing$House")) (ws_ yX6_copy cX6_copy 2 (some (.object "FrostRing$House"))) rmX6_copy 1 3 0 := cwV 0 hts (lw_V hl q639 q640 q120 q641) rfl rfl rfl (by decide +kernel) hR
set_option maxHeartbeats 4000000 in
theorem metX1_begins {l : Launch} {gp : Nat → Nat} {D : va_G} {K : Nat → ClassId} {Z0 : c_S} {a0 : Nat} {a1 : Nat} {Z' : c_S} (h : cm_X1_begins gp Z0 a0 a1 = some Z') : Met l yX1_begins (ws_ yX1_begins cX1_begins 3 (none)) rmX1_begins (z_Pc gp [.ref a0, .ref a1] D K Z0) (z_Q (.returned (none)) D K (z_A Z0) Z') 40 479 (z_A Z0) := by
  refine d_met rfl (Nat.le_of_ble_eq_true rfl) ?_
  intro p e s m below meth c ls S hr hlk hnm hl hW hsz
  have S : CallFix p m c cX1_begins 3 s ([.ref a0, .ref a1] : List Value).toArray lw_all RX1 := S
  have hx := S.1
  have hb := S.2.1
  have hl : lv_has ls 3 [(0, .ref a0), (1, .ref a1)] := hl
  have hnm : meth.name = "begins" := hnm
  have Lp68 : ∀ (x0 : Nat) (x1 : Nat) (E G : Nat) (n : Nat) (x2 : Int32) (Z : c_S) (out : (c_S)) (cells slots : Nat) (H : Heap) (locs : List Loc) (ls : Array Slot), cm_X1_begins_L68 gp x0 x1 n x2 Z = some out → z_W gp D K (z_A Z0) s Z H locs → lv_has ls 3 [(0, .ref x0), (1, .ref x1), (2, .int x2)] → cells + n * 2 ≤ E → slots + n * 25 ≤ G → E ≤ 40 → G ≤ 479 → (∀ (oZ : c_S), out = oZ → ∀ (H : Heap) (locs : List Loc) (ls : Array Slot), z_W gp D K (z_A Z0) s oZ H locs → lv_has ls 3 [(0, .ref x0), (1, .ref x1)] → W p l e rmX1_begins s m ([.ref a0, .ref a1] : List Value).toArray below meth c H locs E G (MQ below (z_Q (.returned (none)) D K (z_A Z0) Z') ([.ref a0, .ref a1] : List Value).toArray s 40 479 (z_A Z0)) (F0 m 113 ls [])) → W p l e rmX1_begins s m ([.ref a0, .ref a1] : List Value).toArray below meth c H locs cells slots (MQ below (z_Q (.returned (none)) D K (z_A Z0) Z') ([.ref a0, .ref a1] : List Value).toArray s 40 479 (z_A Z0)) (F0 m 68 ls []) := by
    intro x0 x1 E G n
    induction n with
    | zero =>
      intro x2 Z out cells slots H locs ls h
      exact (lp_0 h).elim
    | succ n ih =>
      intro x2 Z out cells slots H locs ls h hW hl hcl hsl hE hG k1
      have hcl := nsucc hcl
      have hsl := nsucc hsl
      rw [cm_X1_begins_L68_s] at h
      unfold cm_X1_begins_B68 at h
      refine lv_iload_n hx hb dX1_begins_68 rfl (lv_at hl 2 rfl) ?_
      refine lv_aload_n hx hb dX1_begins_69 rfl (lv_at hl 1 rfl) ?_
      refine zw_getA S hW zC_X2 (i := 3) (by decide) (Or.inr ⟨_, nestW_in q398 rfl⟩) (fun _ h => h) dX1_begins_70 h (fun a_21 h => ?_)
      obtain ⟨⟨_, k_22⟩, h⟩ := zK_some h
      obtain ⟨x_25, h_23, h⟩ := bnd_some h
      refine d_callF (As := []) (rest := [.int x2]) S hW (metJ2_size h_23) (cwJ2_size_F S.2.2.2.2 q497 (hW.1.2.2.2.2.1.2.2.2.2.2.2.1 _ (List.mem_of_getElem? (i := 1) rfl)) ⟨Nat.le_of_ble_eq_true rfl, Nat.le_of_ble_eq_true rfl⟩) k_22 rfl rfl hl.1 rfl (Nat.le_of_ble_eq_true rfl) dX1_begins_73 ⟨(show _ ≤ 40 from by omega), (show _ ≤ 479 from by omega)⟩ rfl (fun H locs hW => ?_)
      refine lv_icmp_ge (tgt := 113) hx hb dX1_begins_78 (by decide) (fun c_26 => ?_) (fun c_26 => ?_)
      · have h := if_t h c_26
        exact W.widen (by omega) (by omega) (k1 _ (Option.some.inj h).symm _ _ _ hW (lv_sub hl [0, 1] rfl))
      · have h := if_f h c_26
        refine lv_aload_n hx hb dX1_begins_81 rfl (lv_at hl 0 rfl) ?_
        refine zw_getA S hW zC_X1 (i := 5) (by decide) (Or.inl q675) (fun _ h => h) dX1_begins_82 h (fun a_27 h => ?_)
        refine lv_aload_n hx hb dX1_begins_85 rfl (lv_at hl 1 rfl) ?_
        refine zw_getA S hW zC_X2 (i := 3) (by decide) (Or.inr ⟨_, nestW_in q398 rfl⟩) (fun _ h => h) dX1_begins_86 h (fun a_28 h => ?_)
        refine lv_iload_n hx hb dX1_begins_89 rfl (lv_at hl 2 rfl) ?_
        obtain ⟨⟨_, k_29⟩, h⟩ := zK_some h
        obtain ⟨o_32, h_30, h⟩ := bnd_some h
        refine d_callF (As := [.int x2]) (rest := [.ref a_27]) S hW (metJ2_get h_30) (cwJ2_get_F S.2.2.2.2 q506 (hW.1.2.2.2.2.1.2.2.2.2.2.2.1 _ (List.mem_of_getElem? (i := 2) rfl)) ⟨Nat.le_of_ble_eq_true rfl, Nat.le_of_ble_eq_true rfl⟩) k_29 rfl rfl hl.1 rfl (Nat.le_of_ble_eq_true rfl) dX1_begins_90 ⟨(show _ ≤ 40 from by omega), (show _ ≤ 479 from by omega)⟩ rfl (fun H locs hW => ?_)
        refine zw_ck (o := o_32) S hW zC_X5 q524 dX1_begins_95 h (fun h => ?_)
        have h9 := nn_some h
        clear h
        obtain ⟨a_33, rfl, h8⟩ := h9
        have h := h8
        clear h8
        obtain ⟨⟨_, k_34⟩, h⟩ := zK_some h
        obtain ⟨o_37, Z_38, h_35, h⟩ := bnd2_some h
        refine d_callV (As := []) (rest := [.ref a_27]) S hW (metX5_copy h_35) (cwX5_copy_V S.2.2.2.2 q525 ⟨Nat.le_of_ble_eq_true rfl, Nat.le_of_ble_eq_true rfl⟩) k_34 rfl rfl hl.1 rfl (Nat.le_of_ble_eq_true rfl) dX1_begins_98 ⟨(show _ ≤ 40 from by omega), (show _ ≤ 479 from by omega)⟩ rfl (fun H locs hW => ?_)
        have h9 := nn_some h
        clear h
        obtain ⟨a_39, rfl, h8⟩ := h9
        have h := h8
        clear h8
        obtain ⟨⟨_, k_40⟩, h⟩ := zK_some h
        obtain ⟨x_43, Z_44, h_41, h⟩ := bnd2_some h
        refine d_callF (As := [.ref a_39]) (rest := []) S hW (metJ2_add h_41) (cwJ2_add_F S.2.2.2.2 q569 (hW.1.2.2.2.2.1.2.2.2.2.2.2.1 _ (List.mem_of_getElem? (i := 3) rfl)) ⟨Nat.le_of_ble_eq_true rfl, Nat.le_of_ble_eq_true rfl⟩) k_40 rfl rfl hl.1 rfl (Nat.le_of_ble_eq_true rfl) dX1_begins_101 ⟨(show _ ≤ 40 from by omega), (show _ ≤ 479 from by omega)⟩ rfl (fun H locs hW => ?_)
        refine lv_pop hx hb dX1_begins_106 rfl ?_
        obtain ⟨x_45, e_46, h⟩ := nmI_some h
        refine lv_iinc (v := x_45) (lv' := [(2, .int x_45), (0, .ref x0), (1, .ref x1)]) hx hb dX1_begins_107 hl (k := 2) rfl (by rw [e_46]; rfl) (by decide) rfl (fun ls hl => ?_)
        refine lv_goto (tgt := 68) hx hb dX1_begins_110 (by decide) ?_
        exact ih x_45 Z_44 out (cells + 2) (slots + 25) _ _ _ h hW (lv_sub hl [1, 2, 0] rfl) (by omega) (by omega) hE hG k1
  have Lp115 : ∀ (x0 : Nat) (x1 : Nat) (E G : Nat) (n : Nat) (x2 : Int32) (Z : c_S) (out : (c_S)) (cells slots : Nat) (H : Heap) (locs : List Loc) (ls : Array Slot), cm_X1_begins_L115 gp x0 x1 n x2 Z = some out → z_W gp D K (z_A Z0) s Z H locs → lv_has ls 3 [(0, .ref x0), (1, .ref x1), (2, .int x2)] → cells + n * 2 ≤ E → slots + n * 22 ≤ G → E ≤ 40 → G ≤ 479 → (∀ (oZ : c_S), out = oZ → ∀ (H : Heap) (locs : List Loc) (ls : Array Slot), z_W gp D K (z_A Z0) s oZ H locs → lv_has ls 3 [(0, .ref x0), (1, .ref x1)] → W p l e rmX1_begins s m ([.ref a0, .ref a1] : List Value).toArray below meth c H locs E G (MQ below (z_Q (.returned (none)) D K (z_A Z0) Z') ([.ref a0, .ref a1] : List Value).toArray s 40 479 (z_A Z0)) (F0 m 160 ls [])) → W p l e rmX1_begins s m ([.ref a0, .ref a1] : List Value).toArray below meth c H locs cells slots (MQ below (z_Q (.returned (none)) D K (z_A Z0) Z') ([.ref a0, .ref a1] : List Value).toArray s 40 479 (z_A Z0)) (F0 m 115 ls []) := by
    intro x0 x1 E G n
    induction n with
    | zero =>
      intro x2 Z out cells slots H locs ls h
      exact (lp_0 h).elim
    | succ n ih =>
      intro x2 Z out cells slots H locs ls h hW hl hcl hsl hE hG k1
      have hcl := nsucc hcl
      have hsl := nsucc hsl
      rw [cm_X1_begins_L115_s] at h
      unfold cm_X1_begins_B115 at h
      refine lv_iload_n hx hb dX1_begins_115 rfl (lv_at hl 2 rfl) ?_
      refine lv_aload_n hx hb dX1_begins_116 rfl (lv_at hl 1 rfl) ?_
      refine zw_getA S hW zC_X2 (i := 4) (by decide) (Or.inr ⟨_, nestW_in q401 rfl⟩) (fun _ h => h) dX1_begins_117 h (fun a_50 h => ?_)
      obtain ⟨⟨_, k_51⟩, h⟩ := zK_some h
      obtain ⟨x_54, h_52, h⟩ := bnd_some h
      refine d_callF (As := []) (rest := [.int x2]) S hW (metJ2_size h_52) (cwJ2_size_F S.2.2.2.2 q497 (hW.1.2.2.2.2.1.2.2.2.2.2.2.1 _ (List.mem_of_getElem? (i := 1) rfl)) ⟨Nat.le_of_ble_eq_true rfl, Nat.le_of_ble_eq_true rfl⟩) k_51 rfl rfl hl.1 rfl (Nat.le_of_ble_eq_true rfl) dX1_begins_120 ⟨(show _ ≤ 40 from by omega), (show _ ≤ 479 from by omega)⟩ rfl (fun H locs hW => ?_)
      refine lv_icmp_ge (tgt := 160) hx hb dX1_begins_125 (by decide) (fun c_55 => ?_) (fun c_55 => ?_)
      · have h := if_t h c_55
        exact W.widen (by omega) (by omega) (k1 _ (Option.some.inj h).symm _ _ _ hW (lv_sub hl [0, 1] rfl))
      · have h := if_f h c_55
        refine lv_aload_n hx hb dX1_begins_128 rfl (lv_at hl 0 rfl) ?_
        refine zw_getA S hW zC_X1 (i := 6) (by decide) (Or.inl q677) (fun _ h => h) dX1_begins_129 h (fun a_56 h => ?_)
        refine lv_aload_n hx hb dX1_begins_132 rfl (lv_at hl 1 rfl) ?_
        refine zw_getA S hW zC_X2 (i := 4) (by decide) (Or.inr ⟨_, nestW_in q401 rfl⟩) (fun _ h => h) dX1_begins_133 h (fun a_57 h => ?_)
        refine lv_iload_n hx hb dX1_begins_136 rfl (lv_at hl 2 rfl) ?_
        obtain ⟨⟨_, k_58⟩, h⟩ := zK_some h
        obtain ⟨o_61, h_59, h⟩ := bnd_some h
        refine d_callF (As := [.int x2]) (rest := [.ref a_56]) S hW (metJ2_get h_59) (cwJ2_get_F S.2.2.2.2 q506 (hW.1.2.2.2.2.1.2.2.2.2.2.2.1 _ (List.mem_of_getElem? (i := 2) rfl)) ⟨Nat.le_of_ble_eq_true rfl, Nat.le_of_ble_eq_true rfl⟩) k_58 rfl rfl hl.1 rfl (Nat.le_of_ble_eq_true rfl) dX1_begins_137 ⟨(show _ ≤ 40 from by omega), (show _ ≤ 479 from by omega)⟩ rfl (fun H locs hW => ?_)
        refine zw_ck (o := o_61) S hW zC_X6 q637 dX1_begins_142 h (fun h => ?_)
        have h9 := nn_some h
        clear h
        obtain ⟨a_62, rfl, h8⟩ := h9
        have h := h8
        clear h8
        obtain ⟨⟨_, k_63⟩, h⟩ := zK_some h
        obtain ⟨o_66, Z_67, h_64, h⟩ := bnd2_some h
        refine d_callV (As := []) (rest := [.ref a_56]) S hW (metX6_copy h_64) (cwX6_copy_V S.2.2.2.2 q638 ⟨Nat.le_of_ble_eq_true rfl, Nat.le_of_ble_eq_true rfl⟩) k_63 rfl rfl hl.1 rfl (Nat.le_of_ble_eq_true rfl) dX1_begins_145 ⟨(show _ ≤ 40 from by omega), (show _ ≤ 479 from by omega)⟩ rfl (fun H locs hW => ?_)
        have h9 := nn_some h
        clear h
        obtain ⟨a_68, rfl, h8⟩ := h9
        have h := h8
        clear h8
        obtain ⟨⟨_, k_69⟩, h⟩ := zK_some h
        obtain ⟨x_72, Z_73, h_70, h⟩ := bnd2_some h
        refine d_callF (As := [.ref a_68]) (rest := []) S hW (metJ2_add h_70) (cwJ2_add_F S.2.2.2.2 q569 (hW.1.2.2.2.2.1.2.2.2.2.2.2.1 _ (List.mem_of_getElem? (i := 3) rfl)) ⟨Nat.le_of_ble_eq_true rfl, Nat.le_of_ble_eq_true rfl⟩) k_69 rfl rfl hl.1 rfl (Nat.le_of_ble_eq_true rfl) dX1_begins_148 ⟨(show _ ≤ 40 from by omega), (show _ ≤ 479 from by omega)⟩ rfl (fun H locs hW => ?_)
        refine lv_pop hx hb dX1_begins_153 rfl ?_
        obtain ⟨x_74, e_75, h⟩ := nmI_some h
        refine lv_iinc (v := x_74) (lv' := [(2, .int x_74), (0, .ref x0), (1, .ref x1)]) hx hb dX1_begins_154 hl (k := 2) rfl (by rw [e_75]; rfl) (by decide) rfl (fun ls hl => ?_)
        refine lv_goto (tgt := 115) hx hb dX1_begins_157 (by decide) ?_
        exact ih x_74 Z_73 out (cells + 2) (slots + 22) _ _ _ h hW (lv_sub hl [1, 2, 0] rfl) (by omega) (by omega) hE hG k1
  have Lp162 : ∀ (x0 : Nat) (x1 : Nat) (E G : Nat) (n : Nat) (x2 : Int32) (Z : c_S) (out : (c_S)) (cells slots : Nat) (H : Heap) (locs : List Loc) (ls : Array Slot), cm_X1_begins_L162 gp x0 x1 n x2 Z = some out → z_W gp D K (z_A Z0) s Z H locs → lv_has ls 3 [(0, .ref x0), (1, .ref x1), (2, .int x2)] → cells + n * 0 ≤ E → slots + n * 0 ≤ G → E ≤ 40 → G ≤ 479 → (∀ (oZ : c_S), out = oZ → ∀ (H : Heap) (locs : List Loc) (ls : Array Slot), z_W gp D K (z_A Z0) s oZ H locs → lv_has ls 3 [(0, .ref x0), (1, .ref x1)] → W p l e rmX1_begins s m ([.ref a0, .ref a1] : List Value).toArray below meth c H locs E G (MQ below (z_Q (.returned (none)) D K (z_A Z0) Z') ([.ref a0, .ref a1] : List Value).toArray s 40 479 (z_A Z0)) (F0 m 181 ls [])) → W p l e rmX1_begins s m ([.ref a0, .ref a1] : List Value).toArray below meth c H locs cells slots (MQ below (z_Q (.returned (none)) D K (z_A Z0) Z') ([.ref a0, .ref a1] : List Value).toArray s 40 479 (z_A Z0)) (F0 m 162 ls []) := by
    intro x0 x1 E G n
    induction n with
    | zero =>
      intro x2 Z out cells slots H locs ls h
      exact (lp_0 h).elim
    | succ n ih =>
      intro x2 Z out cells slots H locs ls h hW hl hcl hsl hE hG k1
      rw [cm_X1_begins_L162_s] at h
      unfold cm_X1_begins_B162 at h
      refine lv_iload_n hx hb dX1_begins_162 rfl (lv_at hl 2 rfl) ?_
      refine lv_bipush (v := 10) hx hb dX1_begins_163 (by decide) ?_
      refine lv_icmp_ge (tgt := 181) hx hb dX1_begins_165 (by decide) (fun c_79 => ?_) (fun c_79 => ?_)
      · have h := if_t h c_79
        exact W.widen (by omega) (by omega) (k1 _ (Option.some.inj h).symm _ _ _ hW (lv_sub hl [0, 1] rfl))
      · have h := if_f h c_79
        refine lv_aload_n hx hb dX1_begins_168 rfl (lv_at hl 0 rfl) ?_
        refine zw_getA S hW zC_X1 (i := 7) (by decide) (Or.inl q679) (fun _ h => h) dX1_begins_169 h (fun a_80 h => ?_)
        refine lv_iload_n hx hb dX1_begins_172 rfl (lv_at hl 2 rfl) ?_
        refine lv_iconst (v := (-1)) hx hb dX1_begins_173 (by decide) ?_
        refine zw_iast S hW dX1_begins_174 h (fun Z_81 h H locs hW => ?_)
        obtain ⟨x_82, e_83, h⟩ := nmI_some h
        refine lv_iinc (v := x_82) (lv' := [(2, .int x_82), (0, .ref x0), (1, .ref x1)]) hx hb dX1_begins_175 hl (k := 2) rfl (by rw [e_83]; rfl) (by decide) rfl (fun ls hl => ?_)
        refine lv_goto (tgt := 162) hx hb dX1_begins_178 (by decide) ?_
        exact ih x_82 Z_81 out cells slots _ _ _ h hW (lv_sub hl [1, 2, 0] rfl) (by omega) (by omega) hE hG k1
  have Lp183 : ∀ (x0 : Nat) (x1 : Nat) (E G : Nat) (n : Nat) (x2 : Int32) (Z : c_S) (out : (c_S)) (cells slots : Nat) (H : Heap) (locs : List Loc) (ls : Array Slot), cm_X1_begins_L183 gp x0 x1 n x2 Z = some out → z_W gp D K (z_A Z0) s Z H locs → lv_has ls 3 [(0, .ref x0), (1, .ref x1), (2, .int x2)] → cells + n * 0 ≤ E → slots + n * 0 ≤ G → E ≤ 40 → G ≤ 479 → (∀ (oZ : c_S), out = oZ → ∀ (H : Heap) (locs : List Loc) (ls : Array Slot), z_W gp D K (z_A Z0) s oZ H locs → lv_has ls 3 [(0, .ref x0), (1, .ref x1)] → W p l e rmX1_begins s m ([.ref a0, .ref a1] : List Value).toArray below meth c H locs E G (MQ below (z_Q (.returned (none)) D K (z_A Z0) Z') ([.ref a0, .ref a1] : List Value).toArray s 40 479 (z_A Z0)) (F0 m 220 ls [])) → W p l e rmX1_begins s m ([.ref a0, .ref a1] : List Value).toArray below meth c H locs cells slots (MQ below (z_Q (.returned (none)) D K (z_A Z0) Z') ([.ref a0, .ref a1] : List Value).toArray s 40 479 (z_A Z0)) (F0 m 183 ls []) := by
    intro x0 x1 E G n
    induction n with
    | zero =>
      intro x2 Z out cells slots H locs ls h
      exact (lp_0 h).elim
    | succ n ih =>
      intro x2 Z out cells slots H locs ls h hW hl hcl hsl hE hG k1
      rw [cm_X1_begins_L183_s] at h
      unfold cm_X1_begins_B183 at h
      refine lv_iload_n hx hb dX1_begins_183 rfl (lv_at hl 2 rfl) ?_
      refine lv_sipush (v := 144) hx hb dX1_begins_184 (by decide) ?_
      refine lv_icmp_ge (tgt := 220) hx hb dX1_begins_187 (by decide) (fun c_87 => ?_) (fun c_87 => ?_)
      · have h := if_t h c_87
        exact W.widen (by omega) (by omega) (k1 _ (Option.some.inj h).symm _ _ _ hW (lv_sub hl [0, 1] rfl))
      · have h := if_f h c_87
        refine lv_aload_n hx hb dX1_begins_190 rfl (lv_at hl 0 rfl) ?_
        refine zw_getA S hW zC_X1 (i := 1) (by decide) (Or.inl q668) (fun _ h => h) dX1_begins_191 h (fun a_88 h => ?_)
        refine lv_iload_n hx hb dX1_begins_194 rfl (lv_at hl 2 rfl) ?_
        refine lv_aload_n hx hb dX1_begins_195 rfl (lv_at hl 1 rfl) ?_
        refine zw_getI S hW zC_X2 (i := 6) (by decide) (Or.inr ⟨_, nestW_in q407 rfl⟩) (fun _ h => h) dX1_begins_196 h (fun x_89 h => ?_)
        refine zw_iast S hW dX1_begins_199 h (fun Z_90 h H locs hW => ?_)
        refine lv_aload_n hx hb dX1_begins_200 rfl (lv_at hl 0 rfl) ?_
        refine zw_getA S hW zC_X1 (i := 2) (by decide) (Or.inl q670) (fun _ h => h) dX1_begins_201 h (fun a_91 h => ?_)
        refine lv_iload_n hx hb dX1_begins_204 rfl (lv_at hl 2 rfl) ?_
        refine lv_iconst (v := 0) hx hb dX1_begins_205 (by decide) ?_
        refine zw_iast S hW dX1_begins_206 h (fun Z_92 h H locs hW => ?_)
        refine lv_aload_n hx hb dX1_begins_207 rfl (lv_at hl 0 rfl) ?_
        refine zw_getA S hW zC_X1 (i := 4) (by decide) (Or.inl q673) (fun _ h => h) dX1_begins_208 h (fun a_93 h => ?_)
        refine lv_iload_n hx hb dX1_begins_211 rfl (lv_at hl 2 rfl) ?_
        refine lv_iconst (v := 0) hx hb dX1_begins_212 (by decide) ?_
        refine zw_zast S hW (by decide) dX1_begins_213 h (fun Z_94 h H locs hW => ?_)
        obtain ⟨x_95, e_96, h⟩ := nmI_some h
        refine lv_iinc (v := x_95) (lv' := [(2, .int x_95), (0, .ref x0), (1, .ref x1)]) hx hb dX1_begins_214 hl (k := 2) rfl (by rw [e_96]; rfl) (by decide) rfl (fun ls hl => ?_)
        refine lv_goto (tgt := 183) hx hb dX1_begins_217 (by decide) ?_
        exact ih x_95 Z_94 out cells slots _ _ _ h hW (lv_sub hl [1, 2, 0] rfl) (by omega) (by omega) hE hG k1
  unfold cm_X1_begins at h
  refine lv_aload_n hx hb dX1_begins_0 rfl (lv_at hl 0 rfl) ?_
  refine lv_aload_n hx hb dX1_begins_1 rfl (lv_at hl 1 rfl) ?_
  refine zw_putR (o := some a1) S hW zC_X1 (i := 0) (by decide) (Or.inl rfl) rfl (Or.inl q665) (fun _ h => h) dX1_begins_2 h (fun Z_1 h H locs hW => ?_)
  refine lv_aload_n hx hb dX1_begins_5 rfl (lv_at hl 0 rfl) ?_
  refine lv_iconst (v := 0) hx hb dX1_begins_6 (by decide) ?_
  refine zw_putI S hW zC_X1 (i := 9) (by decide) (Or.inl rfl) rfl rfl rfl (Or.inl q683) (fun _ h => h) dX1_begins_7 h (fun Z_2 h H locs hW => ?_)
  refine lv_aload_n hx hb dX1_begins_10 rfl (lv_at hl 0 rfl) ?_
  refine lv_aload_n hx hb dX1_begins_11 rfl (lv_at hl 1 rfl) ?_
  refine zw_getI S hW zC_X2 (i := 11) (by decide) (Or.inr ⟨_, nestW_in q419 rfl⟩) (fun _ h => h) dX1_begins_12 h (fun x_3 h => ?_)
  refine zw_putI S hW zC_X1 (i := 10) (by decide) (Or.inl rfl) rfl rfl rfl (Or.inl q685) (fun _ h => h) dX1_begins_15 h (fun Z_4 h H locs hW => ?_)
  refine lv_aload_n hx hb dX1_begins_18 rfl (lv_at hl 0 rfl) ?_
  refine lv_iconst (v := 0) hx hb dX1_begins_19 (by decide) ?_
  refine zw_putI S hW zC_X1 (i := 11) (by decide) (Or.inl rfl) rfl rfl rfl (Or.inl q687) (fun _ h => h) dX1_begins_20 h (fun Z_5 h H locs hW => ?_)
  refine lv_aload_n hx hb dX1_begins_23 rfl (lv_at hl 0 rfl) ?_
  refine lv_iconst (v := 0) hx hb dX1_begins_24 (by decide) ?_
  refine zw_putI S hW zC_X1 (i := 12) (by decide) (Or.inl rfl) rfl rfl rfl (Or.inl q689) (fun _ h => h) dX1_begins_25 h (fun Z_6 h H locs hW => ?_)
  refine lv_aload_n hx hb dX1_begins_28 rfl (lv_at hl 0 rfl) ?_
  refine lv_iconst (v := 0) hx hb dX1_begins_29 (by decide) ?_
  refine zw_putI S hW zC_X1 (i := 13) (by decide) (Or.inl rfl) rfl rfl rfl (Or.inl q691) (fun _ h => h) dX1_begins_30 h (fun Z_7 h H locs hW => ?_)
  refine lv_aload_n hx hb dX1_begins_33 rfl (lv_at hl 0 rfl) ?_
  refine lv_iconst (v := 0) hx hb dX1_begins_34 (by decide) ?_
  refine zw_putI S hW zC_X1 (i := 14) (by decide) (Or.inl rfl) rfl rfl rfl (Or.inl q693) (fun _ h => h) dX1_begins_35 h (fun Z_8 h H locs hW => ?_)
  refine lv_aload_n hx hb dX1_begins_38 rfl (lv_at hl 0 rfl) ?_
  refine lv_iconst (v := 0) hx hb dX1_begins_39 (by decide) ?_
  refine zw_putI S hW zC_X1 (i := 16) (by decide) (Or.inl rfl) rfl rfl rfl (Or.inl q697) (fun _ h => h) dX1_begins_40 h (fun Z_9 h H locs hW => ?_)
  refine lv_aload_n hx hb dX1_begins_43 rfl (lv_at hl 0 rfl) ?_
  refine lv_iconst (v := 0) hx hb dX1_begins_44 (by decide) ?_
  refine zw_putI S hW zC_X1 (i := 17) (by decide) (Or.inl rfl) rfl rfl rfl (Or.inl q699) (fun _ h => h) dX1_begins_45 h (fun Z_10 h H locs hW => ?_)
  refine lv_aload_n hx hb dX1_begins_48 rfl (lv_at hl 0 rfl) ?_
  refine zw_getA S hW zC_X1 (i := 5) (by decide) (Or.inl q675) (fun _ h => h) dX1_begins_49 h (fun a_11 h => ?_)
  obtain ⟨⟨_, k_12⟩, h⟩ := zK_some h
  obtain ⟨Z_15, h_13, h⟩ := bnd_some h
  refine d_callF (As := []) (rest := []) S hW (metJ2_clear h_13) (cwJ2_clear_F S.2.2.2.2 q487 (hW.1.2.2.2.2.1.2.2.2.2.2.2.1 _ (List.mem_of_getElem? (i := 0) rfl)) ⟨Nat.le_of_ble_eq_true rfl, Nat.le_of_ble_eq_true rfl⟩) k_12 rfl rfl hl.1 rfl (Nat.le_of_ble_eq_true rfl) dX1_begins_52 ⟨(Nat.le_of_ble_eq_true rfl), (Nat.le_of_ble_eq_true rfl)⟩ rfl (fun H locs hW => ?_)
  refine lv_aload_n hx hb dX1_begins_57 rfl (lv_at hl 0 rfl) ?_
  refine zw_getA S hW zC_X1 (i := 6) (by decide) (Or.inl q677) (fun _ h => h) dX1_begins_58 h (fun a_16 h => ?_)
  obtain ⟨⟨_, k_17⟩, h⟩ := zK_some h
  obtain ⟨Z_20, h_18, h⟩ := bnd_some h
  refine d_callF (As := []) (rest := []) S hW (metJ2_clear h_18) (cwJ2_clear_F S.2.2.2.2 q487 (hW.1.2.2.2.2.1.2.2.2.2.2.2.1 _ (List.mem_of_getElem? (i := 0) rfl)) ⟨Nat.le_of_ble_eq_true rfl, Nat.le_of_ble_eq_true rfl⟩) k_17 rfl rfl hl.1 rfl (Nat.le_of_ble_eq_true rfl) dX1_begins_61 ⟨(Nat.le_of_ble_eq_true rfl), (Nat.le_of_ble_eq_true rfl)⟩ rfl (fun H locs hW => ?_)
  refine lv_iconst (v := 0) hx hb dX1_begins_66 (by decide) ?_
  refine lv_istore_n (lv' := [(2, .int 0), (0, .ref a0), (1, .ref a1)]) hx hb dX1_begins_67 rfl hl (by decide) rfl (fun ls hl => ?_)
  obtain ⟨Z_49, h_48, h⟩ := bnd_some h
  refine Lp68 a0 a1 26 325 13 0 Z_20  _ 0 0 _ _ _ h_48 hW (lv_sub hl [1, 2, 0] rfl) (by omega) (by omega) (by omega) (by omega) ?_
  intro w0 eo H locs ls hW hl
  subst eo
  refine lv_iconst (v := 0) hx hb dX1_begins_113 (by decide) ?_
  refine lv_istore_n (lv' := [(2, .int 0), (0, .ref a0), (1, .ref a1)]) hx hb dX1_begins_114 rfl hl (by decide) rfl (fun ls hl => ?_)
  obtain ⟨Z_78, h_77, h⟩ := bnd_some h
  refine Lp115 a0 a1 40 479 7 0 Z_49  _ 26 325 _ _ _ h_77 hW (lv_sub hl [1, 2, 0] rfl) (by omega) (by omega) (by omega) (by omega) ?_
  intro w0 eo H locs ls hW hl
  subst eo
  refine lv_iconst (v := 0) hx hb dX1_begins_160 (by decide) ?_
  refine lv_istore_n (lv' := [(2, .int 0), (0, .ref a0), (1, .ref a1)]) hx hb dX1_begins_161 rfl hl (by decide) rfl (fun ls hl => ?_)
  obtain ⟨Z_86, h_85, h⟩ := bnd_some h
  refine Lp162 a0 a1 40 479 1000 0 Z_78  _ 40 479 _ _ _ h_85 hW (lv_sub hl [1, 2, 0] rfl) (by omega) (by omega) (by omega) (by omega) ?_
  intro w0 eo H locs ls hW hl
  subst eo
  refine lv_iconst (v := 0) hx hb dX1_begins_181 (by decide) ?_
  refine lv_istore_n (lv' := [(2, .int 0), (0, .ref a0), (1, .ref a1)]) hx hb dX1_begins_182 rfl hl (by decide) rfl (fun ls hl => ?_)
  obtain ⟨Z_99, h_98, h⟩ := bnd_some h
  refine Lp183 a0 a1 40 479 1000 0 Z_86  _ 40 479 _ _ _ h_98 hW (lv_sub hl [1, 2, 0] rfl) (by omega) (by omega) (by omega) (by omega) ?_
  intro w0 eo H locs ls hW hl
  subst eo
  refine lv_aload_n hx hb dX1_begins_220 rfl (lv_at hl 0 rfl) ?_
  refine lv_sipush (v := 144) hx hb dX1_begins_221 (by decide) ?_
  refine lv_aload_n hx hb dX1_begins_224 rfl (lv_at hl 1 rfl) ?_
  refine zw_getI S hW zC_X2 (i := 6) (by decide) (Or.inr ⟨_, nestW_in q407 rfl⟩) (fun _ h => h) dX1_begins_225 h (fun x_100 h => ?_)
  refine lv_imul hx hb dX1_begins_228 ?_
  refine zw_putI S hW zC_X1 (i := 15) (by decide) (Or.inl rfl) rfl rfl rfl (Or.inl q695) (fun _ h => h) dX1_begins_229 h (fun Z_101 h H locs hW => ?_)
  cases h
  exact d_vret S hr hlk hW (Nat.le_of_ble_eq_true rfl) (Nat.le_of_ble_eq_true rfl) dX1_begins_232
def cm_X1_ticks_B2 (x0 : Nat) (rec : Int32 → c_S → Option (c_S)) (x1 : Int32) (Z : c_S) : Option (c_S) :=
  if 144 ≤ x1 then (some Z) else (cA Z.Sh x0 1 20 3 fun a_2 => zsI Z 0 a_2 x1 0 fun Z_3 => cA Z_3.Sh x0 1 20 4 fun a_4 => caI Z_3.Sh Z_3.V 2 a_4 x1 fun x_5 => if x_5 = 0 then (zK Z_3 x0 1 20 <| bnd (cm_X1_leads Z_3 x0 x1) (fun Z_10 => zK Z_10 x0 1 20 <| bnd (cm_X1_streams Z_10 x0 x1) (fun Z_14 => nmI (x1 + 1) fun x_15 => rec x_15 Z_14))) else (nmI (x1 + 1) fun x_17 => rec x_17 Z_3))
abbrev cm_X1_ticks_F2 (x0 : Nat) : (((Int32) × (c_S)) → Option (c_S)) → ((Int32) × (c_S)) → Option (c_S) := fun rec s => cm_X1_ticks_B2 x0 (fun x1 Z => rec (x1, Z)) s.1 s.2
def cm_X1_ticks_L2 (x0 : Nat) (n : Nat) (x1 : Int32) (Z : c_S) : Option (c_S) := lp (cm_X1_ticks_F2 x0) n (x1, Z)
theorem cm_X1_ticks_L2_s (x0 : Nat) (n : Nat) (x1 : Int32) (Z : c_S) : cm_X1_ticks_L2 x0 (n + 1) x1 Z = cm_X1_ticks_B2 x0 (fun x1 Z => cm_X1_ticks_L2 x0 n x1 Z) x1 Z := lp_s (cm_X1_ticks_F2 x0) n (x1, Z)
def cm_X1_ticks_B50 (x0 : Nat) (rec : Int32 → c_S → Option (c_S)) (x1 : Int32) (Z : c_S) : Option (c_S) :=
  if 144 ≤ x1 then (some Z) else (cA Z.Sh x0 1 20 4 fun a_27 => caI Z.Sh Z.V 2 a_27 x1 fun x_28 => if x_28 = 0 then (cA Z.Sh x0 1 20 3 fun a_32 => caI Z.Sh Z.V 0 a_32 x1 fun x_33 => zK Z x0 1 20 <| bnd (cm_X1_takes Z x0 x1 x_33) (fun Z_37 => nmI (x1 + 1) fun x_38 => rec x_38 Z_37)) else (nmI (x1 + 1) fun x_30 => rec x_30 Z))
abbrev cm_X1_ticks_F50 (x0 : Nat) : (((Int32) × (c_S)) → Option (c_S)) → ((Int32) × (c_S)) → Option (c_S) := fun rec s => cm_X1_ticks_B50 x0 (fun x1 Z => rec (x1, Z)) s.1 s.2
def cm_X1_ticks_L50 (x0 : Nat) (n : Nat) (x1 : Int32) (Z : c_S) : Option (c_S) := lp (cm_X1_ticks_F50 x0) n (x1, Z)
theorem cm_X1_ticks_L50_s (x0 : Nat) (n : Nat) (x1 : Int32) (Z : c_S) : cm_X1_ticks_L50 x0 (n + 1) x1 Z = cm_X1_ticks_B50 x0 (fun x1 Z => cm_X1_ticks_L50 x0 n x1 Z) x1 Z := lp_s (cm_X1_ticks_F50 x0) n (x1, Z)
def cm_X1_ticks_B95 (x0 : Nat) (rec : Int32 → c_S → Option (c_S)) (x1 : Int32) (Z : c_S) : Option (c_S) :=
  cA Z.Sh x0 1 20 6 fun a_45 => zK Z a_45 14 3 <| bnd (cm_J2_size Z a_45) (fun x_49 => if x_49 ≤ x1 then (some Z) else (cA Z.Sh x0 1 20 6 fun a_51 => zK Z a_51 14 3 <| bnd (cm_J2_get Z a_51 x1) (fun o_55 => zCk Z o_55 6 3 <| nn o_55 fun a_56 => cI Z.Sh Z.V a_56 6 3 2 fun x_57 => if x_57 = (-1) then (cI Z.Sh Z.V a_56 6 3 0 fun x_61 => zK Z x0 1 20 <| bnd (cm_X1_lift Z x0 x_61) (fun x_65 => cI Z.Sh Z.V a_56 6 3 0 fun x_66 => zK Z x0 1 20 <| bnd (cm_X1_lift Z x0 (x_66 + 1)) (fun x_70 => nmI (if 0 ≤ (x_65 - x_70) then (x_65 - x_70) else 0 - (x_65 - x_70)) fun x_71 => cI Z.Sh Z.V a_56 6 3 1 fun x_73 => if x_71 ≤ x_73 then (nmI (x1 + 1) fun x_75 => rec x_75 Z) else (cI Z.Sh Z.V x0 1 20 9 fun x_77 => zPI Z a_56 6 3 2 x_77 fun Z_78 => nmI (x1 + 1) fun x_79 => rec x_79 Z_78)))) else (nmI (x1 + 1) fun x_59 => rec x_59 Z))))
abbrev cm_X1_ticks_F95 (x0 : Nat) : (((Int32) × (c_S)) → Option (c_S)) → ((Int32) × (c_S)) → Option (c_S) := fun rec s => cm_X1_ticks_B95 x0 (fun x1 Z => rec (x1, Z)) s.1 s.2
def cm_X1_ticks_L95 (x0 : Nat) (n : Nat) (x1 : Int32) (Z : c_S) : Option (c_S) := lp (cm_X1_ticks_F95 x0) n (x1, Z)
theorem cm_X1_ticks_L95_s (x0 : Nat) (n : Nat) (x1 : Int32) (Z : c_S) : cm_X1_ticks_L95 x0 (n + 1) x1 Z = cm_X1_ticks_B95 x0 (fun x1 Z => cm_X1_ticks_L95 x0 n x1 Z) x1 Z := lp_s (cm_X1_ticks_F95 x0) n (x1, Z)
def cm_X1_ticks (Z0 : c_S) (a0 : Nat) : Option (c_S) :=
  bnd (cm_X1_ticks_L2 a0 1000 0 Z0) (fun Z_21 => zK Z_21 a0 1 20 <| bnd (cm_X1_cools Z_21 a0) (fun Z_25 => bnd (cm_X1_ticks_L50 a0 1000 0 Z_25) (fun Z_42 => cI Z_42.Sh Z_42.V a0 1 20 9 fun x_43 => zPI Z_42 a0 1 20 9 (x_43 + 1) fun Z_44 => bnd (cm_X1_ticks_L95 a0 1000 0 Z_44) (fun Z_83 => cI Z_83.Sh Z_83.V a0 1 20 17 fun x_84 => if x_84 = 0 then (zK Z_83 a0 1 20 <| bnd (cm_X1_isOpenDug Z_83 a0) (un2 fun x_89 Z_90 => if x_89 = 0 then (some Z_90) else (zPI Z_90 a0 1 20 17 1 fun Z_92 => cI Z_92.Sh Z_92.V a0 1 20 16 fun x_93 => zPI Z_92 a0 1 20 16 (x_93 + 1) fun Z_94 => some Z_94))) else (some Z_83)))))
abbrev rmX1_ticks : Room := rmD 6 136 0 0
theorem cwX1_leads_V {own : String} {R : Room} {s : State} {args : Array Value} {index : Nat} (hts : ∀ w ∈ lw_all, w.before args s = true) (hl : Cond.methodLink own index yX1_leads ∈ lw_all) (hR : rmX1_leads.frames + 1 ≤ R.frames ∧ 8 + (5 + 11) + rmX1_leads.locals ≤ R.locals) : CallW R s args own RX1 index yX1_leads cX1_leads 5 (none) (ws_ yX1_leads cX1_leads 5 (none)) rmX1_leads 0 0 1 := cwV 1 hts (lw_V hl q1110 qs29 q106 q1111) rfl rfl rfl (by decide +kernel) hR
theorem cwX1_streams_V {own : String} {R : Room} {s : State} {args : Array Value} {index : Nat} (hts : ∀ w ∈ lw_all, w.before args s = true) (hl : Cond.methodLink own index yX1_streams ∈ lw_all) (hR : rmX1_streams.frames + 1 ≤ R.frames ∧ 8 + (5 + 11) + rmX1_streams.locals ≤ R.locals) : CallW R s args own RX1 index yX1_streams cX1_streams 5 (none) (ws_ yX1_streams cX1_streams 5 (none)) rmX1_streams 0 0 1 := cwV 1 hts (lw_V hl q1130 qs31 q106 q1131) rfl rfl rfl (by decide +kernel) hR
theorem cwX1_cools_V {own : String} {R : Room} {s : State} {args : Array Value} {index : Nat} (hts : ∀ w ∈ lw_all, w.before args s = true) (hl : Cond.methodLink own index yX1_cools ∈ lw_all) (hR : rmX1_cools.frames + 1 ≤ R.frames ∧ 8 + (6 + 11) + rmX1_cools.locals ≤ R.locals) : CallW R s args own RX1 index yX1_cools cX1_cools 6 (none) (ws_ yX1_cools cX1_cools 6 (none)) rmX1_cools 0 0 0 := cwV 0 hts (lw_V hl q1134 qs32 q106 q1135) rfl rfl rfl (by decide +kernel) hR
theorem cwX1_takes_V {own : String} {R : Room} {s : State} {args : Array Value} {index : Nat} (hts : ∀ w ∈ lw_all, w.before args s = true) (hl : Cond.methodLink own index yX1_takes ∈ lw_all) (hR : rmX1_takes.frames + 1 ≤ R.frames ∧ 8 + (7 + 11) + rmX1_takes.locals ≤ R.locals) : CallW R s args own RX1 index yX1_takes cX1_takes 7 (none) (ws_ yX1_takes cX1_takes 7 (none)) rmX1_takes 0 0 2 := cwV 2 hts (lw_V hl q1143 qs34 q106 q1144) rfl rfl rfl (by decide +kernel) hR
theorem cwX1_isOpenDug_V {own : String} {R : Room} {s : State} {args : Array Value} {index : Nat} (hts : ∀ w ∈ lw_all, w.before args s = true) (hl : Cond.methodLink own index yX1_isOpenDug ∈ lw_all) (hR : rmX1_isOpenDug.frames + 1 ≤ R.frames ∧ 8 + (3 + 11) + rmX1_isOpenDug.locals ≤ R.locals) : CallW R s args own RX1 index yX1_isOpenDug cX1_isOpenDug 3 (some .boolean) (ws_ yX1_isOpenDug cX1_isOpenDug 3 (some .boolean)) rmX1_isOpenDug 0 0 0 := cwV 0 hts (lw_V hl q1154 qs35 q106 q1155) rfl rfl rfl (by decide +kernel) hR
set_option maxHeartbeats 4000000 in
theorem metX1_ticks {l : Launch} {gp : Nat → Nat} {D : va_G} {K : Nat → ClassId} {Z0 : c_S} {a0 : Nat} {Z' : c_S} (h : cm_X1_ticks Z0 a0 = some Z') : Met l yX1_ticks (ws_ yX1_ticks cX1_ticks 3 (none)) rmX1_ticks (z_Pc gp [.ref a0] D K Z0) (z_Q (.returned (none)) D K (z_A Z0) Z') 0 0 (z_A Z0) := by
  refine d_met rfl (Nat.le_of_ble_eq_true rfl) ?_
  intro p e s m below meth c ls S hr hlk hnm hl hW hsz
  have S : CallFix p m c cX1_ticks 3 s ([.ref a0] : List Value).toArray lw_all RX1 := S
  have hx := S.1
  have hb := S.2.1
  have hl : lv_has ls 3 [(0, .ref a0)] := hl
  have hnm : meth.name = "ticks" := hnm
  have Lp2 : ∀ (x0 : Nat) (n : Nat) (x1 : Int32) (Z : c_S) (out : (c_S)) (H : Heap) (locs : List Loc) (ls : Array Slot), cm_X1_ticks_L2 x0 n x1 Z = some out → z_W gp D K (z_A Z0) s Z H locs → lv_has ls 3 [(0, .ref x0), (1, .int x1)] → (∀ (oZ : c_S), out = oZ → ∀ (H : Heap) (locs : List Loc) (ls : Array Slot), z_W gp D K (z_A Z0) s oZ H locs → lv_has ls 3 [(0, .ref x0)] → W p l e rmX1_ticks s m ([.ref a0] : List Value).toArray below meth c H locs 0 0 (MQ below (z_Q (.returned (none)) D K (z_A Z0) Z') ([.ref a0] : List Value).toArray s 0 0 (z_A Z0)) (F0 m 44 ls [])) → W p l e rmX1_ticks s m ([.ref a0] : List Value).toArray below meth c H locs 0 0 (MQ below (z_Q (.returned (none)) D K (z_A Z0) Z') ([.ref a0] : List Value).toArray s 0 0 (z_A Z0)) (F0 m 2 ls []) := by
    intro x0 n
    induction n with
    | zero =>
      intro x1 Z out H locs ls h
      exact (lp_0 h).elim
    | succ n ih =>
      intro x1 Z out H locs ls h hW hl k1
      rw [cm_X1_ticks_L2_s] at h
      unfold cm_X1_ticks_B2 at h
      refine lv_iload_n hx hb dX1_ticks_2 rfl (lv_at hl 1 rfl) ?_
      refine lv_sipush (v := 144) hx hb dX1_ticks_3 (by decide) ?_
      refine lv_icmp_ge (tgt := 44) hx hb dX1_ticks_6 (by decide) (fun c_1 => ?_) (fun c_1 => ?_)
      · have h := if_t h c_1
        exact k1 _ (Option.some.inj h).symm _ _ _ hW (lv_sub hl [0] rfl)
      · have h := if_f h c_1
        refine lv_aload_n hx hb dX1_ticks_9 rfl (lv_at hl 0 rfl) ?_
        refine zw_getA S hW zC_X1 (i := 3) (by decide) (Or.inl q672) (fun _ h => h) dX1_ticks_10 h (fun a_2 h => ?_)
        refine lv_iload_n hx hb dX1_ticks_13 rfl (lv_at hl 1 rfl) ?_
        refine lv_iconst (v := 0) hx hb dX1_ticks_14 (by decide) ?_
        refine zw_iast S hW dX1_ticks_15 h (fun Z_3 h H locs hW => ?_)
        refine lv_aload_n hx hb dX1_ticks_16 rfl (lv_at hl 0 rfl) ?_
        refine zw_getA S hW zC_X1 (i := 4) (by decide) (Or.inl q673) (fun _ h => h) dX1_ticks_17 h (fun a_4 h => ?_)
        refine lv_iload_n hx hb dX1_ticks_20 rfl (lv_at hl 1 rfl) ?_
        refine zw_zald S hW dX1_ticks_21 h (fun x_5 h => ?_)
        refine lv_if_eq (tgt := 28) hx hb dX1_ticks_22 (by decide) (fun c_6 => ?_) (fun c_6 => ?_)
        · have h := if_t h c_6
          refine lv_aload_n hx hb dX1_ticks_28 rfl (lv_at hl 0 rfl) ?_
          refine lv_iload_n hx hb dX1_ticks_29 rfl (lv_at hl 1 rfl) ?_
          obtain ⟨⟨_, k_7⟩, h⟩ := zK_some h
          obtain ⟨Z_10, h_8, h⟩ := bnd_some h
          refine d_callV (As := [.int x1]) (rest := []) S hW (metX1_leads h_8) (cwX1_leads_V S.2.2.2.2 q1108 ⟨Nat.le_of_ble_eq_true rfl, Nat.le_of_ble_eq_true rfl⟩) k_7 rfl rfl hl.1 rfl (Nat.le_of_ble_eq_true rfl) dX1_ticks_30 ⟨(Nat.le_of_ble_eq_true rfl), (Nat.le_of_ble_eq_true rfl)⟩ rfl (fun H locs hW => ?_)
          refine lv_aload_n hx hb dX1_ticks_33 rfl (lv_at hl 0 rfl) ?_
          refine lv_iload_n hx hb dX1_ticks_34 rfl (lv_at hl 1 rfl) ?_
          obtain ⟨⟨_, k_11⟩, h⟩ := zK_some h
          obtain ⟨Z_14, h_12, h⟩ := bnd_some h
          refine d_callV (As := [.int x1]) (rest := []) S hW (metX1_streams h_12) (cwX1_streams_V S.2.2.2.2 q1128 ⟨Nat.le_of_ble_eq_true rfl, Nat.le_of_ble_eq_true rfl⟩) k_11 rfl rfl hl.1 rfl (Nat.le_of_ble_eq_true rfl) dX1_ticks_35 ⟨(Nat.le_of_ble_eq_true rfl), (Nat.le_of_ble_eq_true rfl)⟩ rfl (fun H locs hW => ?_)
          obtain ⟨x_15, e_16, h⟩ := nmI_some h
          refine lv_iinc (v := x_15) (lv' := [(1, .int x_15), (0, .ref x0)]) hx hb dX1_ticks_38 hl (k := 1) rfl (by rw [e_16]; rfl) (by decide) rfl (fun ls hl => ?_)
          refine lv_goto (tgt := 2) hx hb dX1_ticks_41 (by decide) ?_
          exact ih x_15 Z_14 out _ _ _ h hW (lv_sub hl [1, 0] rfl) k1
        · have h := if_f h c_6
          refine lv_goto (tgt := 38) hx hb dX1_ticks_25 (by decide) ?_
          obtain ⟨x_17, e_18, h⟩ := nmI_some h
          refine lv_iinc (v := x_17) (lv' := [(1, .int x_17), (0, .ref x0)]) hx hb dX1_ticks_38 hl (k := 1) rfl (by rw [e_18]; rfl) (by decide) rfl (fun ls hl => ?_)
          refine lv_goto (tgt := 2) hx hb dX1_ticks_41 (by decide) ?_
          exact ih x_17 Z_3 out _ _ _ h hW (lv_sub hl [1, 0] rfl) k1
  have Lp50 : ∀ (x0 : Nat) (n : Nat) (x1 : Int32) (Z : c_S) (out : (c_S)) (H : Heap) (locs : List Loc) (ls : Array Slot), cm_X1_ticks_L50 x0 n x1 Z = some out → z_W gp D K (z_A Z0) s Z H locs → lv_has ls 3 [(0, .ref x0), (1, .int x1)] → (∀ (oZ : c_S), out = oZ → ∀ (H : Heap) (locs : List Loc) (ls : Array Slot), z_W gp D K (z_A Z0) s oZ H locs → lv_has ls 3 [(0, .ref x0)] → W p l e rmX1_ticks s m ([.ref a0] : List Value).toArray below meth c H locs 0 0 (MQ below (z_Q (.returned (none)) D K (z_A Z0) Z') ([.ref a0] : List Value).toArray s 0 0 (z_A Z0)) (F0 m 83 ls [])) → W p l e rmX1_ticks s m ([.ref a0] : List Value).toArray below meth c H locs 0 0 (MQ below (z_Q (.returned (none)) D K (z_A Z0) Z') ([.ref a0] : List Value).toArray s 0 0 (z_A Z0)) (F0 m 50 ls []) := by
    intro x0 n
    induction n with
    | zero =>
      intro x1 Z out H locs ls h
      exact (lp_0 h).elim
    | succ n ih =>
      intro x1 Z out H locs ls h hW hl k1
      rw [cm_X1_ticks_L50_s] at h
      unfold cm_X1_ticks_B50 at h
      refine lv_iload_n hx hb dX1_ticks_50 rfl (lv_at hl 1 rfl) ?_
      refine lv_sipush (v := 144) hx hb dX1_ticks_51 (by decide) ?_
      refine lv_icmp_ge (tgt := 83) hx hb dX1_ticks_54 (by decide) (fun c_26 => ?_) (fun c_26 => ?_)
      · have h := if_t h c_26
        exact k1 _ (Option.some.inj h).symm _ _ _ hW (lv_sub hl [0] rfl)
      · have h := if_f h c_26
        refine lv_aload_n hx hb dX1_ticks_57 rfl (lv_at hl 0 rfl) ?_
        refine zw_getA S hW zC_X1 (i := 4) (by decide) (Or.inl q673) (fun _ h => h) dX1_ticks_58 h (fun a_27 h => ?_)
        refine lv_iload_n hx hb dX1_ticks_61 rfl (lv_at hl 1 rfl) ?_
        refine zw_zald S hW dX1_ticks_62 h (fun x_28 h => ?_)
        refine lv_if_ne (tgt := 77) hx hb dX1_ticks_63 (by decide) (fun c_29 => ?_) (fun c_29 => ?_)
        · have h := if_f h c_29
          obtain ⟨x_30, e_31, h⟩ := nmI_some h
          refine lv_iinc (v := x_30) (lv' := [(1, .int x_30), (0, .ref x0)]) hx hb dX1_ticks_77 hl (k := 1) rfl (by rw [e_31]; rfl) (by decide) rfl (fun ls hl => ?_)
          refine lv_goto (tgt := 50) hx hb dX1_ticks_80 (by decide) ?_
          exact ih x_30 Z out _ _ _ h hW (lv_sub hl [1, 0] rfl) k1
        · have h := if_t h c_29
          refine lv_aload_n hx hb dX1_ticks_66 rfl (lv_at hl 0 rfl) ?_
          refine lv_iload_n hx hb dX1_ticks_67 rfl (lv_at hl 1 rfl) ?_
          refine lv_aload_n hx hb dX1_ticks_68 rfl (lv_at hl 0 rfl) ?_
          refine zw_getA S hW zC_X1 (i := 3) (by decide) (Or.inl q672) (fun _ h => h) dX1_ticks_69 h (fun a_32 h => ?_)
          refine lv_iload_n hx hb dX1_ticks_72 rfl (lv_at hl 1 rfl) ?_
          refine zw_iald S hW dX1_ticks_73 h (fun x_33 h => ?_)
          obtain ⟨⟨_, k_34⟩, h⟩ := zK_some h
          obtain ⟨Z_37, h_35, h⟩ := bnd_some h
          refine d_callV (As := [.int x1, .int x_33]) (rest := []) S hW (metX1_takes h_35) (cwX1_takes_V S.2.2.2.2 q1141 ⟨Nat.le_of_ble_eq_true rfl, Nat.le_of_ble_eq_true rfl⟩) k_34 rfl rfl hl.1 rfl (Nat.le_of_ble_eq_true rfl) dX1_ticks_74 ⟨(Nat.le_of_ble_eq_true rfl), (Nat.le_of_ble_eq_true rfl)⟩ rfl (fun H locs hW => ?_)
          obtain ⟨x_38, e_39, h⟩ := nmI_some h
          refine lv_iinc (v := x_38) (lv' := [(1, .int x_38), (0, .ref x0)]) hx hb dX1_ticks_77 hl (k := 1) rfl (by rw [e_39]; rfl) (by decide) rfl (fun ls hl => ?_)
          refine lv_goto (tgt := 50) hx hb dX1_ticks_80 (by decide) ?_
          exact ih x_38 Z_37 out _ _ _ h hW (lv_sub hl [1, 0] rfl) k1
  have Lp95 : ∀ (x0 : Nat) (n : Nat) (x1 : Int32) (Z : c_S) (out : (c_S)) (H : Heap) (locs : List Loc) (ls : Array Slot), cm_X1_ticks_L95 x0 n x1 Z = some out → z_W gp D K (z_A Z0) s Z H locs → lv_has ls 3 [(0, .ref x0), (1, .int x1)] → (∀ (oZ : c_S), out = oZ → ∀ (H : Heap) (locs : List Loc) (ls : Array Slot), z_W gp D K (z_A Z0) s oZ H locs → lv_has ls 3 [(0, .ref x0)] → W p l e rmX1_ticks s m ([.ref a0] : List Value).toArray below meth c H locs 0 0 (MQ below (z_Q (.returned (none)) D K (z_A Z0) Z') ([.ref a0] : List Value).toArray s 0 0 (z_A Z0)) (F0 m 173 ls [])) → W p l e rmX1_ticks s m ([.ref a0] : List Value).toArray below meth c H locs 0 0 (MQ below (z_Q (.returned (none)) D K (z_A Z0) Z') ([.ref a0] : List Value).toArray s 0 0 (z_A Z0)) (F0 m 95 ls []) := by
    intro x0 n
    induction n with
    | zero =>
      intro x1 Z out H locs ls h
      exact (lp_0 h).elim
    | succ n ih =>
      intro x1 Z out H locs ls h hW hl k1
      rw [cm_X1_ticks_L95_s] at h
      unfold cm_X1_ticks_B95 at h
      refine lv_iload_n hx hb dX1_ticks_95 rfl (lv_at hl 1 rfl) ?_
      refine lv_aload_n hx hb dX1_ticks_96 rfl (lv_at hl 0 rfl) ?_
      refine zw_getA S hW zC_X1 (i := 6) (by decide) (Or.inl q677) (fun _ h => h) dX1_ticks_97 h (fun a_45 h => ?_)
      obtain ⟨⟨_, k_46⟩, h⟩ := zK_some h
      obtain ⟨x_49, h_47, h⟩ := bnd_some h
      refine d_callF (As := []) (rest := [.int x1]) S hW (metJ2_size h_47) (cwJ2_size_F S.2.2.2.2 q497 (hW.1.2.2.2.2.1.2.2.2.2.2.2.1 _ (List.mem_of_getElem? (i := 1) rfl)) ⟨Nat.le_of_ble_eq_true rfl, Nat.le_of_ble_eq_true rfl⟩) k_46 rfl rfl hl.1 rfl (Nat.le_of_ble_eq_true rfl) dX1_ticks_100 ⟨(Nat.le_of_ble_eq_true rfl), (Nat.le_of_ble_eq_true rfl)⟩ rfl (fun H locs hW => ?_)
      refine lv_icmp_ge (tgt := 173) hx hb dX1_ticks_105 (by decide) (fun c_50 => ?_) (fun c_50 => ?_)
      · have h := if_t h c_50
        exact k1 _ (Option.some.inj h).symm _ _ _ hW (lv_sub hl [0] rfl)
      · have h := if_f h c_50
        refine lv_aload_n hx hb dX1_ticks_108 rfl (lv_at hl 0 rfl) ?_
        refine zw_getA S hW zC_X1 (i := 6) (by decide) (Or.inl q677) (fun _ h => h) dX1_ticks_109 h (fun a_51 h => ?_)
        refine lv_iload_n hx hb dX1_ticks_112 rfl (lv_at hl 1 rfl) ?_
        obtain ⟨⟨_, k_52⟩, h⟩ := zK_some h
        obtain ⟨o_55, h_53, h⟩ := bnd_some h
        refine d_callF (As := [.int x1]) (rest := []) S hW (metJ2_get h_53) (cwJ2_get_F S.2.2.2.2 q506 (hW.1.2.2.2.2.1.2.2.2.2.2.2.1 _ (List.mem_of_getElem? (i := 2) rfl)) ⟨Nat.le_of_ble_eq_true rfl, Nat.le_of_ble_eq_true rfl⟩) k_52 rfl rfl hl.1 rfl (Nat.le_of_ble_eq_true rfl) dX1_ticks_113 ⟨(Nat.le_of_ble_eq_true rfl), (Nat.le_of_ble_eq_true rfl)⟩ rfl (fun H locs hW => ?_)
        refine zw_ck (o := o_55) S hW zC_X6 q637 dX1_ticks_118 h (fun h => ?_)
        have h9 := nn_some h
        clear h
        obtain ⟨a_56, rfl, h8⟩ := h9
        have h := h8
        clear h8
        refine lv_astore_n (lv' := [(2, .ref a_56), (0, .ref x0), (1, .int x1)]) hx hb dX1_ticks_121 rfl hl (by decide) rfl (fun ls hl => ?_)
        refine lv_aload_n hx hb dX1_ticks_122 rfl (lv_at hl 0 rfl) ?_
        refine zw_getI S hW zC_X6 (i := 2) (by decide) (Or.inr ⟨_, nestW_in q655 rfl⟩) (fun _ h => h) dX1_ticks_123 h (fun x_57 h => ?_)
        refine lv_iconst (v := (-1)) hx hb dX1_ticks_126 (by decide) ?_
        refine lv_icmp_ne (tgt := 167) hx hb dX1_ticks_127 (by decide) (fun c_58 => ?_) (fun c_58 => ?_)
        · have h := if_f h c_58
          obtain ⟨x_59, e_60, h⟩ := nmI_some h
          refine lv_iinc (v := x_59) (lv' := [(1, .int x_59), (2, .ref a_56), (0, .ref x0)]) hx hb dX1_ticks_167 hl (k := 2) rfl (by rw [e_60]; rfl) (by decide) rfl (fun ls hl => ?_)
          refine lv_goto (tgt := 95) hx hb dX1_ticks_170 (by decide) ?_
          exact ih x_59 Z out _ _ _ h hW (lv_sub hl [2, 0] rfl) k1
        · have h := if_t h c_58
          refine lv_aload_n hx hb dX1_ticks_130 rfl (lv_at hl 1 rfl) ?_
          refine lv_aload_n hx hb dX1_ticks_131 rfl (lv_at hl 0 rfl) ?_
          refine zw_getI S hW zC_X6 (i := 0) (by decide) (Or.inr ⟨_, nestW_in q649 rfl⟩) (fun _ h => h) dX1_ticks_132 h (fun x_61 h => ?_)
          obtain ⟨⟨_, k_62⟩, h⟩ := zK_some h
          obtain ⟨x_65, h_63, h⟩ := bnd_some h
          refine d_callV (As := [.int x_61]) (rest := []) S hW (metX1_lift h_63) (cwX1_lift_V S.2.2.2.2 q1145 ⟨Nat.le_of_ble_eq_true rfl, Nat.le_of_ble_eq_true rfl⟩) k_62 rfl rfl hl.1 rfl (Nat.le_of_ble_eq_true rfl) dX1_ticks_135 ⟨(Nat.le_of_ble_eq_true rfl), (Nat.le_of_ble_eq_true rfl)⟩ rfl (fun H locs hW => ?_)
          refine lv_aload_n hx hb dX1_ticks_138 rfl (lv_at hl 1 rfl) ?_
          refine lv_aload_n hx hb dX1_ticks_139 rfl (lv_at hl 0 rfl) ?_
          refine zw_getI S hW zC_X6 (i := 0) (by decide) (Or.inr ⟨_, nestW_in q649 rfl⟩) (fun _ h => h) dX1_ticks_140 h (fun x_66 h => ?_)
          refine lv_iconst (v := 1) hx hb dX1_ticks_143 (by decide) ?_
          refine lv_iadd hx hb dX1_ticks_144 ?_
          obtain ⟨⟨_, k_67⟩, h⟩ := zK_some h
          obtain ⟨x_70, h_68, h⟩ := bnd_some h
          refine d_callV (As := [.int (x_66 + 1)]) (rest := [.int x_65]) S hW (metX1_lift h_68) (cwX1_lift_V S.2.2.2.2 q1145 ⟨Nat.le_of_ble_eq_true rfl, Nat.le_of_ble_eq_true rfl⟩) k_67 rfl rfl hl.1 rfl (Nat.le_of_ble_eq_true rfl) dX1_ticks_145 ⟨(Nat.le_of_ble_eq_true rfl), (Nat.le_of_ble_eq_true rfl)⟩ rfl (fun H locs hW => ?_)
          refine lv_isub hx hb dX1_ticks_148 ?_
          refine va_mabs hx hb (S.2.2.1.trans hl.1.symm) S.2.2.2.1 (S.2.2.2.2 _ q1149) (S.2.2.2.2 _ q1150) (S.2.2.2.2 _ q117) (S.2.2.2.2 _ mc_abs) (Nat.le_of_ble_eq_true rfl) (zm_lo (z_ro (Nat.le_of_ble_eq_true rfl)) (Nat.le_of_ble_eq_true rfl)) (Nat.le_of_ble_eq_true rfl) (Nat.le_of_ble_eq_true rfl) dX1_ticks_149 ?_
          obtain ⟨x_71, e_72, h⟩ := nmI_some h
          refine g_nmi e_72 ?_
          refine lv_aload_n hx hb dX1_ticks_152 rfl (lv_at hl 0 rfl) ?_
          refine zw_getI S hW zC_X6 (i := 1) (by decide) (Or.inr ⟨_, nestW_in q652 rfl⟩) (fun _ h => h) dX1_ticks_153 h (fun x_73 h => ?_)
          refine lv_icmp_le (tgt := 167) hx hb dX1_ticks_156 (by decide) (fun c_74 => ?_) (fun c_74 => ?_)
          · have h := if_t h c_74
            obtain ⟨x_75, e_76, h⟩ := nmI_some h
            refine lv_iinc (v := x_75) (lv' := [(1, .int x_75), (2, .ref a_56), (0, .ref x0)]) hx hb dX1_ticks_167 hl (k := 2) rfl (by rw [e_76]; rfl) (by decide) rfl (fun ls hl => ?_)
            refine lv_goto (tgt := 95) hx hb dX1_ticks_170 (by decide) ?_
            exact ih x_75 Z out _ _ _ h hW (lv_sub hl [2, 0] rfl) k1
          · have h := if_f h c_74
            refine lv_aload_n hx hb dX1_ticks_159 rfl (lv_at hl 0 rfl) ?_
            refine lv_aload_n hx hb dX1_ticks_160 rfl (lv_at hl 1 rfl) ?_
            refine zw_getI S hW zC_X1 (i := 9) (by decide) (Or.inl q683) (fun _ h => h) dX1_ticks_161 h (fun x_77 h => ?_)
            refine zw_putI S hW zC_X6 (i := 2) (by decide) (Or.inl rfl) rfl rfl rfl (Or.inr ⟨_, nestW_in q655 rfl⟩) (fun _ h => h) dX1_ticks_164 h (fun Z_78 h H locs hW => ?_)
            obtain ⟨x_79, e_80, h⟩ := nmI_some h
            refine lv_iinc (v := x_79) (lv' := [(1, .int x_79), (2, .ref a_56), (0, .ref x0)]) hx hb dX1_ticks_167 hl (k := 2) rfl (by rw [e_80]; rfl) (by decide) rfl (fun ls hl => ?_)
            refine lv_goto (tgt := 95) hx hb dX1_ticks_170 (by decide) ?_
            exact ih x_79 Z_78 out _ _ _ h hW (lv_sub hl [2, 0] rfl) k1
  unfold cm_X1_ticks at h
  refine lv_iconst (v := 0) hx hb dX1_ticks_0 (by decide) ?_
  refine lv_istore_n (lv' := [(1, .int 0), (0, .ref a0)]) hx hb dX1_ticks_1 rfl hl (by decide) rfl (fun ls hl => ?_)
  obtain ⟨Z_21, h_20, h⟩ := bnd_some h
  refine Lp2 a0 1000 0 Z0  _ _ _ _ h_20 hW (lv_sub hl [1, 0] rfl) ?_
  intro w0 eo H locs ls hW hl
  subst eo
  refine lv_aload_n hx hb dX1_ticks_44 rfl (lv_at hl 0 rfl) ?_
  obtain ⟨⟨_, k_22⟩, h⟩ := zK_some h
  obtain ⟨Z_25, h_23, h⟩ := bnd_some h
  refine d_callV (As := []) (rest := []) S hW (metX1_cools h_23) (cwX1_cools_V S.2.2.2.2 q1132 ⟨Nat.le_of_ble_eq_true rfl, Nat.le_of_ble_eq_true rfl⟩) k_22 rfl rfl hl.1 rfl (Nat.le_of_ble_eq_true rfl) dX1_ticks_45 ⟨(Nat.le_of_ble_eq_true rfl), (Nat.le_of_ble_eq_true rfl)⟩ rfl (fun H locs hW => ?_)
  refine lv_iconst (v := 0) hx hb dX1_ticks_48 (by decide) ?_
  refine lv_istore_n (lv' := [(1, .int 0), (0, .ref a0)]) hx hb dX1_ticks_49 rfl hl (by decide) rfl (fun ls hl => ?_)
  obtain ⟨Z_42, h_41, h⟩ := bnd_some h
  refine Lp50 a0 1000 0 Z_25  _ _ _ _ h_41 hW (lv_sub hl [1, 0] rfl) ?_
  intro w0 eo H locs ls hW hl
  subst eo
  refine lv_aload_n hx hb dX1_ticks_83 rfl (lv_at hl 0 rfl) ?_
  refine lv_dup hx hb dX1_ticks_84 rfl ?_
  refine zw_getI S hW zC_X1 (i := 9) (by decide) (Or.inl q683) (fun _ h => h) dX1_ticks_85 h (fun x_43 h => ?_)
  refine lv_iconst (v := 1) hx hb dX1_ticks_88 (by decide) ?_
  refine lv_iadd hx hb dX1_ticks_89 ?_
  refine zw_putI S hW zC_X1 (i := 9) (by decide) (Or.inl rfl) rfl rfl rfl (Or.inl q683) (fun _ h => h) dX1_ticks_90 h (fun Z_44 h H locs hW => ?_)
  refine lv_iconst (v := 0) hx hb dX1_ticks_93 (by decide) ?_
  refine lv_istore_n (lv' := [(1, .int 0), (0, .ref a0)]) hx hb dX1_ticks_94 rfl hl (by decide) rfl (fun ls hl => ?_)
  obtain ⟨Z_83, h_82, h⟩ := bnd_some h
  refine Lp95 a0 1000 0 Z_44  _ _ _ _ h_82 hW (lv_sub hl [1, 0] rfl) ?_
  intro w0 eo H locs ls hW hl
  subst eo
  refine lv_aload_n hx hb dX1_ticks_173 rfl (lv_at hl 0 rfl) ?_
  refine zw_getI S hW zC_X1 (i := 17) (by decide) (Or.inl q699) (fun _ h => h) dX1_ticks_174 h (fun x_84 h => ?_)
  refine lv_if_ne (tgt := 202) hx hb dX1_ticks_177 (by decide) (fun c_85 => ?_) (fun c_85 => ?_)
  · have h := if_f h c_85
    cases h
    exact d_vret S hr hlk hW (Nat.le_of_ble_eq_true rfl) (Nat.le_of_ble_eq_true rfl) dX1_ticks_202
  · have h := if_t h c_85
    refine lv_aload_n hx hb dX1_ticks_180 rfl (lv_at hl 0 rfl) ?_
    obtain ⟨⟨_, k_86⟩, h⟩ := zK_some h
    obtain ⟨x_89, Z_90, h_87, h⟩ := bnd2_some h
    refine d_callV (As := []) (rest := []) S hW (metX1_isOpenDug h_87) (cwX1_isOpenDug_V S.2.2.2.2 q1152 ⟨Nat.le_of_ble_eq_true rfl, Nat.le_of_ble_eq_true rfl⟩) k_86 rfl rfl hl.1 rfl (Nat.le_of_ble_eq_true rfl) dX1_ticks_181 ⟨(Nat.le_of_ble_eq_true rfl), (Nat.le_of_ble_eq_true rfl)⟩ rfl (fun H locs hW => ?_)
    refine lv_if_eq (tgt := 202) hx hb dX1_ticks_184 (by decide) (fun c_91 => ?_) (fun c_91 => ?_)
    · have h := if_t h c_91
      cases h
      exact d_vret S hr hlk hW (Nat.le_of_ble_eq_true rfl) (Nat.le_of_ble_eq_true rfl) dX1_ticks_202
    · have h := if_f h c_91
      refine lv_aload_n hx hb dX1_ticks_187 rfl (lv_at hl 0 rfl) ?_
      refine lv_iconst (v := 1) hx hb dX1_ticks_188 (by decide) ?_
      refine zw_putI S hW zC_X1 (i := 17) (by decide) (Or.inl rfl) rfl rfl rfl (Or.inl q699) (fun _ h => h) dX1_ticks_189 h (fun Z_92 h H locs hW => ?_)
      refine lv_aload_n hx hb dX1_ticks_192 rfl (lv_at hl 0 rfl) ?_
      refine lv_dup hx hb dX1_ticks_193 rfl ?_
      refine zw_getI S hW zC_X1 (i := 16) (by decide) (Or.inl q697) (fun _ h => h) dX1_ticks_194 h (fun x_93 h => ?_)
      refine lv_iconst (v := 1) hx hb dX1_ticks_197 (by decide) ?_
      refine lv_iadd hx hb dX1_ticks_198 ?_
      refine zw_putI S hW zC_X1 (i := 16) (by decide) (Or.inl rfl) rfl rfl rfl (Or.inl q697) (fun _ h => h) dX1_ticks_199 h (fun Z_94 h H locs hW => ?_)
      cases h
      exact d_vret S hr hlk hW (Nat.le_of_ble_eq_true rfl) (Nat.le_of_ble_eq_true rfl) dX1_ticks_202
