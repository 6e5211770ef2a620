/-! walks of the component: X3_line X0_init X0_more -/
set_option maxRecDepth 100000
def cm_X3_line (gp : Nat → Nat) (Z0 : c_S) (a0 : Nat) (a1 : Nat) (a2 : Int32) : Option ((c_S) ⊕ (Nat × c_S)) :=
  if a2 = 0 then (zK Z0 a0 3 11 <| bnd (cm_X3_ground gp Z0 a0 a1) (cs2 (fun Z_5 => some (.inl Z_5)) (un2 fun x_6 Z_7 => some (.inr (x_6, Z_7))))) else (if a2 = 1 then (zK Z0 a0 3 11 <| bnd (cm_X3_lay gp Z0 a0 a1) (cs2 (fun Z_13 => some (.inl Z_13)) (un2 fun x_14 Z_15 => some (.inr (x_14, Z_15))))) else (if a2 = 2 then (zK Z0 a0 3 11 <| bnd (cm_X3_stream gp Z0 a0 a1) (cs2 (fun Z_21 => some (.inl Z_21)) (un2 fun x_22 Z_23 => some (.inr (x_22, Z_23))))) else (if a2 = 3 then (zK Z0 a0 3 11 <| bnd (cm_X3_number gp Z0 a0 1 300) (cs2 (un2 fun x_29 Z_30 => zPI Z_30 a1 2 13 6 x_29 fun Z_34 => zPI Z_34 a0 3 11 9 1 fun Z_35 => some (.inl Z_35)) (un2 fun x_31 Z_32 => some (.inr (x_31, Z_32))))) else (if a2 = 4 then (zK Z0 a0 3 11 <| bnd (cm_X3_shaft gp Z0 a0 a1) (cs2 (fun Z_40 => some (.inl Z_40)) (un2 fun x_41 Z_42 => some (.inr (x_41, Z_42))))) else (if a2 = 5 then (zK Z0 a0 3 11 <| bnd (cm_X3_pipe gp Z0 a0 a1) (cs2 (fun Z_48 => some (.inl Z_48)) (un2 fun x_49 Z_50 => some (.inr (x_49, Z_50))))) else (if a2 = 6 then (zK Z0 a0 3 11 <| bnd (cm_X3_number gp Z0 a0 0 99999) (cs2 (un2 fun x_56 Z_57 => zPI Z_57 a1 2 13 11 x_56 fun Z_61 => zPI Z_61 a0 3 11 10 1 fun Z_62 => some (.inl Z_62)) (un2 fun x_58 Z_59 => some (.inr (x_58, Z_59))))) else (if a2 = 7 then (zK Z0 a0 3 11 <| bnd (cm_X3_number gp Z0 a0 0 10) (cs2 (un2 fun x_67 Z_68 => cA Z_68.Sh a1 2 13 4 fun a_72 => zNew Z_68 6 3 tyX6 fun Z_73 a_74 => zK Z_73 a0 3 11 <| bnd (cm_X3_number_2 gp Z_73 a0 (gp 23) 0 999) (cs2 (un2 fun x_78 Z_79 => bnd (cm_X6_init Z_79 a_74 x_67 x_78) (fun Z_85 => zK Z_85 a_72 14 3 <| bnd (cm_J2_add gp Z_85 a_72 a_74) (un2 fun x_89 Z_90 => some (.inl Z_90)))) (un2 fun x_80 Z_81 => some (.inr (x_80, Z_81))))) (un2 fun x_69 Z_70 => some (.inr (x_69, Z_70))))) else (zK Z0 a0 3 11 <| bnd (cm_X3_rule gp Z0 a0 a1) (cs2 (fun Z_94 => some (.inl Z_94)) (un2 fun x_95 Z_96 => some (.inr (x_95, Z_96))))))))))))
abbrev rmX3_line : Room := rmD 9 237 34 247
theorem cwX3_ground_V {own : String} {R : Room} {s : State} {args : Array Value} {index : Nat} (hts : ∀ w ∈ lw_all, w.before args s = true) (hl : Cond.methodLink own index yX3_ground ∈ lw_all) (hR : rmX3_ground.frames + 1 ≤ R.frames ∧ 8 + (6 + 11) + rmX3_ground.locals ≤ R.locals) : CallW R s args own RX3 index yX3_ground cX3_ground 6 (none) (ws_ yX3_ground cX3_ground 6 (none)) rmX3_ground 16 124 1 := cwV 1 hts (lw_V hl q979 qs16 q111 q980) rfl rfl rfl (by decide +kernel) hR
theorem cwX3_lay_V {own : String} {R : Room} {s : State} {args : Array Value} {index : Nat} (hts : ∀ w ∈ lw_all, w.before args s = true) (hl : Cond.methodLink own index yX3_lay ∈ lw_all) (hR : rmX3_lay.frames + 1 ≤ R.frames ∧ 8 + (9 + 11) + rmX3_lay.locals ≤ R.locals) : CallW R s args own RX3 index yX3_lay cX3_lay 9 (none) (ws_ yX3_lay cX3_lay 9 (none)) rmX3_lay 12 96 1 := cwV 1 hts (lw_V hl q1012 qs23 q111 q1013) rfl rfl rfl (by decide +kernel) hR
theorem cwX3_stream_V {own : String} {R : Room} {s : State} {args : Array Value} {index : Nat} (hts : ∀ w ∈ lw_all, w.before args s = true) (hl : Cond.methodLink own index yX3_stream ∈ lw_all) (hR : rmX3_stream.frames + 1 ≤ R.frames ∧ 8 + (3 + 11) + rmX3_stream.locals ≤ R.locals) : CallW R s args own RX3 index yX3_stream cX3_stream 3 (none) (ws_ yX3_stream cX3_stream 3 (none)) rmX3_stream 6 48 1 := cwV 1 hts (lw_V hl q1017 qs24 q111 q1018) rfl rfl rfl (by decide +kernel) hR
theorem cwX3_shaft_V {own : String} {R : Room} {s : State} {args : Array Value} {index : Nat} (hts : ∀ w ∈ lw_all, w.before args s = true) (hl : Cond.methodLink own index yX3_shaft ∈ lw_all) (hR : rmX3_shaft.frames + 1 ≤ R.frames ∧ 8 + (3 + 11) + rmX3_shaft.locals ≤ R.locals) : CallW R s args own RX3 index yX3_shaft cX3_shaft 3 (none) (ws_ yX3_shaft cX3_shaft 3 (none)) rmX3_shaft 9 72 1 := cwV 1 hts (lw_V hl q1022 qs25 q111 q1023) rfl rfl rfl (by decide +kernel) hR
theorem cwX3_pipe_V {own : String} {R : Room} {s : State} {args : Array Value} {index : Nat} (hts : ∀ w ∈ lw_all, w.before args s = true) (hl : Cond.methodLink own index yX3_pipe ∈ lw_all) (hR : rmX3_pipe.frames + 1 ≤ R.frames ∧ 8 + (5 + 11) + rmX3_pipe.locals ≤ R.locals) : CallW R s args own RX3 index yX3_pipe cX3_pipe 5 (none) (ws_ yX3_pipe cX3_pipe 5 (none)) rmX3_pipe 25 209 1 := cwV 1 hts (lw_V hl q1026 qs26 q111 q1027) rfl rfl rfl (by decide +kernel) hR
theorem cwX3_rule_V {own : String} {R : Room} {s : State} {args : Array Value} {index : Nat} (hts : ∀ w ∈ lw_all, w.before args s = true) (hl : Cond.methodLink own index yX3_rule ∈ lw_all) (hR : rmX3_rule.frames + 1 ≤ R.frames ∧ 8 + (6 + 11) + rmX3_rule.locals ≤ R.locals) : CallW R s args own RX3 index yX3_rule cX3_rule 6 (none) (ws_ yX3_rule cX3_rule 6 (none)) rmX3_rule 34 247 1 := cwV 1 hts (lw_V hl q1041 qs27 q111 q1042) rfl rfl rfl (by decide +kernel) hR
set_option maxHeartbeats 4000000 in
theorem metX3_line {l : Launch} {gp : Nat → Nat} {D : va_G} {K : Nat → ClassId} {Z0 : c_S} {a0 : Nat} {a1 : Nat} {a2 : Int32} {Out : ((c_S) ⊕ (Nat × c_S))} (h : cm_X3_line gp Z0 a0 a1 a2 = some Out) : MetT l yX3_line (ws_ yX3_line cX3_line 4 (none)) rmX3_line (z_Pc gp [.ref a0, .ref a1, .int a2] D K Z0) (z_Q (oV Out) D K (z_A Z0) (oVs Out)) 34 247 (z_A Z0) := by
  refine d_metT rfl (Nat.le_of_ble_eq_true rfl) ?_
  intro p e s m below meth c ls S hr hlk hnm hne hl hW hsz
  have S : CallFix p m c cX3_line 4 s ([.ref a0, .ref a1, .int a2] : List Value).toArray lw_all RX3 := S
  have hx := S.1
  have hb := S.2.1
  have hl : lv_has ls 4 [(0, .ref a0), (1, .ref a1), (2, .int a2)] := hl
  have hnm : meth.name = "line" := hnm
  unfold cm_X3_line at h
  refine lv_iload_n hx hb dX3_line_0 rfl (lv_at hl 2 rfl) ?_
  by_cases c_1 : a2 = 0
  · have h := if_t h c_1
    refine lv_tableIn (off := 47) (tgt := 48) hx hb dX3_line_1 (by rw [c_1]; decide) (by rw [c_1]; decide) (by rw [c_1]; decide) (by decide) ?_
    refine lv_aload_n hx hb dX3_line_48 rfl (lv_at hl 0 rfl) ?_
    refine lv_aload_n hx hb dX3_line_49 rfl (lv_at hl 1 rfl) ?_
    obtain ⟨⟨_, k_2⟩, h⟩ := zK_some h
    obtain ⟨q_8, h_3, h⟩ := bnd_some h
    have h9 := cs2_some h
    clear h
    rcases h9 with ⟨_, rfl, h⟩ | ⟨_, rfl, h⟩
    · rename_i Z_5
      refine d_callVTr (As := [.ref a1]) (rest := []) S hW (metX3_ground h_3) (cwX3_ground_V S.2.2.2.2 q977 ⟨Nat.le_of_ble_eq_true rfl, Nat.le_of_ble_eq_true rfl⟩) k_2 rfl rfl hl.1 rfl (Nat.le_of_ble_eq_true rfl) dX3_line_50 ⟨(Nat.le_of_ble_eq_true rfl), (Nat.le_of_ble_eq_true rfl)⟩ rfl (fun H locs hW => ?_)
      refine lv_goto (tgt := 172) hx hb dX3_line_53 (by decide) ?_
      cases h
      exact W.toT (d_vret S hr hlk hW (Nat.le_of_ble_eq_true rfl) (Nat.le_of_ble_eq_true rfl) dX3_line_172)
    · have h9 := un2_some h
      clear h
      obtain ⟨x_6, Z_7, rfl, h⟩ := h9
      refine d_callVTt (As := [.ref a1]) (rest := []) S hW (metX3_ground h_3) (cwX3_ground_V S.2.2.2.2 q977 ⟨Nat.le_of_ble_eq_true rfl, Nat.le_of_ble_eq_true rfl⟩) k_2 rfl rfl hl.1 rfl (Nat.le_of_ble_eq_true rfl) dX3_line_50 ⟨(Nat.le_of_ble_eq_true rfl), (Nat.le_of_ble_eq_true rfl)⟩ (fun H locs hW => ?_)
      cases h
      exact d_leave hlk hne hW (Nat.le_of_ble_eq_true rfl) (Nat.le_of_ble_eq_true rfl)
  have h := if_f h c_1
  by_cases c_9 : a2 = 1
  · have h := if_t h c_9
    refine lv_tableIn (off := 55) (tgt := 56) hx hb dX3_line_1 (by rw [c_9]; decide) (by rw [c_9]; decide) (by rw [c_9]; decide) (by decide) ?_
    refine lv_aload_n hx hb dX3_line_56 rfl (lv_at hl 0 rfl) ?_
    refine lv_aload_n hx hb dX3_line_57 rfl (lv_at hl 1 rfl) ?_
    obtain ⟨⟨_, k_10⟩, h⟩ := zK_some h
    obtain ⟨q_16, h_11, h⟩ := bnd_some h
    have h9 := cs2_some h
    clear h
    rcases h9 with ⟨_, rfl, h⟩ | ⟨_, rfl, h⟩
    · rename_i Z_13
      refine d_callVTr (As := [.ref a1]) (rest := []) S hW (metX3_lay h_11) (cwX3_lay_V S.2.2.2.2 q1010 ⟨Nat.le_of_ble_eq_true rfl, Nat.le_of_ble_eq_true rfl⟩) k_10 rfl rfl hl.1 rfl (Nat.le_of_ble_eq_true rfl) dX3_line_58 ⟨(Nat.le_of_ble_eq_true rfl), (Nat.le_of_ble_eq_true rfl)⟩ rfl (fun H locs hW => ?_)
      refine lv_goto (tgt := 172) hx hb dX3_line_61 (by decide) ?_
      cases h
      exact W.toT (d_vret S hr hlk hW (Nat.le_of_ble_eq_true rfl) (Nat.le_of_ble_eq_true rfl) dX3_line_172)
    · have h9 := un2_some h
      clear h
      obtain ⟨x_14, Z_15, rfl, h⟩ := h9
      refine d_callVTt (As := [.ref a1]) (rest := []) S hW (metX3_lay h_11) (cwX3_lay_V S.2.2.2.2 q1010 ⟨Nat.le_of_ble_eq_true rfl, Nat.le_of_ble_eq_true rfl⟩) k_10 rfl rfl hl.1 rfl (Nat.le_of_ble_eq_true rfl) dX3_line_58 ⟨(Nat.le_of_ble_eq_true rfl), (Nat.le_of_ble_eq_true rfl)⟩ (fun H locs hW => ?_)
      cases h
      exact d_leave hlk hne hW (Nat.le_of_ble_eq_true rfl) (Nat.le_of_ble_eq_true rfl)
  have h := if_f h c_9
  by_cases c_17 : a2 = 2
  · have h := if_t h c_17
    refine lv_tableIn (off := 63) (tgt := 64) hx hb dX3_line_1 (by rw [c_17]; decide) (by rw [c_17]; decide) (by rw [c_17]; decide) (by decide) ?_
    refine lv_aload_n hx hb dX3_line_64 rfl (lv_at hl 0 rfl) ?_
    refine lv_aload_n hx hb dX3_line_65 rfl (lv_at hl 1 rfl) ?_
    obtain ⟨⟨_, k_18⟩, h⟩ := zK_some h
    obtain ⟨q_24, h_19, h⟩ := bnd_some h
    have h9 := cs2_some h
    clear h
    rcases h9 with ⟨_, rfl, h⟩ | ⟨_, rfl, h⟩
    · rename_i Z_21
      refine d_callVTr (As := [.ref a1]) (rest := []) S hW (metX3_stream h_19) (cwX3_stream_V S.2.2.2.2 q1015 ⟨Nat.le_of_ble_eq_true rfl, Nat.le_of_ble_eq_true rfl⟩) k_18 rfl rfl hl.1 rfl (Nat.le_of_ble_eq_true rfl) dX3_line_66 ⟨(Nat.le_of_ble_eq_true rfl), (Nat.le_of_ble_eq_true rfl)⟩ rfl (fun H locs hW => ?_)
      refine lv_goto (tgt := 172) hx hb dX3_line_69 (by decide) ?_
      cases h
      exact W.toT (d_vret S hr hlk hW (Nat.le_of_ble_eq_true rfl) (Nat.le_of_ble_eq_true rfl) dX3_line_172)
    · have h9 := un2_some h
      clear h
      obtain ⟨x_22, Z_23, rfl, h⟩ := h9
      refine d_callVTt (As := [.ref a1]) (rest := []) S hW (metX3_stream h_19) (cwX3_stream_V S.2.2.2.2 q1015 ⟨Nat.le_of_ble_eq_true rfl, Nat.le_of_ble_eq_true rfl⟩) k_18 rfl rfl hl.1 rfl (Nat.le_of_ble_eq_true rfl) dX3_line_66 ⟨(Nat.le_of_ble_eq_true rfl), (Nat.le_of_ble_eq_true rfl)⟩ (fun H locs hW => ?_)
      cases h
      exact d_leave hlk hne hW (Nat.le_of_ble_eq_true rfl) (Nat.le_of_ble_eq_true rfl)
  have h := if_f h c_17
  by_cases c_25 : a2 = 3
  · have h := if_t h c_25
    refine lv_tableIn (off := 71) (tgt := 72) hx hb dX3_line_1 (by rw [c_25]; decide) (by rw [c_25]; decide) (by rw [c_25]; decide) (by decide) ?_
    refine lv_aload_n hx hb dX3_line_72 rfl (lv_at hl 1 rfl) ?_
    refine lv_aload_n hx hb dX3_line_73 rfl (lv_at hl 0 rfl) ?_
    refine lv_iconst (v := 1) hx hb dX3_line_74 (by decide) ?_
    refine lv_sipush (v := 300) hx hb dX3_line_75 (by decide) ?_
    obtain ⟨⟨_, k_26⟩, h⟩ := zK_some h
    obtain ⟨q_33, h_27, h⟩ := bnd_some h
    have h9 := cs2_some h
    clear h
    rcases h9 with ⟨_, rfl, h⟩ | ⟨_, rfl, h⟩
    · have h9 := un2_some h
      clear h
      obtain ⟨x_29, Z_30, rfl, h⟩ := h9
      refine d_callVTr (As := [.int 1, .int 300]) (rest := [.ref a1]) S hW (metX3_number h_27) (cwX3_number_V S.2.2.2.2 q981 ⟨Nat.le_of_ble_eq_true rfl, Nat.le_of_ble_eq_true rfl⟩) k_26 rfl rfl hl.1 rfl (Nat.le_of_ble_eq_true rfl) dX3_line_78 ⟨(Nat.le_of_ble_eq_true rfl), (Nat.le_of_ble_eq_true rfl)⟩ rfl (fun H locs hW => ?_)
      refine zw_putI S hW zC_X2 (i := 6) (by decide) (Or.inl rfl) rfl rfl rfl (Or.inr ⟨_, nestW_in q408 rfl⟩) (fun _ h => h) dX3_line_81 h (fun Z_34 h H locs hW => ?_)
      refine lv_aload_n hx hb dX3_line_84 rfl (lv_at hl 0 rfl) ?_
      refine lv_iconst (v := 1) hx hb dX3_line_85 (by decide) ?_
      refine zw_putI S hW zC_X3 (i := 9) (by decide) (Or.inl rfl) rfl rfl rfl (Or.inl q836) (fun _ h => h) dX3_line_86 h (fun Z_35 h H locs hW => ?_)
      refine lv_goto (tgt := 172) hx hb dX3_line_89 (by decide) ?_
      cases h
      exact W.toT (d_vret S hr hlk hW (Nat.le_of_ble_eq_true rfl) (Nat.le_of_ble_eq_true rfl) dX3_line_172)
    · have h9 := un2_some h
      clear h
      obtain ⟨x_31, Z_32, rfl, h⟩ := h9
      refine d_callVTt (As := [.int 1, .int 300]) (rest := [.ref a1]) S hW (metX3_number h_27) (cwX3_number_V S.2.2.2.2 q981 ⟨Nat.le_of_ble_eq_true rfl, Nat.le_of_ble_eq_true rfl⟩) k_26 rfl rfl hl.1 rfl (Nat.le_of_ble_eq_true rfl) dX3_line_78 ⟨(Nat.le_of_ble_eq_true rfl), (Nat.le_of_ble_eq_true rfl)⟩ (fun H locs hW => ?_)
      cases h
      exact d_leave hlk hne hW (Nat.le_of_ble_eq_true rfl) (Nat.le_of_ble_eq_true rfl)
  have h := if_f h c_25
  by_cases c_36 : a2 = 4
  · have h := if_t h c_36
    refine lv_tableIn (off := 91) (tgt := 92) hx hb dX3_line_1 (by rw [c_36]; decide) (by rw [c_36]; decide) (by rw [c_36]; decide) (by decide) ?_
    refine lv_aload_n hx hb dX3_line_92 rfl (lv_at hl 0 rfl) ?_
    refine lv_aload_n hx hb dX3_line_93 rfl (lv_at hl 1 rfl) ?_
    obtain ⟨⟨_, k_37⟩, h⟩ := zK_some h
    obtain ⟨q_43, h_38, h⟩ := bnd_some h
    have h9 := cs2_some h
    clear h
    rcases h9 with ⟨_, rfl, h⟩ | ⟨_, rfl, h⟩
    · rename_i Z_40
      refine d_callVTr (As := [.ref a1]) (rest := []) S hW (metX3_shaft h_38) (cwX3_shaft_V S.2.2.2.2 q1020 ⟨Nat.le_of_ble_eq_true rfl, Nat.le_of_ble_eq_true rfl⟩) k_37 rfl rfl hl.1 rfl (Nat.le_of_ble_eq_true rfl) dX3_line_94 ⟨(Nat.le_of_ble_eq_true rfl), (Nat.le_of_ble_eq_true rfl)⟩ rfl (fun H locs hW => ?_)
      refine lv_goto (tgt := 172) hx hb dX3_line_97 (by decide) ?_
      cases h
      exact W.toT (d_vret S hr hlk hW (Nat.le_of_ble_eq_true rfl) (Nat.le_of_ble_eq_true rfl) dX3_line_172)
    · have h9 := un2_some h
      clear h
      obtain ⟨x_41, Z_42, rfl, h⟩ := h9
      refine d_callVTt (As := [.ref a1]) (rest := []) S hW (metX3_shaft h_38) (cwX3_shaft_V S.2.2.2.2 q1020 ⟨Nat.le_of_ble_eq_true rfl, Nat.le_of_ble_eq_true rfl⟩) k_37 rfl rfl hl.1 rfl (Nat.le_of_ble_eq_true rfl) dX3_line_94 ⟨(Nat.le_of_ble_eq_true rfl), (Nat.le_of_ble_eq_true rfl)⟩ (fun H locs hW => ?_)
      cases h
      exact d_leave hlk hne hW (Nat.le_of_ble_eq_true rfl) (Nat.le_of_ble_eq_true rfl)
  have h := if_f h c_36
  by_cases c_44 : a2 = 5
  · have h := if_t h c_44
    refine lv_tableIn (off := 99) (tgt := 100) hx hb dX3_line_1 (by rw [c_44]; decide) (by rw [c_44]; decide) (by rw [c_44]; decide) (by decide) ?_
    refine lv_aload_n hx hb dX3_line_100 rfl (lv_at hl 0 rfl) ?_
    refine lv_aload_n hx hb dX3_line_101 rfl (lv_at hl 1 rfl) ?_
    obtain ⟨⟨_, k_45⟩, h⟩ := zK_some h
    obtain ⟨q_51, h_46, h⟩ := bnd_some h
    have h9 := cs2_some h
    clear h
    rcases h9 with ⟨_, rfl, h⟩ | ⟨_, rfl, h⟩
    · rename_i Z_48
      refine d_callVTr (As := [.ref a1]) (rest := []) S hW (metX3_pipe h_46) (cwX3_pipe_V S.2.2.2.2 q1024 ⟨Nat.le_of_ble_eq_true rfl, Nat.le_of_ble_eq_true rfl⟩) k_45 rfl rfl hl.1 rfl (Nat.le_of_ble_eq_true rfl) dX3_line_102 ⟨(Nat.le_of_ble_eq_true rfl), (Nat.le_of_ble_eq_true rfl)⟩ rfl (fun H locs hW => ?_)
      refine lv_goto (tgt := 172) hx hb dX3_line_105 (by decide) ?_
      cases h
      exact W.toT (d_vret S hr hlk hW (Nat.le_of_ble_eq_true rfl) (Nat.le_of_ble_eq_true rfl) dX3_line_172)
    · have h9 := un2_some h
      clear h
      obtain ⟨x_49, Z_50, rfl, h⟩ := h9
      refine d_callVTt (As := [.ref a1]) (rest := []) S hW (metX3_pipe h_46) (cwX3_pipe_V S.2.2.2.2 q1024 ⟨Nat.le_of_ble_eq_true rfl, Nat.le_of_ble_eq_true rfl⟩) k_45 rfl rfl hl.1 rfl (Nat.le_of_ble_eq_true rfl) dX3_line_102 ⟨(Nat.le_of_ble_eq_true rfl), (Nat.le_of_ble_eq_true rfl)⟩ (fun H locs hW => ?_)
      cases h
      exact d_leave hlk hne hW (Nat.le_of_ble_eq_true rfl) (Nat.le_of_ble_eq_true rfl)
  have h := if_f h c_44
  by_cases c_52 : a2 = 6
  · have h := if_t h c_52
    refine lv_tableIn (off := 107) (tgt := 108) hx hb dX3_line_1 (by rw [c_52]; decide) (by rw [c_52]; decide) (by rw [c_52]; decide) (by decide) ?_
    refine lv_aload_n hx hb dX3_line_108 rfl (lv_at hl 1 rfl) ?_
    refine lv_aload_n hx hb dX3_line_109 rfl (lv_at hl 0 rfl) ?_
    refine lv_iconst (v := 0) hx hb dX3_line_110 (by decide) ?_
    refine lv_ldc (v := 99999) hx hb S.2.2.2.1 (S.2.2.2.2 _ q1035) dX3_line_111 ?_
    obtain ⟨⟨_, k_53⟩, h⟩ := zK_some h
    obtain ⟨q_60, h_54, h⟩ := bnd_some h
    have h9 := cs2_some h
    clear h
    rcases h9 with ⟨_, rfl, h⟩ | ⟨_, rfl, h⟩
    · have h9 := un2_some h
      clear h
      obtain ⟨x_56, Z_57, rfl, h⟩ := h9
      refine d_callVTr (As := [.int 0, .int 99999]) (rest := [.ref a1]) S hW (metX3_number h_54) (cwX3_number_V S.2.2.2.2 q981 ⟨Nat.le_of_ble_eq_true rfl, Nat.le_of_ble_eq_true rfl⟩) k_53 rfl rfl hl.1 rfl (Nat.le_of_ble_eq_true rfl) dX3_line_113 ⟨(Nat.le_of_ble_eq_true rfl), (Nat.le_of_ble_eq_true rfl)⟩ rfl (fun H locs hW => ?_)
      refine zw_putI S hW zC_X2 (i := 11) (by decide) (Or.inl rfl) rfl rfl rfl (Or.inr ⟨_, nestW_in q420 rfl⟩) (fun _ h => h) dX3_line_116 h (fun Z_61 h H locs hW => ?_)
      refine lv_aload_n hx hb dX3_line_119 rfl (lv_at hl 0 rfl) ?_
      refine lv_iconst (v := 1) hx hb dX3_line_120 (by decide) ?_
      refine zw_putI S hW zC_X3 (i := 10) (by decide) (Or.inl rfl) rfl rfl rfl (Or.inl q837) (fun _ h => h) dX3_line_121 h (fun Z_62 h H locs hW => ?_)
      refine lv_goto (tgt := 172) hx hb dX3_line_124 (by decide) ?_
      cases h
      exact W.toT (d_vret S hr hlk hW (Nat.le_of_ble_eq_true rfl) (Nat.le_of_ble_eq_true rfl) dX3_line_172)
    · have h9 := un2_some h
      clear h
      obtain ⟨x_58, Z_59, rfl, h⟩ := h9
      refine d_callVTt (As := [.int 0, .int 99999]) (rest := [.ref a1]) S hW (metX3_number h_54) (cwX3_number_V S.2.2.2.2 q981 ⟨Nat.le_of_ble_eq_true rfl, Nat.le_of_ble_eq_true rfl⟩) k_53 rfl rfl hl.1 rfl (Nat.le_of_ble_eq_true rfl) dX3_line_113 ⟨(Nat.le_of_ble_eq_true rfl), (Nat.le_of_ble_eq_true rfl)⟩ (fun H locs hW => ?_)
      cases h
      exact d_leave hlk hne hW (Nat.le_of_ble_eq_true rfl) (Nat.le_of_ble_eq_true rfl)
  have h := if_f h c_52
  by_cases c_63 : a2 = 7
  · have h := if_t h c_63
    refine lv_tableIn (off := 126) (tgt := 127) hx hb dX3_line_1 (by rw [c_63]; decide) (by rw [c_63]; decide) (by rw [c_63]; decide) (by decide) ?_
    refine lv_aload_n hx hb dX3_line_127 rfl (lv_at hl 0 rfl) ?_
    refine lv_iconst (v := 0) hx hb dX3_line_128 (by decide) ?_
    refine lv_bipush (v := 10) hx hb dX3_line_129 (by decide) ?_
    obtain ⟨⟨_, k_64⟩, h⟩ := zK_some h
    obtain ⟨q_71, h_65, h⟩ := bnd_some h
    have h9 := cs2_some h
    clear h
    rcases h9 with ⟨_, rfl, h⟩ | ⟨_, rfl, h⟩
    · have h9 := un2_some h
      clear h
      obtain ⟨x_67, Z_68, rfl, h⟩ := h9
      refine d_callVTr (As := [.int 0, .int 10]) (rest := []) S hW (metX3_number h_65) (cwX3_number_V S.2.2.2.2 q981 ⟨Nat.le_of_ble_eq_true rfl, Nat.le_of_ble_eq_true rfl⟩) k_64 rfl rfl hl.1 rfl (Nat.le_of_ble_eq_true rfl) dX3_line_131 ⟨(Nat.le_of_ble_eq_true rfl), (Nat.le_of_ble_eq_true rfl)⟩ rfl (fun H locs hW => ?_)
      refine lv_istore_n (lv' := [(3, .int x_67), (0, .ref a0), (1, .ref a1), (2, .int a2)]) hx hb dX3_line_134 rfl hl (by decide) rfl (fun ls hl => ?_)
      refine lv_aload_n hx hb dX3_line_135 rfl (lv_at hl 2 rfl) ?_
      refine zw_getA S hW zC_X2 (i := 4) (by decide) (Or.inr ⟨_, nestW_in q402 rfl⟩) (fun _ h => h) dX3_line_136 h (fun a_72 h => ?_)
      refine zw_new S hW zC_X6 q1036 q643 q120 (Nat.le_of_ble_eq_true rfl) (Nat.le_of_ble_eq_true rfl) dX3_line_139 h (fun Z_73 a_74 h H hW => ?_)
      refine lv_dup hx hb dX3_line_142 rfl ?_
      refine lv_iload_n hx hb dX3_line_143 rfl (lv_at hl 0 rfl) ?_
      refine lv_aload_n hx hb dX3_line_144 rfl (lv_at hl 1 rfl) ?_
      refine g_ldcwS (w := 23) (tx := "limit") S hW.1 (List.mem_of_getElem? (i := 23) rfl) dX3_line_145 ?_
      refine lv_iconst (v := 0) hx hb dX3_line_148 (by decide) ?_
      refine lv_sipush (v := 999) hx hb dX3_line_149 (by decide) ?_
      obtain ⟨⟨_, k_75⟩, h⟩ := zK_some h
      obtain ⟨q_82, h_76, h⟩ := bnd_some h
      have h9 := cs2_some h
      clear h
      rcases h9 with ⟨_, rfl, h⟩ | ⟨_, rfl, h⟩
      · have h9 := un2_some h
        clear h
        obtain ⟨x_78, Z_79, rfl, h⟩ := h9
        refine d_callVTr (As := [.ref (gp 23), .int 0, .int 999]) (rest := [.int x_67, .ref a_74, .ref a_74, .ref a_72]) S hW (metX3_number_2 h_76) (cwX3_number_2_V S.2.2.2.2 q987 ⟨Nat.le_of_ble_eq_true rfl, Nat.le_of_ble_eq_true rfl⟩) k_75 rfl rfl hl.1 rfl (Nat.le_of_ble_eq_true rfl) dX3_line_152 ⟨(Nat.le_of_ble_eq_true rfl), (Nat.le_of_ble_eq_true rfl)⟩ rfl (fun H locs hW => ?_)
        obtain ⟨Z_85, h_83, h⟩ := bnd_some h
        refine d_callI (As := [.int x_67, .int x_78]) (rest := [.ref a_74, .ref a_72]) S hW (metX6_init h_83) (cwX6_init_I S.2.2.2.2 q1038 ⟨Nat.le_of_ble_eq_true rfl, Nat.le_of_ble_eq_true rfl⟩) rfl hl.1 rfl (Nat.le_of_ble_eq_true rfl) dX3_line_155 ⟨(Nat.le_of_ble_eq_true rfl), (Nat.le_of_ble_eq_true rfl)⟩ rfl (fun H locs hW => ?_)
        obtain ⟨⟨_, k_86⟩, h⟩ := zK_some h
        obtain ⟨x_89, Z_90, h_87, h⟩ := bnd2_some h
        refine d_callF (As := [.ref a_74]) (rest := []) S hW (metJ2_add h_87) (cwJ2_add_F S.2.2.2.2 q1034 (hW.1.2.2.2.2.1.2.2.2.2.2.2.1 _ (List.mem_of_getElem? (i := 3) rfl)) ⟨Nat.le_of_ble_eq_true rfl, Nat.le_of_ble_eq_true rfl⟩) k_86 rfl rfl hl.1 rfl (Nat.le_of_ble_eq_true rfl) dX3_line_158 ⟨(Nat.le_of_ble_eq_true rfl), (Nat.le_of_ble_eq_true rfl)⟩ rfl (fun H locs hW => ?_)
        refine lv_pop hx hb dX3_line_163 rfl ?_
        refine lv_goto (tgt := 172) hx hb dX3_line_164 (by decide) ?_
        cases h
        exact W.toT (d_vret S hr hlk hW (Nat.le_of_ble_eq_true rfl) (Nat.le_of_ble_eq_true rfl) dX3_line_172)
      · have h9 := un2_some h
        clear h
        obtain ⟨x_80, Z_81, rfl, h⟩ := h9
        refine d_callVTt (As := [.ref (gp 23), .int 0, .int 999]) (rest := [.int x_67, .ref a_74, .ref a_74, .ref a_72]) S hW (metX3_number_2 h_76) (cwX3_number_2_V S.2.2.2.2 q987 ⟨Nat.le_of_ble_eq_true rfl, Nat.le_of_ble_eq_true rfl⟩) k_75 rfl rfl hl.1 rfl (Nat.le_of_ble_eq_true rfl) dX3_line_152 ⟨(Nat.le_of_ble_eq_true rfl), (Nat.le_of_ble_eq_true rfl)⟩ (fun H locs hW => ?_)
        cases h
        exact d_leave hlk hne hW (Nat.le_of_ble_eq_true rfl) (Nat.le_of_ble_eq_true rfl)
    · have h9 := un2_some h
      clear h
      obtain ⟨x_69, Z_70, rfl, h⟩ := h9
      refine d_callVTt (As := [.int 0, .int 10]) (rest := []) S hW (metX3_number h_65) (cwX3_number_V S.2.2.2.2 q981 ⟨Nat.le_of_ble_eq_true rfl, Nat.le_of_ble_eq_true rfl⟩) k_64 rfl rfl hl.1 rfl (Nat.le_of_ble_eq_true rfl) dX3_line_131 ⟨(Nat.le_of_ble_eq_true rfl), (Nat.le_of_ble_eq_true rfl)⟩ (fun H locs hW => ?_)
      cases h
      exact d_leave hlk hne hW (Nat.le_of_ble_eq_true rfl) (Nat.le_of_ble_eq_true rfl)
  have h := if_f h c_63
  have c_1 := lv_neT (a := 0) c_1 (by decide)
  have c_9 := lv_neT (a := 1) c_9 (by decide)
  have c_17 := lv_neT (a := 2) c_17 (by decide)
  have c_25 := lv_neT (a := 3) c_25 (by decide)
  have c_36 := lv_neT (a := 4) c_36 (by decide)
  have c_44 := lv_neT (a := 5) c_44 (by decide)
  have c_52 := lv_neT (a := 6) c_52 (by decide)
  have c_63 := lv_neT (a := 7) c_63 (by decide)
  refine lv_tableOut (tgt := 167) hx hb dX3_line_1 (by omega) (by decide) ?_
  refine lv_aload_n hx hb dX3_line_167 rfl (lv_at hl 0 rfl) ?_
  refine lv_aload_n hx hb dX3_line_168 rfl (lv_at hl 1 rfl) ?_
  obtain ⟨⟨_, k_91⟩, h⟩ := zK_some h
  obtain ⟨q_97, h_92, h⟩ := bnd_some h
  have h9 := cs2_some h
  clear h
  rcases h9 with ⟨_, rfl, h⟩ | ⟨_, rfl, h⟩
  · rename_i Z_94
    refine d_callVTr (As := [.ref a1]) (rest := []) S hW (metX3_rule h_92) (cwX3_rule_V S.2.2.2.2 q1039 ⟨Nat.le_of_ble_eq_true rfl, Nat.le_of_ble_eq_true rfl⟩) k_91 rfl rfl hl.1 rfl (Nat.le_of_ble_eq_true rfl) dX3_line_169 ⟨(Nat.le_of_ble_eq_true rfl), (Nat.le_of_ble_eq_true rfl)⟩ rfl (fun H locs hW => ?_)
    cases h
    exact W.toT (d_vret S hr hlk hW (Nat.le_of_ble_eq_true rfl) (Nat.le_of_ble_eq_true rfl) dX3_line_172)
  · have h9 := un2_some h
    clear h
    obtain ⟨x_95, Z_96, rfl, h⟩ := h9
    refine d_callVTt (As := [.ref a1]) (rest := []) S hW (metX3_rule h_92) (cwX3_rule_V S.2.2.2.2 q1039 ⟨Nat.le_of_ble_eq_true rfl, Nat.le_of_ble_eq_true rfl⟩) k_91 rfl rfl hl.1 rfl (Nat.le_of_ble_eq_true rfl) dX3_line_169 ⟨(Nat.le_of_ble_eq_true rfl), (Nat.le_of_ble_eq_true rfl)⟩ (fun H locs hW => ?_)
    cases h
    exact d_leave hlk hne hW (Nat.le_of_ble_eq_true rfl) (Nat.le_of_ble_eq_true rfl)
def cm_X0_init_B87 (gp : Nat → Nat) (x0 : Nat) (rec : Int32 → c_S → Option (c_S)) (x1 : Int32) (Z : c_S) : Option (c_S) :=
  if 4 ≤ x1 then (some Z) else (cA Z.Sh x0 0 11 0 fun a_47 => zNew Z 7 1 tyX7 fun Z_48 a_49 => bnd (cm_X7_init a_49) (fun _ => zsR [7] Z_48 7 a_47 x1 (some a_49) fun Z_52 => nmI (x1 + 1) fun x_53 => rec x_53 Z_52))
abbrev cm_X0_init_F87 (gp : Nat → Nat) (x0 : Nat) : (((Int32) × (c_S)) → Option (c_S)) → ((Int32) × (c_S)) → Option (c_S) := fun rec s => cm_X0_init_B87 gp x0 (fun x1 Z => rec (x1, Z)) s.1 s.2
def cm_X0_init_L87 (gp : Nat → Nat) (x0 : Nat) (n : Nat) (x1 : Int32) (Z : c_S) : Option (c_S) := lp (cm_X0_init_F87 gp x0) n (x1, Z)
theorem cm_X0_init_L87_s (gp : Nat → Nat) (x0 : Nat) (n : Nat) (x1 : Int32) (Z : c_S) : cm_X0_init_L87 gp x0 (n + 1) x1 Z = cm_X0_init_B87 gp x0 (fun x1 Z => cm_X0_init_L87 gp x0 n x1 Z) x1 Z := lp_s (cm_X0_init_F87 gp x0) n (x1, Z)
def cm_X0_init (gp : Nat → Nat) (Z0 : c_S) (a0 : Nat) : Option (c_S) :=
  zNewR Z0 7 4 4 fun Z_1 a_2 => zPR Z_1 a0 0 11 0 (some a_2) fun Z_3 => zNew Z_3 1 20 tyX1 fun Z_4 a_5 => zNew Z_4 2 13 tyX2 fun Z_6 a_7 => bnd (cm_X2_init Z_6 a_7) (fun Z_10 => bnd (cm_X3_whole Z_10 a_7) (un2 fun o_13 Z_14 => nn o_13 fun a_15 => bnd (cm_X1_init gp Z_14 a_5 a_15) (fun Z_18 => zPR Z_18 a0 0 11 1 (some a_5) fun Z_19 => zNew Z_19 1 20 tyX1 fun Z_20 a_21 => zNew Z_20 2 13 tyX2 fun Z_22 a_23 => bnd (cm_X2_init Z_22 a_23) (fun Z_26 => bnd (cm_X3_whole Z_26 a_23) (un2 fun o_29 Z_30 => nn o_29 fun a_31 => bnd (cm_X1_init gp Z_30 a_21 a_31) (fun Z_34 => zPR Z_34 a0 0 11 2 (some a_21) fun Z_35 => zNewR Z_35 9 3 3 fun Z_36 a_37 => zPR Z_36 a0 0 11 3 (some a_37) fun Z_38 => zNewI Z_38 1 700 fun Z_39 a_40 => zPR Z_39 a0 0 11 4 (some a_40) fun Z_41 => zPI Z_41 a0 0 11 7 (-1) fun Z_42 => zNewI Z_42 0 144 fun Z_43 a_44 => zPR Z_43 a0 0 11 8 (some a_44) fun Z_45 => bnd (cm_X0_init_L87 gp a0 5 0 Z_45) (fun Z_57 => some Z_57)))))))
abbrev rmX0_init : Room := rmD 9 234 145 4950
theorem cwX2_init_I {own : String} {R : Room} {s : State} {args : Array Value} {index : Nat} (hts : ∀ w ∈ lw_all, w.before args s = true) (hl : Cond.methodLink own index yX2_init ∈ lw_all) (hR : rmX2_init.frames + 1 ≤ R.frames ∧ 8 + (2 + 11) + rmX2_init.locals ≤ R.locals) : CallB R s args own index yX2_init cX2_init 2 (none) (ws_ yX2_init cX2_init 2 (none)) rmX2_init 9 181 0 ∧ yX2_init.name = "<init>" ∧ (Cond.instanceMethod yX2_init).before args s = true := cwI 0 hts (lw_meth q356) rfl rfl rfl (hts _ q107) (hts _ hl) (hts _ q355) rfl ⟨by decide, by decide, by decide +kernel⟩ hR
theorem cwX3_whole_S {own : String} {R : Room} {s : State} {args : Array Value} {index : Nat} (hts : ∀ w ∈ lw_all, w.before args s = true) (hl : Cond.methodLink own index yX3_whole ∈ lw_all) (hR : rmX3_whole.frames + 1 ≤ R.frames ∧ 8 + (2 + 11) + rmX3_whole.locals ≤ R.locals) : CallB R s args own index yX3_whole cX3_whole 2 (some (.object "FrostRing$Told")) (ws_ yX3_whole cX3_whole 2 (some (.object "FrostRing$Told"))) rmX3_whole 5 20 1 ∧ (Cond.static yX3_whole).before args s = true := va_cwS 1 hts (lw_S hl q451 q111 q452) rfl rfl rfl (by decide +kernel) hR
theorem cwX1_init_I {own : String} {R : Room} {s : State} {args : Array Value} {index : Nat} (hts : ∀ w ∈ lw_all, w.before args s = true) (hl : Cond.methodLink own index yX1_init ∈ lw_all) (hR : rmX1_init.frames + 1 ≤ R.frames ∧ 8 + (2 + 11) + rmX1_init.locals ≤ R.locals) : CallB R s args own index yX1_init cX1_init 2 (none) (ws_ yX1_init cX1_init 2 (none)) rmX1_init 52 1813 1 ∧ yX1_init.name = "<init>" ∧ (Cond.instanceMethod yX1_init).before args s = true := cwI 1 hts (lw_meth q478) rfl rfl rfl (hts _ q106) (hts _ hl) (hts _ q477) rfl ⟨by decide, by decide, by decide +kernel⟩ hR
theorem cwX7_init_IN {own : String} {R : Room} {s : State} {args : Array Value} {index : Nat} (hts : ∀ w ∈ lw_all, w.before args s = true) {host : String} (hn : va_Nw (.methodLinkNest own index yX7_init host) s) (hR : rmX7_init.frames + 1 ≤ R.frames ∧ 8 + (1 + 11) + rmX7_init.locals ≤ R.locals) : va_CN R s args own index yX7_init host cX7_init 1 (none) (ws_ yX7_init cX7_init 1 (none)) rmX7_init 0 0 0 ∧ yX7_init.name = "<init>" ∧ (Cond.instanceMethod yX7_init).before args s = true := ⟨va_cnB 0 hts (lw_meth q747) rfl rfl rfl hn (hts _ q121) ⟨by decide, by decide, by decide +kernel⟩ hR, rfl, hts _ q746⟩
set_option maxHeartbeats 4000000 in
theorem metX0_init {l : Launch} {gp : Nat → Nat} {D : va_G} {K : Nat → ClassId} {Z0 : c_S} {a0 : Nat} {Z' : c_S} (h : cm_X0_init gp Z0 a0 = some Z') : Met l yX0_init (ws_ yX0_init cX0_init 2 (none)) rmX0_init (z_Pc gp [.ref a0] D K Z0) (z_Q (.returned (none)) D K (z_A Z0) Z') 145 4950 (z_A Z0) := by
  refine d_met rfl (Nat.le_of_ble_eq_true rfl) ?_
  intro p e s m below meth c ls S hr hlk hnm hl hW hsz
  have S : CallFix p m c cX0_init 2 s ([.ref a0] : List Value).toArray lw_all RX0 := S
  have hx := S.1
  have hb := S.2.1
  have hl : lv_has ls 2 [(0, .ref a0)] := hl
  have hnm : meth.name = "<init>" := hnm
  have Lp87 : ∀ (x0 : Nat) (E G : Nat) (n : Nat) (x1 : Int32) (Z : c_S) (out : (c_S)) (cells slots : Nat) (H : Heap) (locs : List Loc) (ls : Array Slot), cm_X0_init_L87 gp x0 n x1 Z = some out → z_W gp D K (z_A Z0) s Z H locs → lv_has ls 2 [(0, .ref x0), (1, .int x1)] → cells + n * 1 ≤ E → slots + n * 1 ≤ G → E ≤ 145 → G ≤ 4950 → (∀ (oZ : c_S), out = oZ → ∀ (H : Heap) (locs : List Loc) (ls : Array Slot), z_W gp D K (z_A Z0) s oZ H locs → lv_has ls 2 [] → W p l e rmX0_init s m ([.ref a0] : List Value).toArray below meth c H locs E G (MQ below (z_Q (.returned (none)) D K (z_A Z0) Z') ([.ref a0] : List Value).toArray s 145 4950 (z_A Z0)) (F0 m 111 ls [])) → W p l e rmX0_init s m ([.ref a0] : List Value).toArray below meth c H locs cells slots (MQ below (z_Q (.returned (none)) D K (z_A Z0) Z') ([.ref a0] : List Value).toArray s 145 4950 (z_A Z0)) (F0 m 87 ls []) := by
    intro x0 E G n
    induction n with
    | zero =>
      intro x1 Z out cells slots H locs ls h
      exact (lp_0 h).elim
    | succ n ih =>
      intro x1 Z out cells slots H locs ls h hW hl hcl hsl hE hG k1
      have hcl := nsucc hcl
      have hsl := nsucc hsl
      rw [cm_X0_init_L87_s] at h
      unfold cm_X0_init_B87 at h
      refine lv_iload_n hx hb dX0_init_87 rfl (lv_at hl 1 rfl) ?_
      refine lv_iconst (v := 4) hx hb dX0_init_88 (by decide) ?_
      refine lv_icmp_ge (tgt := 111) hx hb dX0_init_89 (by decide) (fun c_46 => ?_) (fun c_46 => ?_)
      · have h := if_t h c_46
        exact W.widen (by omega) (by omega) (k1 _ (Option.some.inj h).symm _ _ _ hW (lv_sub hl [] rfl))
      · have h := if_f h c_46
        refine lv_aload_n hx hb dX0_init_92 rfl (lv_at hl 0 rfl) ?_
        refine zw_getA S hW zC_X0 (i := 0) (by decide) (Or.inl q754) (fun _ h => h) dX0_init_93 h (fun a_47 h => ?_)
        refine lv_iload_n hx hb dX0_init_96 rfl (lv_at hl 1 rfl) ?_
        refine zw_new S hW zC_X7 q348 q302 q121 (show _ ≤ 145 from by omega) (show _ ≤ 4950 from by omega) dX0_init_97 h (fun Z_48 a_49 h H hW => ?_)
        refine lv_dup hx hb dX0_init_100 rfl ?_
        obtain ⟨o_51, h_50, h⟩ := bnd_some h
        refine d_callIN (As := []) (rest := [.ref a_49, .int x1, .ref a_47]) S hW (metX7_init h_50) (cwX7_init_IN S.2.2.2.2 (hW.1.2.2.2.2.1.2.2.2.2.1 _ (nestW_in q745 rfl)) ⟨Nat.le_of_ble_eq_true rfl, Nat.le_of_ble_eq_true rfl⟩) rfl hl.1 rfl (Nat.le_of_ble_eq_true rfl) dX0_init_101 ⟨(show _ ≤ 145 from by omega), (show _ ≤ 4950 from by omega)⟩ rfl (fun H locs hW => ?_)
        refine zw_aast (o := some a_49) S hW (t := 7) rfl zal_7 dX0_init_104 h (fun Z_52 h H locs hW => ?_)
        obtain ⟨x_53, e_54, h⟩ := nmI_some h
        refine lv_iinc (v := x_53) (lv' := [(1, .int x_53), (0, .ref x0)]) hx hb dX0_init_105 hl (k := 1) rfl (by rw [e_54]; rfl) (by decide) rfl (fun ls hl => ?_)
        refine lv_goto (tgt := 87) hx hb dX0_init_108 (by decide) ?_
        exact ih x_53 Z_52 out (cells + 1) (slots + 1) _ _ _ h hW (lv_sub hl [1, 0] rfl) (by omega) (by omega) hE hG k1
  unfold cm_X0_init at h
  refine lv_aload_n hx hb dX0_init_0 rfl (lv_at hl 0 rfl) ?_
  refine zw_oinit S q347 hl.1 (Nat.le_of_ble_eq_true rfl) (z_ro (Nat.le_of_ble_eq_true rfl)) (Nat.le_of_ble_eq_true rfl) dX0_init_1 ?_
  refine lv_aload_n hx hb dX0_init_4 rfl (lv_at hl 0 rfl) ?_
  refine lv_iconst (v := 4) hx hb dX0_init_5 (by decide) ?_
  refine zw_newr (t := 7) (B := 4) S hW q348 (by decide) rfl (by decide) (Nat.le_of_ble_eq_true rfl) (Nat.le_of_ble_eq_true rfl) dX0_init_6 h (fun Z_1 a_2 h H hW => ?_)
  refine zw_putR (o := some a_2) S hW zC_X0 (i := 0) (by decide) (Or.inr ⟨rfl, hnm, rfl, q754⟩) rfl (Or.inl q754) (fun _ h => h) dX0_init_9 h (fun Z_3 h H locs hW => ?_)
  refine lv_aload_n hx hb dX0_init_12 rfl (lv_at hl 0 rfl) ?_
  refine zw_new S hW zC_X1 q350 q351 q106 (Nat.le_of_ble_eq_true rfl) (Nat.le_of_ble_eq_true rfl) dX0_init_13 h (fun Z_4 a_5 h H hW => ?_)
  refine lv_dup hx hb dX0_init_16 rfl ?_
  refine zw_new S hW zC_X2 q352 q353 q107 (Nat.le_of_ble_eq_true rfl) (Nat.le_of_ble_eq_true rfl) dX0_init_17 h (fun Z_6 a_7 h H hW => ?_)
  refine lv_dup hx hb dX0_init_20 rfl ?_
  obtain ⟨Z_10, h_8, h⟩ := bnd_some h
  refine d_callI (As := []) (rest := [.ref a_7, .ref a_5, .ref a_5, .ref a0]) S hW (metX2_init h_8) (cwX2_init_I S.2.2.2.2 q354 ⟨Nat.le_of_ble_eq_true rfl, Nat.le_of_ble_eq_true rfl⟩) rfl hl.1 rfl (Nat.le_of_ble_eq_true rfl) dX0_init_21 ⟨(Nat.le_of_ble_eq_true rfl), (Nat.le_of_ble_eq_true rfl)⟩ rfl (fun H locs hW => ?_)
  obtain ⟨o_13, Z_14, h_11, h⟩ := bnd2_some h
  refine d_callS (As := [.ref a_7]) (rest := [.ref a_5, .ref a_5, .ref a0]) S hW (metX3_whole h_11) (cwX3_whole_S S.2.2.2.2 q450 ⟨Nat.le_of_ble_eq_true rfl, Nat.le_of_ble_eq_true rfl⟩) rfl hl.1 rfl (Nat.le_of_ble_eq_true rfl) dX0_init_24 ⟨(Nat.le_of_ble_eq_true rfl), (Nat.le_of_ble_eq_true rfl)⟩ rfl (fun H locs hW => ?_)
  have h9 := nn_some h
  clear h
  obtain ⟨a_15, rfl, h8⟩ := h9
  have h := h8
  clear h8
  obtain ⟨Z_18, h_16, h⟩ := bnd_some h
  refine d_callI (As := [.ref a_15]) (rest := [.ref a_5, .ref a0]) S hW (metX1_init h_16) (cwX1_init_I S.2.2.2.2 q476 ⟨Nat.le_of_ble_eq_true rfl, Nat.le_of_ble_eq_true rfl⟩) rfl hl.1 rfl (Nat.le_of_ble_eq_true rfl) dX0_init_27 ⟨(Nat.le_of_ble_eq_true rfl), (Nat.le_of_ble_eq_true rfl)⟩ rfl (fun H locs hW => ?_)
  refine zw_putR (o := some a_5) S hW zC_X0 (i := 1) (by decide) (Or.inr ⟨rfl, hnm, rfl, q756⟩) rfl (Or.inl q756) (fun _ h => h) dX0_init_30 h (fun Z_19 h H locs hW => ?_)
  refine lv_aload_n hx hb dX0_init_33 rfl (lv_at hl 0 rfl) ?_
  refine zw_new S hW zC_X1 q350 q351 q106 (Nat.le_of_ble_eq_true rfl) (Nat.le_of_ble_eq_true rfl) dX0_init_34 h (fun Z_20 a_21 h H hW => ?_)
  refine lv_dup hx hb dX0_init_37 rfl ?_
  refine zw_new S hW zC_X2 q352 q353 q107 (Nat.le_of_ble_eq_true rfl) (Nat.le_of_ble_eq_true rfl) dX0_init_38 h (fun Z_22 a_23 h H hW => ?_)
  refine lv_dup hx hb dX0_init_41 rfl ?_
  obtain ⟨Z_26, h_24, h⟩ := bnd_some h
  refine d_callI (As := []) (rest := [.ref a_23, .ref a_21, .ref a_21, .ref a0]) S hW (metX2_init h_24) (cwX2_init_I S.2.2.2.2 q354 ⟨Nat.le_of_ble_eq_true rfl, Nat.le_of_ble_eq_true rfl⟩) rfl hl.1 rfl (Nat.le_of_ble_eq_true rfl) dX0_init_42 ⟨(Nat.le_of_ble_eq_true rfl), (Nat.le_of_ble_eq_true rfl)⟩ rfl (fun H locs hW => ?_)
  obtain ⟨o_29, Z_30, h_27, h⟩ := bnd2_some h
  refine d_callS (As := [.ref a_23]) (rest := [.ref a_21, .ref a_21, .ref a0]) S hW (metX3_whole h_27) (cwX3_whole_S S.2.2.2.2 q450 ⟨Nat.le_of_ble_eq_true rfl, Nat.le_of_ble_eq_true rfl⟩) rfl hl.1 rfl (Nat.le_of_ble_eq_true rfl) dX0_init_45 ⟨(Nat.le_of_ble_eq_true rfl), (Nat.le_of_ble_eq_true rfl)⟩ rfl (fun H locs hW => ?_)
  have h9 := nn_some h
  clear h
  obtain ⟨a_31, rfl, h8⟩ := h9
  have h := h8
  clear h8
  obtain ⟨Z_34, h_32, h⟩ := bnd_some h
  refine d_callI (As := [.ref a_31]) (rest := [.ref a_21, .ref a0]) S hW (metX1_init h_32) (cwX1_init_I S.2.2.2.2 q476 ⟨Nat.le_of_ble_eq_true rfl, Nat.le_of_ble_eq_true rfl⟩) rfl hl.1 rfl (Nat.le_of_ble_eq_true rfl) dX0_init_48 ⟨(Nat.le_of_ble_eq_true rfl), (Nat.le_of_ble_eq_true rfl)⟩ rfl (fun H locs hW => ?_)
  refine zw_putR (o := some a_21) S hW zC_X0 (i := 2) (by decide) (Or.inr ⟨rfl, hnm, rfl, q757⟩) rfl (Or.inl q757) (fun _ h => h) dX0_init_51 h (fun Z_35 h H locs hW => ?_)
  refine lv_aload_n hx hb dX0_init_54 rfl (lv_at hl 0 rfl) ?_
  refine lv_iconst (v := 3) hx hb dX0_init_55 (by decide) ?_
  refine zw_newr (t := 9) (B := 3) S hW q350 (by decide) rfl (by decide) (Nat.le_of_ble_eq_true rfl) (Nat.le_of_ble_eq_true rfl) dX0_init_56 h (fun Z_36 a_37 h H hW => ?_)
  refine zw_putR (o := some a_37) S hW zC_X0 (i := 3) (by decide) (Or.inr ⟨rfl, hnm, rfl, q758⟩) rfl (Or.inl q758) (fun _ h => h) dX0_init_59 h (fun Z_38 h H locs hW => ?_)
  refine lv_aload_n hx hb dX0_init_62 rfl (lv_at hl 0 rfl) ?_
  refine lv_sipush (v := 700) hx hb dX0_init_63 (by decide) ?_
  refine zw_newi (atype := .byte) (t := 1) (N := 700) S hW q239 rfl rfl (fun h => h) (by decide) rfl (by decide) (Nat.le_of_ble_eq_true rfl) (Nat.le_of_ble_eq_true rfl) dX0_init_66 h (fun Z_39 a_40 h H hW => ?_)
  refine zw_putR (o := some a_40) S hW zC_X0 (i := 4) (by decide) (Or.inr ⟨rfl, hnm, rfl, q759⟩) rfl (Or.inl q759) (fun _ h => h) dX0_init_68 h (fun Z_41 h H locs hW => ?_)
  refine lv_aload_n hx hb dX0_init_71 rfl (lv_at hl 0 rfl) ?_
  refine lv_iconst (v := (-1)) hx hb dX0_init_72 (by decide) ?_
  refine zw_putI S hW zC_X0 (i := 7) (by decide) (Or.inl rfl) rfl rfl rfl (Or.inl q762) (fun _ h => h) dX0_init_73 h (fun Z_42 h H locs hW => ?_)
  refine lv_aload_n hx hb dX0_init_76 rfl (lv_at hl 0 rfl) ?_
  refine lv_sipush (v := 144) hx hb dX0_init_77 (by decide) ?_
  refine zw_newi (atype := .int) (t := 0) (N := 144) S hW q245 rfl rfl (fun h => h) (by decide) rfl (by decide) (Nat.le_of_ble_eq_true rfl) (Nat.le_of_ble_eq_true rfl) dX0_init_80 h (fun Z_43 a_44 h H hW => ?_)
  refine zw_putR (o := some a_44) S hW zC_X0 (i := 8) (by decide) (Or.inr ⟨rfl, hnm, rfl, q763⟩) rfl (Or.inl q763) (fun _ h => h) dX0_init_82 h (fun Z_45 h H locs hW => ?_)
  refine lv_iconst (v := 0) hx hb dX0_init_85 (by decide) ?_
  refine lv_istore_n (lv' := [(1, .int 0), (0, .ref a0)]) hx hb dX0_init_86 rfl hl (by decide) rfl (fun ls hl => ?_)
  obtain ⟨Z_57, h_56, h⟩ := bnd_some h
  refine Lp87 a0 145 4950 5 0 Z_45  _ 140 4945 _ _ _ h_56 hW (lv_sub hl [1, 0] rfl) (by omega) (by omega) (by omega) (by omega) ?_
  intro w0 eo H locs ls hW hl
  subst eo
  cases h
  exact d_vret S hr hlk hW (Nat.le_of_ble_eq_true rfl) (Nat.le_of_ble_eq_true rfl) dX0_init_111
def cm_X0_more_J154 (gp : Nat → Nat) (rec : Int32 → Int32 → c_S → Option (Int32 × c_S)) (x0 : Nat) (x2 : Int32) (x3 : Nat) (y4 : Int32) (y5 : Int32) (Z : c_S) : Option (Int32 × c_S) :=
  zK Z x0 0 11 <| bnd (cm_X0_shutsBy gp Z x0 x3 y5 x2) (un2 fun x_45 Z_46 => if x_45 = 0 then (nmI (y5 + 1) fun x_48 => rec y4 x_48 Z_46) else (nmI (y5 + 1) fun x_50 => rec y5 x_50 Z_46))
def cm_X0_more_B97 (gp : Nat → Nat) (x0 : Nat) (x2 : Int32) (x3 : Nat) (rec : Int32 → Int32 → c_S → Option (Int32 × c_S)) (x4 : Int32) (x5 : Int32) (Z : c_S) : Option (Int32 × c_S) :=
  zK Z x3 7 1 <| bnd (cm_X7_many Z x3) (fun x_36 => if ((1 : Int32) <<< (x_36 &&& 31)) ≤ x5 then (some (x4, Z)) else (bnd (cm_J13_bitCount x5) (fun x_40 => if x4 = (-1) then (cm_X0_more_J154 gp rec x0 x2 x3 x4 x5 Z) else (bnd (cm_J13_bitCount x4) (fun x_54 => if x_54 < x_40 then (nmI (x5 + 1) fun x_56 => rec x4 x_56 Z) else (bnd (cm_J13_bitCount x4) (fun x_60 => if x_40 = x_60 then (bnd (cm_X0_isAhead x5 x4) (fun x_64 => if x_64 = 0 then (nmI (x5 + 1) fun x_66 => rec x4 x_66 Z) else (cm_X0_more_J154 gp rec x0 x2 x3 x4 x5 Z))) else (cm_X0_more_J154 gp rec x0 x2 x3 x4 x5 Z))))))))
abbrev cm_X0_more_F97 (gp : Nat → Nat) (x0 : Nat) (x2 : Int32) (x3 : Nat) : (((Int32) × (Int32) × (c_S)) → Option (Int32 × c_S)) → ((Int32) × (Int32) × (c_S)) → Option (Int32 × c_S) := fun rec s => cm_X0_more_B97 gp x0 x2 x3 (fun x4 x5 Z => rec (x4, x5, Z)) s.1 s.2.1 s.2.2
def cm_X0_more_L97 (gp : Nat → Nat) (x0 : Nat) (x2 : Int32) (x3 : Nat) (n : Nat) (x4 : Int32) (x5 : Int32) (Z : c_S) : Option (Int32 × c_S) := lp (cm_X0_more_F97 gp x0 x2 x3) n (x4, x5, Z)
theorem cm_X0_more_L97_s (gp : Nat → Nat) (x0 : Nat) (x2 : Int32) (x3 : Nat) (n : Nat) (x4 : Int32) (x5 : Int32) (Z : c_S) : cm_X0_more_L97 gp x0 x2 x3 (n + 1) x4 x5 Z = cm_X0_more_B97 gp x0 x2 x3 (fun x4 x5 Z => cm_X0_more_L97 gp x0 x2 x3 n x4 x5 Z) x4 x5 Z := lp_s (cm_X0_more_F97 gp x0 x2 x3) n (x4, x5, Z)
def cm_X0_more_J48 (gp : Nat → Nat) (y0 : Nat) (y2 : Int32) (y3 : Nat) (Z : c_S) : Option (Int32 × c_S) :=
  cR Z.Sh y3 7 1 0 fun o_14 => zNl o_14 (some ((-6), Z)) (fun a_15 => zK Z y0 0 11 <| bnd (cm_X0_hasShaft Z y0) (fun x_19 => if x_19 = 0 then (some ((-6), Z)) else (cA Z.Sh y0 0 11 1 fun a_21 => cA Z.Sh a_21 1 20 5 fun a_22 => zK Z a_22 14 3 <| bnd (cm_J2_isEmpty Z a_22) (fun x_26 => if x_26 = 0 then (zK Z y0 0 11 <| bnd (cm_X0_mayHave Z y0 y3) (fun x_31 => if x_31 = 0 then (some ((-7), Z)) else (bnd (cm_X0_more_L97 gp y0 y2 y3 65 (-1) 0 Z) (un2 fun x_70 Z_71 => if x_70 = (-1) then (some ((-1), Z_71)) else (zPI Z_71 y0 0 11 10 x_70 fun Z_73 => bnd (cm_J13_bitCount x_70) (fun x_76 => some (x_76, Z_73))))))) else (some ((-6), Z))))))
def cm_X0_more (gp : Nat → Nat) (Z0 : c_S) (a0 : Nat) (a1 : Int32) (a2 : Int32) : Option (Int32 × c_S) :=
  bnd (cm_X0_isSlot a1) (fun x_3 => if x_3 = 0 then (some ((-2), Z0)) else (bnd (cm_X0_in a2.toInt64 1 30) (fun x_7 => if x_7 = 0 then (some ((-2), Z0)) else (cA Z0.Sh a0 0 11 0 fun a_9 => caR Z0.Sh 7 a_9 a1 fun o_10 => nn o_10 fun a_11 => cR Z0.Sh a_11 7 1 0 fun o_12 => zNl o_12 (cm_X0_more_J48 gp a0 a2 a_11 Z0) (fun a_13 => zK Z0 a_11 7 1 <| bnd (cm_X7_many Z0 a_11) (fun x_80 => if x_80 ≤ 6 then (cm_X0_more_J48 gp a0 a2 a_11 Z0) else (some ((-2), Z0))))))))
abbrev rmX0_more : Room := rmD 10 260 6110 73645
theorem cwX0_isSlot_S {own : String} {R : Room} {s : State} {args : Array Value} {index : Nat} (hts : ∀ w ∈ lw_all, w.before args s = true) (hl : Cond.methodLink own index yX0_isSlot ∈ lw_all) (hR : rmX0_isSlot.frames + 1 ≤ R.frames ∧ 8 + (1 + 11) + rmX0_isSlot.locals ≤ R.locals) : CallB R s args own index yX0_isSlot cX0_isSlot 1 (some .boolean) (ws_ yX0_isSlot cX0_isSlot 1 (some .boolean)) rmX0_isSlot 0 0 1 ∧ (Cond.static yX0_isSlot).before args s = true := va_cwS 1 hts (lw_S hl q146 q105 q147) rfl rfl rfl (by decide +kernel) hR
theorem cwJ2_isEmpty_F {own : String} {R : Room} {s : State} {args : Array Value} {index : Nat} (hts : ∀ w ∈ lw_all, w.before args s = true) (hl : Cond.methodLink own index ⟨"java/util/List", "isEmpty", "()Z"⟩ ∈ lw_all) (hF : va_Fw "java/util/ArrayList" ⟨"java/util/List", "isEmpty", "()Z"⟩ yJ2_isEmpty s) (hR : rmJ2_isEmpty.frames + 1 ≤ R.frames ∧ 8 + (1 + 11) + rmJ2_isEmpty.locals ≤ R.locals) : va_CI R s args own RJ2 index ⟨"java/util/List", "isEmpty", "()Z"⟩ yJ2_isEmpty cJ2_isEmpty 1 (some .boolean) (ws_ yJ2_isEmpty cJ2_isEmpty 1 (some .boolean)) rmJ2_isEmpty 0 0 0 := va_cwF 0 hts (lw_app (by intro w hw; simp only [List.mem_cons, List.not_mem_nil, or_false] at hw; rcases hw with rfl | rfl | rfl | rfl; exact hl; exact q1342; exact q1344; exact q110) (lw_meth q1346)) rfl rfl rfl hF ⟨by decide, by decide, by decide +kernel⟩ hR
theorem cwX0_mayHave_V {own : String} {R : Room} {s : State} {args : Array Value} {index : Nat} (hts : ∀ w ∈ lw_all, w.before args s = true) (hl : Cond.methodLink own index yX0_mayHave ∈ lw_all) (hR : rmX0_mayHave.frames + 1 ≤ R.frames ∧ 8 + (5 + 11) + rmX0_mayHave.locals ≤ R.locals) : CallW R s args own RX0 index yX0_mayHave cX0_mayHave 5 (some .boolean) (ws_ yX0_mayHave cX0_mayHave 5 (some .boolean)) rmX0_mayHave 0 0 1 := cwV 1 hts (lw_V hl q1418 qs50 q105 q1419) rfl rfl rfl (by decide +kernel) hR
theorem cwJ13_bitCount_S {own : String} {R : Room} {s : State} {args : Array Value} {index : Nat} (hts : ∀ w ∈ lw_all, w.before args s = true) (hl : Cond.methodLink own index yJ13_bitCount ∈ lw_all) (hR : rmJ13_bitCount.frames + 1 ≤ R.frames ∧ 8 + (1 + 11) + rmJ13_bitCount.locals ≤ R.locals) : CallB R s args own index yJ13_bitCount cJ13_bitCount 1 (some .int) (ws_ yJ13_bitCount cJ13_bitCount 1 (some .int)) rmJ13_bitCount 0 0 1 ∧ (Cond.static yJ13_bitCount).before args s = true := va_cwS 1 hts (lw_S hl q1426 q134 q1427) rfl rfl rfl (by decide +kernel) hR
theorem cwX0_shutsBy_V {own : String} {R : Room} {s : State} {args : Array Value} {index : Nat} (hts : ∀ w ∈ lw_all, w.before args s = true) (hl : Cond.methodLink own index yX0_shutsBy ∈ lw_all) (hR : rmX0_shutsBy.frames + 1 ≤ R.frames ∧ 8 + (6 + 11) + rmX0_shutsBy.locals ≤ R.locals) : CallW R s args own RX0 index yX0_shutsBy cX0_shutsBy 6 (some .boolean) (ws_ yX0_shutsBy cX0_shutsBy 6 (some .boolean)) rmX0_shutsBy 94 1133 3 := cwV 3 hts (lw_V hl q1436 qs51 q105 q1437) rfl rfl rfl (by decide +kernel) hR
theorem cwX0_isAhead_S {own : String} {R : Room} {s : State} {args : Array Value} {index : Nat} (hts : ∀ w ∈ lw_all, w.before args s = true) (hl : Cond.methodLink own index yX0_isAhead ∈ lw_all) (hR : rmX0_isAhead.frames + 1 ≤ R.frames ∧ 8 + (3 + 11) + rmX0_isAhead.locals ≤ R.locals) : CallB R s args own index yX0_isAhead cX0_isAhead 3 (some .boolean) (ws_ yX0_isAhead cX0_isAhead 3 (some .boolean)) rmX0_isAhead 0 0 2 ∧ (Cond.static yX0_isAhead).before args s = true := va_cwS 2 hts (lw_S hl q1432 q105 q1433) rfl rfl rfl (by decide +kernel) hR
set_option maxHeartbeats 4000000 in
theorem metX0_more {l : Launch} {gp : Nat → Nat} {D : va_G} {K : Nat → ClassId} {Z0 : c_S} {a0 : Nat} {a1 : Int32} {a2 : Int32} {r : Int32} {Z' : c_S} (h : cm_X0_more gp Z0 a0 a1 a2 = some (r, Z')) : Met l yX0_more (ws_ yX0_more cX0_more 7 (some .int)) rmX0_more (z_Pc gp [.ref a0, .int a1, .int a2] D K Z0) (z_Q (.returned (some (.int r))) D K (z_A Z0) Z') 6110 73645 (z_A Z0) := by
  refine d_met rfl (Nat.le_of_ble_eq_true rfl) ?_
  intro p e s m below meth c ls S hr hlk hnm hl hW hsz
  have S : CallFix p m c cX0_more 7 s ([.ref a0, .int a1, .int a2] : List Value).toArray lw_all RX0 := S
  have hx := S.1
  have hb := S.2.1
  have hl : lv_has ls 7 [(0, .ref a0), (1, .int a1), (2, .int a2)] := hl
  have hnm : meth.name = "more" := hnm
  have Lp97 : ∀ (x0 : Nat) (x2 : Int32) (x3 : Nat) (E G : Nat) (n : Nat) (x4 : Int32) (x5 : Int32) (Z : c_S) (out : (Int32 × c_S)) (cells slots : Nat) (H : Heap) (locs : List Loc) (ls : Array Slot), cm_X0_more_L97 gp x0 x2 x3 n x4 x5 Z = some out → z_W gp D K (z_A Z0) s Z H locs → lv_has ls 7 [(0, .ref x0), (2, .int x2), (3, .ref x3), (4, .int x4), (5, .int x5)] → cells + n * 94 ≤ E → slots + n * 1133 ≤ G → E ≤ 6110 → G ≤ 73645 → (∀ (o4 : Int32) (oZ : c_S), out = (o4, oZ) → ∀ (H : Heap) (locs : List Loc) (ls : Array Slot), z_W gp D K (z_A Z0) s oZ H locs → lv_has ls 7 [(0, .ref x0), (4, .int o4)] → W p l e rmX0_more s m ([.ref a0, .int a1, .int a2] : List Value).toArray below meth c H locs E G (MQ below (z_Q (.returned (some (.int r))) D K (z_A Z0) Z') ([.ref a0, .int a1, .int a2] : List Value).toArray s 6110 73645 (z_A Z0)) (F0 m 175 ls [])) → W p l e rmX0_more s m ([.ref a0, .int a1, .int a2] : List Value).toArray below meth c H locs cells slots (MQ below (z_Q (.returned (some (.int r))) D K (z_A Z0) Z') ([.ref a0, .int a1, .int a2] : List Value).toArray s 6110 73645 (z_A Z0)) (F0 m 97 ls []) := by
    intro x0 x2 x3 E G n
    induction n with
    | zero =>
      intro x4 x5 Z out cells slots H locs ls h
      exact (lp_0 h).elim
    | succ n ih =>
      intro x4 x5 Z out cells slots H locs ls h hW hl hcl hsl hE hG k1
      have hcl := nsucc hcl
      have hsl := nsucc hsl
      have J154 : ∀ (y4 : Int32) (y5 : Int32) (Z : c_S) (cells slots : Nat) (H : Heap) (locs : List Loc) (ls : Array Slot), cm_X0_more_J154 gp (fun x4 x5 Z => cm_X0_more_L97 gp x0 x2 x3 n x4 x5 Z) x0 x2 x3 y4 y5 Z = some out → z_W gp D K (z_A Z0) s Z H locs → lv_has ls 7 [(0, .ref x0), (2, .int x2), (3, .ref x3), (4, .int y4), (5, .int y5)] → cells + 94 + n * 94 ≤ E → slots + 1133 + n * 1133 ≤ G → W p l e rmX0_more s m ([.ref a0, .int a1, .int a2] : List Value).toArray below meth c H locs cells slots (MQ below (z_Q (.returned (some (.int r))) D K (z_A Z0) Z') ([.ref a0, .int a1, .int a2] : List Value).toArray s 6110 73645 (z_A Z0)) (F0 m 154 ls []) := by
        intro y4 y5 Z cells slots H locs ls h hW hl hcl hsl
        unfold cm_X0_more_J154 at h
        refine lv_aload_n hx hb dX0_more_154 rfl (lv_at hl 0 rfl) ?_
        refine lv_aload_n hx hb dX0_more_155 rfl (lv_at hl 2 rfl) ?_
        refine lv_iload hx hb dX0_more_156 (lv_at hl 4 rfl) ?_
        refine lv_iload_n hx hb dX0_more_158 rfl (lv_at hl 1 rfl) ?_
        obtain ⟨⟨_, k_42⟩, h⟩ := zK_some h
        obtain ⟨x_45, Z_46, h_43, h⟩ := bnd2_some h
        refine d_callV (As := [.ref x3, .int y5, .int x2]) (rest := []) S hW (metX0_shutsBy h_43) (cwX0_shutsBy_V S.2.2.2.2 q1434 ⟨Nat.le_of_ble_eq_true rfl, Nat.le_of_ble_eq_true rfl⟩) k_42 rfl rfl hl.1 rfl (Nat.le_of_ble_eq_true rfl) dX0_more_159 ⟨(show _ ≤ 6110 from by omega), (show _ ≤ 73645 from by omega)⟩ rfl (fun H locs hW => ?_)
        refine lv_if_eq (tgt := 169) hx hb dX0_more_162 (by decide) (fun c_47 => ?_) (fun c_47 => ?_)
        · have h := if_t h c_47
          obtain ⟨x_48, e_49, h⟩ := nmI_some h
          refine lv_iinc (v := x_48) (lv' := [(5, .int x_48), (0, .ref x0), (2, .int x2), (3, .ref x3), (4, .int y4)]) hx hb dX0_more_169 hl (k := 4) rfl (by rw [e_49]; rfl) (by decide) rfl (fun ls hl => ?_)
          refine lv_goto (tgt := 97) hx hb dX0_more_172 (by decide) ?_
          exact ih y4 x_48 Z_46 out (cells + 94) (slots + 1133) _ _ _ h hW (lv_sub hl [1, 2, 3, 4, 0] rfl) (by omega) (by omega) hE hG k1
        · have h := if_f h c_47
          refine lv_iload hx hb dX0_more_165 (lv_at hl 4 rfl) ?_
          refine lv_istore (lv' := [(4, .int y5), (0, .ref x0), (2, .int x2), (3, .ref x3), (5, .int y5)]) hx hb dX0_more_167 hl (by decide) rfl (fun ls hl => ?_)
          obtain ⟨x_50, e_51, h⟩ := nmI_some h
          refine lv_iinc (v := x_50) (lv' := [(5, .int x_50), (4, .int y5), (0, .ref x0), (2, .int x2), (3, .ref x3)]) hx hb dX0_more_169 hl (k := 4) rfl (by rw [e_51]; rfl) (by decide) rfl (fun ls hl => ?_)
          refine lv_goto (tgt := 97) hx hb dX0_more_172 (by decide) ?_
          exact ih y5 x_50 Z_46 out (cells + 94) (slots + 1133) _ _ _ h hW (lv_sub hl [2, 3, 4, 1, 0] rfl) (by omega) (by omega) hE hG k1
      rw [cm_X0_more_L97_s] at h
      unfold cm_X0_more_B97 at h
      refine lv_iload hx hb dX0_more_97 (lv_at hl 4 rfl) ?_
      refine lv_iconst (v := 1) hx hb dX0_more_99 (by decide) ?_
      refine lv_aload_n hx hb dX0_more_100 rfl (lv_at hl 2 rfl) ?_
      obtain ⟨⟨_, k_33⟩, h⟩ := zK_some h
      obtain ⟨x_36, h_34, h⟩ := bnd_some h
      refine d_callV (As := []) (rest := [.int 1, .int x5]) S hW (metX7_many h_34) (cwX7_many_V S.2.2.2.2 q1412 ⟨Nat.le_of_ble_eq_true rfl, Nat.le_of_ble_eq_true rfl⟩) k_33 rfl rfl hl.1 rfl (Nat.le_of_ble_eq_true rfl) dX0_more_101 ⟨(show _ ≤ 6110 from by omega), (show _ ≤ 73645 from by omega)⟩ rfl (fun H locs hW => ?_)
      refine lv_ishl hx hb dX0_more_104 ?_
      refine lv_icmp_ge (tgt := 175) hx hb dX0_more_105 (by decide) (fun c_37 => ?_) (fun c_37 => ?_)
      · have h := if_t h c_37
        exact W.widen (by omega) (by omega) (k1 _ _ (Option.some.inj h).symm _ _ _ hW (lv_sub hl [0, 3] rfl))
      · have h := if_f h c_37
        refine lv_iload hx hb dX0_more_108 (lv_at hl 4 rfl) ?_
        obtain ⟨x_40, h_38, h⟩ := bnd_some h
        refine d_callS (As := [.int x5]) (rest := []) S hW (metJ13_bitCount h_38) (cwJ13_bitCount_S S.2.2.2.2 q1425 ⟨Nat.le_of_ble_eq_true rfl, Nat.le_of_ble_eq_true rfl⟩) rfl hl.1 rfl (Nat.le_of_ble_eq_true rfl) dX0_more_110 ⟨(show _ ≤ 6110 from by omega), (show _ ≤ 73645 from by omega)⟩ rfl (fun H locs hW => ?_)
        refine lv_istore (lv' := [(6, .int x_40), (0, .ref x0), (2, .int x2), (3, .ref x3), (4, .int x4), (5, .int x5)]) hx hb dX0_more_113 hl (by decide) rfl (fun ls hl => ?_)
        refine lv_iload hx hb dX0_more_115 (lv_at hl 4 rfl) ?_
        refine lv_iconst (v := (-1)) hx hb dX0_more_117 (by decide) ?_
        refine lv_icmp_eq (tgt := 154) hx hb dX0_more_118 (by decide) (fun c_41 => ?_) (fun c_41 => ?_)
        · have h := if_t h c_41
          exact J154 x4 x5 Z cells slots _ _ _ h hW (lv_sub hl [1, 2, 3, 4, 5] rfl) (by omega) (by omega)
        · have h := if_f h c_41
          refine lv_iload hx hb dX0_more_121 (lv_at hl 0 rfl) ?_
          refine lv_iload hx hb dX0_more_123 (lv_at hl 4 rfl) ?_
          obtain ⟨x_54, h_52, h⟩ := bnd_some h
          refine d_callS (As := [.int x4]) (rest := [.int x_40]) S hW (metJ13_bitCount h_52) (cwJ13_bitCount_S S.2.2.2.2 q1425 ⟨Nat.le_of_ble_eq_true rfl, Nat.le_of_ble_eq_true rfl⟩) rfl hl.1 rfl (Nat.le_of_ble_eq_true rfl) dX0_more_125 ⟨(show _ ≤ 6110 from by omega), (show _ ≤ 73645 from by omega)⟩ rfl (fun H locs hW => ?_)
          refine lv_icmp_gt (tgt := 169) hx hb dX0_more_128 (by decide) (fun c_55 => ?_) (fun c_55 => ?_)
          · have h := if_t h c_55
            obtain ⟨x_56, e_57, h⟩ := nmI_some h
            refine lv_iinc (v := x_56) (lv' := [(5, .int x_56), (6, .int x_40), (0, .ref x0), (2, .int x2), (3, .ref x3), (4, .int x4)]) hx hb dX0_more_169 hl (k := 5) rfl (by rw [e_57]; rfl) (by decide) rfl (fun ls hl => ?_)
            refine lv_goto (tgt := 97) hx hb dX0_more_172 (by decide) ?_
            exact ih x4 x_56 Z out cells slots _ _ _ h hW (lv_sub hl [2, 3, 4, 5, 0] rfl) (by omega) (by omega) hE hG k1
          · have h := if_f h c_55
            refine lv_iload hx hb dX0_more_131 (lv_at hl 0 rfl) ?_
            refine lv_iload hx hb dX0_more_133 (lv_at hl 4 rfl) ?_
            obtain ⟨x_60, h_58, h⟩ := bnd_some h
            refine d_callS (As := [.int x4]) (rest := [.int x_40]) S hW (metJ13_bitCount h_58) (cwJ13_bitCount_S S.2.2.2.2 q1425 ⟨Nat.le_of_ble_eq_true rfl, Nat.le_of_ble_eq_true rfl⟩) rfl hl.1 rfl (Nat.le_of_ble_eq_true rfl) dX0_more_135 ⟨(show _ ≤ 6110 from by omega), (show _ ≤ 73645 from by omega)⟩ rfl (fun H locs hW => ?_)
            refine lv_icmp_ne (tgt := 154) hx hb dX0_more_138 (by decide) (fun c_61 => ?_) (fun c_61 => ?_)
            · have h := if_f h c_61
              exact J154 x4 x5 Z cells slots _ _ _ h hW (lv_sub hl [1, 2, 3, 4, 5] rfl) (by omega) (by omega)
            · have h := if_t h c_61
              refine lv_iload hx hb dX0_more_141 (lv_at hl 5 rfl) ?_
              refine lv_iload hx hb dX0_more_143 (lv_at hl 4 rfl) ?_
              obtain ⟨x_64, h_62, h⟩ := bnd_some h
              refine d_callS (As := [.int x5, .int x4]) (rest := []) S hW (metX0_isAhead h_62) (cwX0_isAhead_S S.2.2.2.2 q1431 ⟨Nat.le_of_ble_eq_true rfl, Nat.le_of_ble_eq_true rfl⟩) rfl hl.1 rfl (Nat.le_of_ble_eq_true rfl) dX0_more_145 ⟨(show _ ≤ 6110 from by omega), (show _ ≤ 73645 from by omega)⟩ rfl (fun H locs hW => ?_)
              refine lv_if_ne (tgt := 154) hx hb dX0_more_148 (by decide) (fun c_65 => ?_) (fun c_65 => ?_)
              · have h := if_f h c_65
                exact J154 x4 x5 Z cells slots _ _ _ h hW (lv_sub hl [1, 2, 3, 4, 5] rfl) (by omega) (by omega)
              · have h := if_t h c_65
                refine lv_goto (tgt := 169) hx hb dX0_more_151 (by decide) ?_
                obtain ⟨x_66, e_67, h⟩ := nmI_some h
                refine lv_iinc (v := x_66) (lv' := [(5, .int x_66), (6, .int x_40), (0, .ref x0), (2, .int x2), (3, .ref x3), (4, .int x4)]) hx hb dX0_more_169 hl (k := 5) rfl (by rw [e_67]; rfl) (by decide) rfl (fun ls hl => ?_)
                refine lv_goto (tgt := 97) hx hb dX0_more_172 (by decide) ?_
                exact ih x4 x_66 Z out cells slots _ _ _ h hW (lv_sub hl [2, 3, 4, 5, 0] rfl) (by omega) (by omega) hE hG k1
  have J48 : ∀ (y0 : Nat) (y2 : Int32) (y3 : Nat) (Z : c_S) (cells slots : Nat) (H : Heap) (locs : List Loc) (ls : Array Slot), cm_X0_more_J48 gp y0 y2 y3 Z = some (r, Z') → z_W gp D K (z_A Z0) s Z H locs → lv_has ls 7 [(0, .ref y0), (2, .int y2), (3, .ref y3)] → cells + 6110 ≤ 6110 → slots + 73645 ≤ 73645 → W p l e rmX0_more s m ([.ref a0, .int a1, .int a2] : List Value).toArray below meth c H locs cells slots (MQ below (z_Q (.returned (some (.int r))) D K (z_A Z0) Z') ([.ref a0, .int a1, .int a2] : List Value).toArray s 6110 73645 (z_A Z0)) (F0 m 48 ls []) := by
    intro y0 y2 y3 Z cells slots H locs ls h hW hl hcl hsl
    unfold cm_X0_more_J48 at h
    refine lv_aload_n hx hb dX0_more_48 rfl (lv_at hl 2 rfl) ?_
    refine zw_getR S hW zC_X7 (i := 0) (by decide) (Or.inr ⟨_, nestW_in q750 rfl⟩) (fun _ h => h) dX0_more_49 h (fun o_14 h => ?_)
    refine z_ifnull (tgt := 77) hx hb dX0_more_52 (by decide) h (fun eo h9 => ?_) (fun a_15 eo h9 => ?_)
    · subst eo; have h := h9; clear h9
      refine lv_bipush (v := (-6)) hx hb dX0_more_77 (by decide) ?_
      cases h
      exact d_iret S hr hlk hW (show _ ≤ 6110 from by omega) (show _ ≤ 73645 from by omega) dX0_more_79
    · subst eo; have h := h9; clear h9
      refine lv_aload_n hx hb dX0_more_55 rfl (lv_at hl 0 rfl) ?_
      obtain ⟨⟨_, k_16⟩, h⟩ := zK_some h
      obtain ⟨x_19, h_17, h⟩ := bnd_some h
      refine d_callV (As := []) (rest := []) S hW (metX0_hasShaft h_17) (cwX0_hasShaft_V S.2.2.2.2 q1226 ⟨Nat.le_of_ble_eq_true rfl, Nat.le_of_ble_eq_true rfl⟩) k_16 rfl rfl hl.1 rfl (Nat.le_of_ble_eq_true rfl) dX0_more_56 ⟨(show _ ≤ 6110 from by omega), (show _ ≤ 73645 from by omega)⟩ rfl (fun H locs hW => ?_)
      refine lv_if_eq (tgt := 77) hx hb dX0_more_59 (by decide) (fun c_20 => ?_) (fun c_20 => ?_)
      · have h := if_t h c_20
        refine lv_bipush (v := (-6)) hx hb dX0_more_77 (by decide) ?_
        cases h
        exact d_iret S hr hlk hW (show _ ≤ 6110 from by omega) (show _ ≤ 73645 from by omega) dX0_more_79
      · have h := if_f h c_20
        refine lv_aload_n hx hb dX0_more_62 rfl (lv_at hl 0 rfl) ?_
        refine zw_getA S hW zC_X0 (i := 1) (by decide) (Or.inl q756) (fun _ h => h) dX0_more_63 h (fun a_21 h => ?_)
        refine zw_getA S hW zC_X1 (i := 5) (by decide) (Or.inr ⟨_, nestW_in q676 rfl⟩) (fun _ h => h) dX0_more_66 h (fun a_22 h => ?_)
        obtain ⟨⟨_, k_23⟩, h⟩ := zK_some h
        obtain ⟨x_26, h_24, h⟩ := bnd_some h
        refine d_callF (As := []) (rest := []) S hW (metJ2_isEmpty h_24) (cwJ2_isEmpty_F S.2.2.2.2 q1339 (hW.1.2.2.2.2.1.2.2.2.2.2.2.1 _ (List.mem_of_getElem? (i := 4) rfl)) ⟨Nat.le_of_ble_eq_true rfl, Nat.le_of_ble_eq_true rfl⟩) k_23 rfl rfl hl.1 rfl (Nat.le_of_ble_eq_true rfl) dX0_more_69 ⟨(show _ ≤ 6110 from by omega), (show _ ≤ 73645 from by omega)⟩ rfl (fun H locs hW => ?_)
        refine lv_if_eq (tgt := 80) hx hb dX0_more_74 (by decide) (fun c_27 => ?_) (fun c_27 => ?_)
        · have h := if_t h c_27
          refine lv_aload_n hx hb dX0_more_80 rfl (lv_at hl 0 rfl) ?_
          refine lv_aload_n hx hb dX0_more_81 rfl (lv_at hl 2 rfl) ?_
          obtain ⟨⟨_, k_28⟩, h⟩ := zK_some h
          obtain ⟨x_31, h_29, h⟩ := bnd_some h
          refine d_callV (As := [.ref y3]) (rest := []) S hW (metX0_mayHave h_29) (cwX0_mayHave_V S.2.2.2.2 q1416 ⟨Nat.le_of_ble_eq_true rfl, Nat.le_of_ble_eq_true rfl⟩) k_28 rfl rfl hl.1 rfl (Nat.le_of_ble_eq_true rfl) dX0_more_82 ⟨(show _ ≤ 6110 from by omega), (show _ ≤ 73645 from by omega)⟩ rfl (fun H locs hW => ?_)
          refine lv_if_ne (tgt := 91) hx hb dX0_more_85 (by decide) (fun c_32 => ?_) (fun c_32 => ?_)
          · have h := if_f h c_32
            refine lv_iconst (v := (-1)) hx hb dX0_more_91 (by decide) ?_
            refine lv_istore (lv' := [(4, .int (-1)), (0, .ref y0), (2, .int y2), (3, .ref y3)]) hx hb dX0_more_92 hl (by decide) rfl (fun ls hl => ?_)
            refine lv_iconst (v := 0) hx hb dX0_more_94 (by decide) ?_
            refine lv_istore (lv' := [(5, .int 0), (4, .int (-1)), (0, .ref y0), (2, .int y2), (3, .ref y3)]) hx hb dX0_more_95 hl (by decide) rfl (fun ls hl => ?_)
            obtain ⟨x_70, Z_71, h_69, h⟩ := bnd2_some h
            refine Lp97 y0 y2 y3 (cells + 6110) (slots + 73645) 65 (-1) 0 Z  _ cells slots _ _ _ h_69 hW (lv_sub hl [2, 3, 4, 1, 0] rfl) (by omega) (by omega) (by omega) (by omega) ?_
            intro w0 w1 eo H locs ls hW hl
            cases eo
            refine lv_iload hx hb dX0_more_175 (lv_at hl 1 rfl) ?_
            refine lv_iconst (v := (-1)) hx hb dX0_more_177 (by decide) ?_
            refine lv_icmp_ne (tgt := 183) hx hb dX0_more_178 (by decide) (fun c_72 => ?_) (fun c_72 => ?_)
            · have h := if_f h c_72
              refine lv_aload_n hx hb dX0_more_183 rfl (lv_at hl 0 rfl) ?_
              refine lv_iload hx hb dX0_more_184 (lv_at hl 1 rfl) ?_
              refine zw_putI S hW zC_X0 (i := 10) (by decide) (Or.inl rfl) rfl rfl rfl (Or.inl q765) (fun _ h => h) dX0_more_186 h (fun Z_73 h H locs hW => ?_)
              refine lv_iload hx hb dX0_more_189 (lv_at hl 1 rfl) ?_
              obtain ⟨x_76, h_74, h⟩ := bnd_some h
              refine d_callS (As := [.int x_70]) (rest := []) S hW (metJ13_bitCount h_74) (cwJ13_bitCount_S S.2.2.2.2 q1425 ⟨Nat.le_of_ble_eq_true rfl, Nat.le_of_ble_eq_true rfl⟩) rfl hl.1 rfl (Nat.le_of_ble_eq_true rfl) dX0_more_191 ⟨(show _ ≤ 6110 from by omega), (show _ ≤ 73645 from by omega)⟩ rfl (fun H locs hW => ?_)
              cases h
              exact d_iret S hr hlk hW (show _ ≤ 6110 from by omega) (show _ ≤ 73645 from by omega) dX0_more_194
            · have h := if_t h c_72
              refine lv_iconst (v := (-1)) hx hb dX0_more_181 (by decide) ?_
              cases h
              exact d_iret S hr hlk hW (show _ ≤ 6110 from by omega) (show _ ≤ 73645 from by omega) dX0_more_182
          · have h := if_t h c_32
            refine lv_bipush (v := (-7)) hx hb dX0_more_88 (by decide) ?_
            cases h
            exact d_iret S hr hlk hW (show _ ≤ 6110 from by omega) (show _ ≤ 73645 from by omega) dX0_more_90
        · have h := if_f h c_27
          refine lv_bipush (v := (-6)) hx hb dX0_more_77 (by decide) ?_
          cases h
          exact d_iret S hr hlk hW (show _ ≤ 6110 from by omega) (show _ ≤ 73645 from by omega) dX0_more_79
  unfold cm_X0_more at h
  refine lv_iload_n hx hb dX0_more_0 rfl (lv_at hl 1 rfl) ?_
  obtain ⟨x_3, h_1, h⟩ := bnd_some h
  refine d_callS (As := [.int a1]) (rest := []) S hW (metX0_isSlot h_1) (cwX0_isSlot_S S.2.2.2.2 q145 ⟨Nat.le_of_ble_eq_true rfl, Nat.le_of_ble_eq_true rfl⟩) rfl hl.1 rfl (Nat.le_of_ble_eq_true rfl) dX0_more_1 ⟨(Nat.le_of_ble_eq_true rfl), (Nat.le_of_ble_eq_true rfl)⟩ rfl (fun H locs hW => ?_)
  refine lv_if_eq (tgt := 19) hx hb dX0_more_4 (by decide) (fun c_4 => ?_) (fun c_4 => ?_)
  · have h := if_t h c_4
    refine lv_bipush (v := (-2)) hx hb dX0_more_19 (by decide) ?_
    cases h
    exact d_iret S hr hlk hW (Nat.le_of_ble_eq_true rfl) (Nat.le_of_ble_eq_true rfl) dX0_more_21
  · have h := if_f h c_4
    refine lv_iload_n hx hb dX0_more_7 rfl (lv_at hl 2 rfl) ?_
    refine lv_i2l (v := a2.toInt64) hx hb dX0_more_8 rfl ?_
    refine lv_lconst (v := 1) hx hb dX0_more_9 (by decide) ?_
    refine lv_ldc2 (v := 30) hx hb S.2.2.2.1 (S.2.2.2.2 _ q1411) dX0_more_10 ?_
    obtain ⟨x_7, h_5, h⟩ := bnd_some h
    refine d_callS (As := [.long a2.toInt64, .long 1, .long 30]) (rest := []) S hW (metX0_in h_5) (cwX0_in_S S.2.2.2.2 q149 ⟨Nat.le_of_ble_eq_true rfl, Nat.le_of_ble_eq_true rfl⟩) rfl hl.1 rfl (Nat.le_of_ble_eq_true rfl) dX0_more_13 ⟨(Nat.le_of_ble_eq_true rfl), (Nat.le_of_ble_eq_true rfl)⟩ rfl (fun H locs hW => ?_)
    refine lv_if_ne (tgt := 22) hx hb dX0_more_16 (by decide) (fun c_8 => ?_) (fun c_8 => ?_)
    · have h := if_f h c_8
      refine lv_aload_n hx hb dX0_more_22 rfl (lv_at hl 0 rfl) ?_
      refine zw_getA S hW zC_X0 (i := 0) (by decide) (Or.inl q754) (fun _ h => h) dX0_more_23 h (fun a_9 h => ?_)
      refine lv_iload_n hx hb dX0_more_26 rfl (lv_at hl 1 rfl) ?_
      refine zw_aald (t := 7) S hW rfl dX0_more_27 h (fun o_10 h => ?_)
      have h9 := nn_some h
      clear h
      obtain ⟨a_11, rfl, h8⟩ := h9
      have h := h8
      clear h8
      refine lv_astore_n (lv' := [(3, .ref a_11), (0, .ref a0), (1, .int a1), (2, .int a2)]) hx hb dX0_more_28 rfl hl (by decide) rfl (fun ls hl => ?_)
      refine lv_aload_n hx hb dX0_more_29 rfl (lv_at hl 0 rfl) ?_
      refine zw_getR S hW zC_X7 (i := 0) (by decide) (Or.inr ⟨_, nestW_in q750 rfl⟩) (fun _ h => h) dX0_more_30 h (fun o_12 h => ?_)
      refine z_ifnull (tgt := 48) hx hb dX0_more_33 (by decide) h (fun eo h9 => ?_) (fun a_13 eo h9 => ?_)
      · subst eo; have h := h9; clear h9
        exact J48 a0 a2 a_11 Z0 0 0 _ _ _ h hW (lv_sub hl [1, 3, 0] rfl) (by omega) (by omega)
      · subst eo; have h := h9; clear h9
        refine lv_aload_n hx hb dX0_more_36 rfl (lv_at hl 0 rfl) ?_
        obtain ⟨⟨_, k_77⟩, h⟩ := zK_some h
        obtain ⟨x_80, h_78, h⟩ := bnd_some h
        refine d_callV (As := []) (rest := []) S hW (metX7_many h_78) (cwX7_many_V S.2.2.2.2 q1412 ⟨Nat.le_of_ble_eq_true rfl, Nat.le_of_ble_eq_true rfl⟩) k_77 rfl rfl hl.1 rfl (Nat.le_of_ble_eq_true rfl) dX0_more_37 ⟨(Nat.le_of_ble_eq_true rfl), (Nat.le_of_ble_eq_true rfl)⟩ rfl (fun H locs hW => ?_)
        refine lv_bipush (v := 6) hx hb dX0_more_40 (by decide) ?_
        refine lv_icmp_le (tgt := 48) hx hb dX0_more_42 (by decide) (fun c_81 => ?_) (fun c_81 => ?_)
        · have h := if_t h c_81
          exact J48 a0 a2 a_11 Z0 0 0 _ _ _ h hW (lv_sub hl [1, 3, 0] rfl) (by omega) (by omega)
        · have h := if_f h c_81
          refine lv_bipush (v := (-2)) hx hb dX0_more_45 (by decide) ?_
          cases h
          exact d_iret S hr hlk hW (Nat.le_of_ble_eq_true rfl) (Nat.le_of_ble_eq_true rfl) dX0_more_47
    · have h := if_t h c_8
      refine lv_bipush (v := (-2)) hx hb dX0_more_19 (by decide) ?_
      cases h
      exact d_iret S hr hlk hW (Nat.le_of_ble_eq_true rfl) (Nat.le_of_ble_eq_true rfl) dX0_more_21
