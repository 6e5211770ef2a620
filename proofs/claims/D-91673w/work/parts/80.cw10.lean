/-! walks of the component: X1_isShut X12_holds X3_number_2 X3_lay X3_stream X3_shaft J2_add_2 X0_shut X0_pump X1_isOpenDug -/
set_option maxRecDepth 100000
def cm_X1_isShut (Z0 : c_S) (a0 : Nat) : Option (Int32 × c_S) :=
  zK Z0 a0 1 20 <| bnd (cm_X1_way Z0 a0) (un2 fun x_4 Z_5 => if x_4 = (-1) then (some (1, Z_5)) else (some (0, Z_5)))
abbrev rmX1_isShut : Room := rmD 4 94 0 0
set_option maxHeartbeats 4000000 in
theorem metX1_isShut {l : Launch} {gp : Nat → Nat} {D : va_G} {K : Nat → ClassId} {Z0 : c_S} {a0 : Nat} {r : Int32} {Z' : c_S} (h : cm_X1_isShut Z0 a0 = some (r, Z')) : Met l yX1_isShut (ws_ yX1_isShut cX1_isShut 1 (some .boolean)) rmX1_isShut (z_Pc gp [.ref a0] D K Z0) (z_Q (.returned (some (.int r))) D K (z_A Z0) Z') 0 0 (z_A Z0) := by
  refine d_met rfl (Nat.le_of_ble_eq_true rfl) ?_
  intro p e s m below meth c ls S hr hlk hnm hl hW hsz
  have S : CallFix p m c cX1_isShut 1 s ([.ref a0] : List Value).toArray lw_all RX1 := S
  have hx := S.1
  have hb := S.2.1
  have hl : lv_has ls 1 [(0, .ref a0)] := hl
  have hnm : meth.name = "isShut" := hnm
  unfold cm_X1_isShut at h
  refine lv_aload_n hx hb dX1_isShut_0 rfl (lv_at hl 0 rfl) ?_
  obtain ⟨⟨_, k_1⟩, h⟩ := zK_some h
  obtain ⟨x_4, Z_5, h_2, h⟩ := bnd2_some h
  refine d_callV (As := []) (rest := []) S hW (metX1_way h_2) (cwX1_way_V S.2.2.2.2 q1160 ⟨Nat.le_of_ble_eq_true rfl, Nat.le_of_ble_eq_true rfl⟩) k_1 rfl rfl hl.1 rfl (Nat.le_of_ble_eq_true rfl) dX1_isShut_1 ⟨(Nat.le_of_ble_eq_true rfl), (Nat.le_of_ble_eq_true rfl)⟩ rfl (fun H locs hW => ?_)
  refine lv_iconst (v := (-1)) hx hb dX1_isShut_4 (by decide) ?_
  refine lv_icmp_ne (tgt := 12) hx hb dX1_isShut_5 (by decide) (fun c_6 => ?_) (fun c_6 => ?_)
  · have h := if_f h c_6
    refine lv_iconst (v := 0) hx hb dX1_isShut_12 (by decide) ?_
    cases h
    exact d_zret S hr hlk rfl hW (Nat.le_of_ble_eq_true rfl) (Nat.le_of_ble_eq_true rfl) dX1_isShut_13
  · have h := if_t h c_6
    refine lv_iconst (v := 1) hx hb dX1_isShut_8 (by decide) ?_
    refine lv_goto (tgt := 13) hx hb dX1_isShut_9 (by decide) ?_
    cases h
    exact d_zret S hr hlk rfl hW (Nat.le_of_ble_eq_true rfl) (Nat.le_of_ble_eq_true rfl) dX1_isShut_13
def cm_X12_holds (Z0 : c_S) (a0 : Nat) (a1 : Nat) : Option (Int32 × c_S) :=
  cA Z0.Sh a1 0 11 1 fun a_1 => cA Z0.Sh a_1 1 20 0 fun a_2 => zK Z0 a_2 2 13 <| bnd (cm_X2_hasShaft Z0 a_2) (fun x_6 => if x_6 = 0 then (some (0, Z0)) else (cA Z0.Sh a1 0 11 1 fun a_8 => zK Z0 a_8 1 20 <| bnd (cm_X1_isShut Z0 a_8) (un2 fun x_12 Z_13 => if x_12 = 0 then (some (0, Z_13)) else (some (1, Z_13)))))
abbrev rmX12_holds : Room := rmD 5 114 0 0
theorem cwX1_isShut_V {own : String} {R : Room} {s : State} {args : Array Value} {index : Nat} (hts : ∀ w ∈ lw_all, w.before args s = true) (hl : Cond.methodLink own index yX1_isShut ∈ lw_all) (hR : rmX1_isShut.frames + 1 ≤ R.frames ∧ 8 + (1 + 11) + rmX1_isShut.locals ≤ R.locals) : CallW R s args own RX1 index yX1_isShut cX1_isShut 1 (some .boolean) (ws_ yX1_isShut cX1_isShut 1 (some .boolean)) rmX1_isShut 0 0 0 := cwV 0 hts (lw_V hl q1157 q1158 q106 q1159) rfl rfl rfl (by decide +kernel) hR
set_option maxHeartbeats 4000000 in
theorem metX12_holds {l : Launch} {gp : Nat → Nat} {D : va_G} {K : Nat → ClassId} {Z0 : c_S} {a0 : Nat} {a1 : Nat} {r : Int32} {Z' : c_S} (h : cm_X12_holds Z0 a0 a1 = some (r, Z')) : Met l yX12_holds (ws_ yX12_holds cX12_holds 2 (some .boolean)) rmX12_holds (z_Pc gp [.ref a0, .ref a1] D K Z0) (z_Q (.returned (some (.int r))) D K (z_A Z0) Z') 0 0 (z_A Z0) := by
  refine d_met rfl (Nat.le_of_ble_eq_true rfl) ?_
  intro p e s m below meth c ls S hr hlk hnm hl hW hsz
  have S : CallFix p m c cX12_holds 2 s ([.ref a0, .ref a1] : List Value).toArray lw_all RX12 := S
  have hx := S.1
  have hb := S.2.1
  have hl : lv_has ls 2 [(0, .ref a0), (1, .ref a1)] := hl
  have hnm : meth.name = "holds" := hnm
  unfold cm_X12_holds at h
  refine lv_aload_n hx hb dX12_holds_0 rfl (lv_at hl 1 rfl) ?_
  refine zw_getA S hW zC_X0 (i := 1) (by decide) (Or.inr ⟨_, nestW_in q755 rfl⟩) (fun _ h => h) dX12_holds_1 h (fun a_1 h => ?_)
  refine zw_getA S hW zC_X1 (i := 0) (by decide) (Or.inr ⟨_, nestW_in q666 rfl⟩) (fun _ h => h) dX12_holds_4 h (fun a_2 h => ?_)
  obtain ⟨⟨_, k_3⟩, h⟩ := zK_some h
  obtain ⟨x_6, h_4, h⟩ := bnd_some h
  refine d_callV (As := []) (rest := []) S hW (metX2_hasShaft h_4) (cwX2_hasShaft_V S.2.2.2.2 q1371 ⟨Nat.le_of_ble_eq_true rfl, Nat.le_of_ble_eq_true rfl⟩) k_3 rfl rfl hl.1 rfl (Nat.le_of_ble_eq_true rfl) dX12_holds_7 ⟨(Nat.le_of_ble_eq_true rfl), (Nat.le_of_ble_eq_true rfl)⟩ rfl (fun H locs hW => ?_)
  refine lv_if_eq (tgt := 27) hx hb dX12_holds_10 (by decide) (fun c_7 => ?_) (fun c_7 => ?_)
  · have h := if_t h c_7
    refine lv_iconst (v := 0) hx hb dX12_holds_27 (by decide) ?_
    cases h
    exact d_zret S hr hlk rfl hW (Nat.le_of_ble_eq_true rfl) (Nat.le_of_ble_eq_true rfl) dX12_holds_28
  · have h := if_f h c_7
    refine lv_aload_n hx hb dX12_holds_13 rfl (lv_at hl 1 rfl) ?_
    refine zw_getA S hW zC_X0 (i := 1) (by decide) (Or.inr ⟨_, nestW_in q755 rfl⟩) (fun _ h => h) dX12_holds_14 h (fun a_8 h => ?_)
    obtain ⟨⟨_, k_9⟩, h⟩ := zK_some h
    obtain ⟨x_12, Z_13, h_10, h⟩ := bnd2_some h
    refine d_callV (As := []) (rest := []) S hW (metX1_isShut h_10) (cwX1_isShut_V S.2.2.2.2 q1372 ⟨Nat.le_of_ble_eq_true rfl, Nat.le_of_ble_eq_true rfl⟩) k_9 rfl rfl hl.1 rfl (Nat.le_of_ble_eq_true rfl) dX12_holds_17 ⟨(Nat.le_of_ble_eq_true rfl), (Nat.le_of_ble_eq_true rfl)⟩ rfl (fun H locs hW => ?_)
    refine lv_if_eq (tgt := 27) hx hb dX12_holds_20 (by decide) (fun c_14 => ?_) (fun c_14 => ?_)
    · have h := if_t h c_14
      refine lv_iconst (v := 0) hx hb dX12_holds_27 (by decide) ?_
      cases h
      exact d_zret S hr hlk rfl hW (Nat.le_of_ble_eq_true rfl) (Nat.le_of_ble_eq_true rfl) dX12_holds_28
    · have h := if_f h c_14
      refine lv_iconst (v := 1) hx hb dX12_holds_23 (by decide) ?_
      refine lv_goto (tgt := 28) hx hb dX12_holds_24 (by decide) ?_
      cases h
      exact d_zret S hr hlk rfl hW (Nat.le_of_ble_eq_true rfl) (Nat.le_of_ble_eq_true rfl) dX12_holds_28
def cm_X3_number_2 (gp : Nat → Nat) (Z0 : c_S) (a0 : Nat) (a1 : Nat) (a2 : Int32) (a3 : Int32) : Option ((Int32 × c_S) ⊕ (Nat × c_S)) :=
  zK Z0 a0 3 11 <| bnd (cm_X3_word gp Z0 a0 a1) (cs2 (fun Z_4 => zK Z_4 a0 3 11 <| bnd (cm_X3_number gp Z_4 a0 a2 a3) (cs2 (un2 fun x_11 Z_12 => some (.inl (x_11, Z_12))) (un2 fun x_13 Z_14 => some (.inr (x_13, Z_14))))) (un2 fun x_5 Z_6 => some (.inr (x_5, Z_6))))
abbrev rmX3_number_2 : Room := rmD 7 186 3 24
set_option maxHeartbeats 4000000 in
theorem metX3_number_2 {l : Launch} {gp : Nat → Nat} {D : va_G} {K : Nat → ClassId} {Z0 : c_S} {a0 : Nat} {a1 : Nat} {a2 : Int32} {a3 : Int32} {Out : ((Int32 × c_S) ⊕ (Nat × c_S))} (h : cm_X3_number_2 gp Z0 a0 a1 a2 a3 = some Out) : MetT l yX3_number_2 (ws_ yX3_number_2 cX3_number_2 4 (some .int)) rmX3_number_2 (z_Pc gp [.ref a0, .ref a1, .int a2, .int a3] D K Z0) (z_Q (oI Out) D K (z_A Z0) (oIs Out)) 3 24 (z_A Z0) := by
  refine d_metT rfl (Nat.le_of_ble_eq_true rfl) ?_
  intro p e s m below meth c ls S hr hlk hnm hne hl hW hsz
  have S : CallFix p m c cX3_number_2 4 s ([.ref a0, .ref a1, .int a2, .int a3] : List Value).toArray lw_all RX3 := S
  have hx := S.1
  have hb := S.2.1
  have hl : lv_has ls 4 [(0, .ref a0), (1, .ref a1), (2, .int a2), (3, .int a3)] := hl
  have hnm : meth.name = "number" := hnm
  unfold cm_X3_number_2 at h
  refine lv_aload_n hx hb dX3_number_2_0 rfl (lv_at hl 0 rfl) ?_
  refine lv_aload_n hx hb dX3_number_2_1 rfl (lv_at hl 1 rfl) ?_
  obtain ⟨⟨_, k_1⟩, h⟩ := zK_some h
  obtain ⟨q_7, h_2, h⟩ := bnd_some h
  have h9 := cs2_some h
  clear h
  rcases h9 with ⟨_, rfl, h⟩ | ⟨_, rfl, h⟩
  · rename_i Z_4
    refine d_callVTr (As := [.ref a1]) (rest := []) S hW (metX3_word h_2) (cwX3_word_V S.2.2.2.2 q991 ⟨Nat.le_of_ble_eq_true rfl, Nat.le_of_ble_eq_true rfl⟩) k_1 rfl rfl hl.1 rfl (Nat.le_of_ble_eq_true rfl) dX3_number_2_2 ⟨(Nat.le_of_ble_eq_true rfl), (Nat.le_of_ble_eq_true rfl)⟩ rfl (fun H locs hW => ?_)
    refine lv_aload_n hx hb dX3_number_2_5 rfl (lv_at hl 0 rfl) ?_
    refine lv_iload_n hx hb dX3_number_2_6 rfl (lv_at hl 2 rfl) ?_
    refine lv_iload_n hx hb dX3_number_2_7 rfl (lv_at hl 3 rfl) ?_
    obtain ⟨⟨_, k_8⟩, h⟩ := zK_some h
    obtain ⟨q_15, h_9, h⟩ := bnd_some h
    have h9 := cs2_some h
    clear h
    rcases h9 with ⟨_, rfl, h⟩ | ⟨_, rfl, h⟩
    · have h9 := un2_some h
      clear h
      obtain ⟨x_11, Z_12, rfl, h⟩ := h9
      refine d_callVTr (As := [.int a2, .int a3]) (rest := []) S hW (metX3_number h_9) (cwX3_number_V S.2.2.2.2 q981 ⟨Nat.le_of_ble_eq_true rfl, Nat.le_of_ble_eq_true rfl⟩) k_8 rfl rfl hl.1 rfl (Nat.le_of_ble_eq_true rfl) dX3_number_2_8 ⟨(Nat.le_of_ble_eq_true rfl), (Nat.le_of_ble_eq_true rfl)⟩ rfl (fun H locs hW => ?_)
      cases h
      exact W.toT (d_iret S hr hlk hW (Nat.le_of_ble_eq_true rfl) (Nat.le_of_ble_eq_true rfl) dX3_number_2_11)
    · have h9 := un2_some h
      clear h
      obtain ⟨x_13, Z_14, rfl, h⟩ := h9
      refine d_callVTt (As := [.int a2, .int a3]) (rest := []) S hW (metX3_number h_9) (cwX3_number_V S.2.2.2.2 q981 ⟨Nat.le_of_ble_eq_true rfl, Nat.le_of_ble_eq_true rfl⟩) k_8 rfl rfl hl.1 rfl (Nat.le_of_ble_eq_true rfl) dX3_number_2_8 ⟨(Nat.le_of_ble_eq_true rfl), (Nat.le_of_ble_eq_true rfl)⟩ (fun H locs hW => ?_)
      cases h
      exact d_leave hlk hne hW (Nat.le_of_ble_eq_true rfl) (Nat.le_of_ble_eq_true rfl)
  · have h9 := un2_some h
    clear h
    obtain ⟨x_5, Z_6, rfl, h⟩ := h9
    refine d_callVTt (As := [.ref a1]) (rest := []) S hW (metX3_word h_2) (cwX3_word_V S.2.2.2.2 q991 ⟨Nat.le_of_ble_eq_true rfl, Nat.le_of_ble_eq_true rfl⟩) k_1 rfl rfl hl.1 rfl (Nat.le_of_ble_eq_true rfl) dX3_number_2_2 ⟨(Nat.le_of_ble_eq_true rfl), (Nat.le_of_ble_eq_true rfl)⟩ (fun H locs hW => ?_)
    cases h
    exact d_leave hlk hne hW (Nat.le_of_ble_eq_true rfl) (Nat.le_of_ble_eq_true rfl)
def cm_X3_lay_B59 (gp : Nat → Nat) (x1 : Nat) (x2 : Int32) (x4 : Int32) (x5 : Int32) (x6 : Int32) (x7 : Int32) (rec : Int32 → c_S → Option (c_S)) (x8 : Int32) (Z : c_S) : Option (c_S) :=
  if x4 < x8 then (some Z) else (cA Z.Sh x1 2 13 1 fun a_43 => zsI Z 0 a_43 ((12 * x7) + x8) x6 fun Z_44 => nmI (x8 + 1) fun x_45 => rec x_45 Z_44)
abbrev cm_X3_lay_F59 (gp : Nat → Nat) (x1 : Nat) (x2 : Int32) (x4 : Int32) (x5 : Int32) (x6 : Int32) (x7 : Int32) : (((Int32) × (c_S)) → Option (c_S)) → ((Int32) × (c_S)) → Option (c_S) := fun rec s => cm_X3_lay_B59 gp x1 x2 x4 x5 x6 x7 (fun x8 Z => rec (x8, Z)) s.1 s.2
def cm_X3_lay_L59 (gp : Nat → Nat) (x1 : Nat) (x2 : Int32) (x4 : Int32) (x5 : Int32) (x6 : Int32) (x7 : Int32) (n : Nat) (x8 : Int32) (Z : c_S) : Option (c_S) := lp (cm_X3_lay_F59 gp x1 x2 x4 x5 x6 x7) n (x8, Z)
theorem cm_X3_lay_L59_s (gp : Nat → Nat) (x1 : Nat) (x2 : Int32) (x4 : Int32) (x5 : Int32) (x6 : Int32) (x7 : Int32) (n : Nat) (x8 : Int32) (Z : c_S) : cm_X3_lay_L59 gp x1 x2 x4 x5 x6 x7 (n + 1) x8 Z = cm_X3_lay_B59 gp x1 x2 x4 x5 x6 x7 (fun x8 Z => cm_X3_lay_L59 gp x1 x2 x4 x5 x6 x7 n x8 Z) x8 Z := lp_s (cm_X3_lay_F59 gp x1 x2 x4 x5 x6 x7) n (x8, Z)
def cm_X3_lay_B49 (gp : Nat → Nat) (x1 : Nat) (x2 : Int32) (x4 : Int32) (x5 : Int32) (x6 : Int32) (rec : Int32 → c_S → Option (c_S)) (x7 : Int32) (Z : c_S) : Option (c_S) :=
  if x5 < x7 then (some Z) else (bnd (cm_X3_lay_L59 gp x1 x2 x4 x5 x6 x7 1000 x2 Z) (fun Z_49 => nmI (x7 + 1) fun x_50 => rec x_50 Z_49))
abbrev cm_X3_lay_F49 (gp : Nat → Nat) (x1 : Nat) (x2 : Int32) (x4 : Int32) (x5 : Int32) (x6 : Int32) : (((Int32) × (c_S)) → Option (c_S)) → ((Int32) × (c_S)) → Option (c_S) := fun rec s => cm_X3_lay_B49 gp x1 x2 x4 x5 x6 (fun x7 Z => rec (x7, Z)) s.1 s.2
def cm_X3_lay_L49 (gp : Nat → Nat) (x1 : Nat) (x2 : Int32) (x4 : Int32) (x5 : Int32) (x6 : Int32) (n : Nat) (x7 : Int32) (Z : c_S) : Option (c_S) := lp (cm_X3_lay_F49 gp x1 x2 x4 x5 x6) n (x7, Z)
theorem cm_X3_lay_L49_s (gp : Nat → Nat) (x1 : Nat) (x2 : Int32) (x4 : Int32) (x5 : Int32) (x6 : Int32) (n : Nat) (x7 : Int32) (Z : c_S) : cm_X3_lay_L49 gp x1 x2 x4 x5 x6 (n + 1) x7 Z = cm_X3_lay_B49 gp x1 x2 x4 x5 x6 (fun x7 Z => cm_X3_lay_L49 gp x1 x2 x4 x5 x6 n x7 Z) x7 Z := lp_s (cm_X3_lay_F49 gp x1 x2 x4 x5 x6) n (x7, Z)
def cm_X3_lay (gp : Nat → Nat) (Z0 : c_S) (a0 : Nat) (a1 : Nat) : Option ((c_S) ⊕ (Nat × c_S)) :=
  zK Z0 a0 3 11 <| bnd (cm_X3_number gp Z0 a0 0 11) (cs2 (un2 fun x_4 Z_5 => zK Z_5 a0 3 11 <| bnd (cm_X3_number gp Z_5 a0 0 11) (cs2 (un2 fun x_12 Z_13 => zK Z_13 a0 3 11 <| bnd (cm_X3_number_2 gp Z_13 a0 (gp 17) x_4 11) (cs2 (un2 fun x_20 Z_21 => zK Z_21 a0 3 11 <| bnd (cm_X3_number gp Z_21 a0 x_12 11) (cs2 (un2 fun x_28 Z_29 => zK Z_29 a0 3 11 <| bnd (cm_X3_number_2 gp Z_29 a0 (gp 4) 0 3) (cs2 (un2 fun x_36 Z_37 => bnd (cm_X3_lay_L49 gp a1 x_4 x_20 x_28 x_36 1000 x_12 Z_37) (fun Z_54 => some (.inl Z_54))) (un2 fun x_38 Z_39 => some (.inr (x_38, Z_39))))) (un2 fun x_30 Z_31 => some (.inr (x_30, Z_31))))) (un2 fun x_22 Z_23 => some (.inr (x_22, Z_23))))) (un2 fun x_14 Z_15 => some (.inr (x_14, Z_15))))) (un2 fun x_6 Z_7 => some (.inr (x_6, Z_7))))
abbrev rmX3_lay : Room := rmD 8 209 12 96
theorem cwX3_number_2_V {own : String} {R : Room} {s : State} {args : Array Value} {index : Nat} (hts : ∀ w ∈ lw_all, w.before args s = true) (hl : Cond.methodLink own index yX3_number_2 ∈ lw_all) (hR : rmX3_number_2.frames + 1 ≤ R.frames ∧ 8 + (4 + 11) + rmX3_number_2.locals ≤ R.locals) : CallW R s args own RX3 index yX3_number_2 cX3_number_2 4 (some .int) (ws_ yX3_number_2 cX3_number_2 4 (some .int)) rmX3_number_2 3 24 3 := cwV 3 hts (lw_V hl q989 qs18 q111 q990) rfl rfl rfl (by decide +kernel) hR
set_option maxHeartbeats 4000000 in
theorem metX3_lay {l : Launch} {gp : Nat → Nat} {D : va_G} {K : Nat → ClassId} {Z0 : c_S} {a0 : Nat} {a1 : Nat} {Out : ((c_S) ⊕ (Nat × c_S))} (h : cm_X3_lay gp Z0 a0 a1 = some Out) : MetT l yX3_lay (ws_ yX3_lay cX3_lay 9 (none)) rmX3_lay (z_Pc gp [.ref a0, .ref a1] D K Z0) (z_Q (oV Out) D K (z_A Z0) (oVs Out)) 12 96 (z_A Z0) := by
  refine d_metT rfl (Nat.le_of_ble_eq_true rfl) ?_
  intro p e s m below meth c ls S hr hlk hnm hne hl hW hsz
  have S : CallFix p m c cX3_lay 9 s ([.ref a0, .ref a1] : List Value).toArray lw_all RX3 := S
  have hx := S.1
  have hb := S.2.1
  have hl : lv_has ls 9 [(0, .ref a0), (1, .ref a1)] := hl
  have hnm : meth.name = "lay" := hnm
  have Lp59 : ∀ (x1 : Nat) (x2 : Int32) (x4 : Int32) (x5 : Int32) (x6 : Int32) (x7 : Int32) (E G : Nat) (n : Nat) (x8 : Int32) (Z : c_S) (out : (c_S)) (cells slots : Nat) (H : Heap) (locs : List Loc) (ls : Array Slot), cm_X3_lay_L59 gp x1 x2 x4 x5 x6 x7 n x8 Z = some out → z_W gp D K (z_A Z0) s Z H locs → lv_has ls 9 [(1, .ref x1), (2, .int x2), (4, .int x4), (5, .int x5), (6, .int x6), (7, .int x7), (8, .int x8)] → cells + n * 0 ≤ E → slots + n * 0 ≤ G → E ≤ 12 → G ≤ 96 → (∀ (oZ : c_S), out = oZ → ∀ (H : Heap) (locs : List Loc) (ls : Array Slot), z_W gp D K (z_A Z0) s oZ H locs → lv_has ls 9 [(1, .ref x1), (2, .int x2), (4, .int x4), (5, .int x5), (6, .int x6), (7, .int x7)] → W p l e rmX3_lay s m ([.ref a0, .ref a1] : List Value).toArray below meth c H locs E G (MQT below (z_Q (oV Out) D K (z_A Z0) (oVs Out)) ([.ref a0, .ref a1] : List Value).toArray s 12 96 (z_A Z0)) (F0 m 87 ls [])) → W p l e rmX3_lay s m ([.ref a0, .ref a1] : List Value).toArray below meth c H locs cells slots (MQT below (z_Q (oV Out) D K (z_A Z0) (oVs Out)) ([.ref a0, .ref a1] : List Value).toArray s 12 96 (z_A Z0)) (F0 m 59 ls []) := by
    intro x1 x2 x4 x5 x6 x7 E G n
    induction n with
    | zero =>
      intro x8 Z out cells slots H locs ls h
      exact (lp_0 h).elim
    | succ n ih =>
      intro x8 Z out cells slots H locs ls h hW hl hcl hsl hE hG k1
      rw [cm_X3_lay_L59_s] at h
      unfold cm_X3_lay_B59 at h
      refine lv_iload hx hb dX3_lay_59 (lv_at hl 6 rfl) ?_
      refine lv_iload hx hb dX3_lay_61 (lv_at hl 2 rfl) ?_
      refine lv_icmp_gt (tgt := 87) hx hb dX3_lay_63 (by decide) (fun c_42 => ?_) (fun c_42 => ?_)
      · have h := if_t h c_42
        exact W.widen (by omega) (by omega) (k1 _ (Option.some.inj h).symm _ _ _ hW (lv_sub hl [0, 1, 2, 3, 4, 5] rfl))
      · have h := if_f h c_42
        refine lv_aload_n hx hb dX3_lay_66 rfl (lv_at hl 0 rfl) ?_
        refine zw_getA S hW zC_X2 (i := 1) (by decide) (Or.inr ⟨_, nestW_in q392 rfl⟩) (fun _ h => h) dX3_lay_67 h (fun a_43 h => ?_)
        refine lv_bipush (v := 12) hx hb dX3_lay_70 (by decide) ?_
        refine lv_iload hx hb dX3_lay_72 (lv_at hl 5 rfl) ?_
        refine lv_imul hx hb dX3_lay_74 ?_
        refine lv_iload hx hb dX3_lay_75 (lv_at hl 6 rfl) ?_
        refine lv_iadd hx hb dX3_lay_77 ?_
        refine lv_iload hx hb dX3_lay_78 (lv_at hl 4 rfl) ?_
        refine zw_iast S hW dX3_lay_80 h (fun Z_44 h H locs hW => ?_)
        obtain ⟨x_45, e_46, h⟩ := nmI_some h
        refine lv_iinc (v := x_45) (lv' := [(8, .int x_45), (1, .ref x1), (2, .int x2), (4, .int x4), (5, .int x5), (6, .int x6), (7, .int x7)]) hx hb dX3_lay_81 hl (k := 6) rfl (by rw [e_46]; rfl) (by decide) rfl (fun ls hl => ?_)
        refine lv_goto (tgt := 59) hx hb dX3_lay_84 (by decide) ?_
        exact ih x_45 Z_44 out cells slots _ _ _ h hW (lv_sub hl [1, 2, 3, 4, 5, 6, 0] rfl) (by omega) (by omega) hE hG k1
  have Lp49 : ∀ (x1 : Nat) (x2 : Int32) (x4 : Int32) (x5 : Int32) (x6 : Int32) (E G : Nat) (n : Nat) (x7 : Int32) (Z : c_S) (out : (c_S)) (cells slots : Nat) (H : Heap) (locs : List Loc) (ls : Array Slot), cm_X3_lay_L49 gp x1 x2 x4 x5 x6 n x7 Z = some out → z_W gp D K (z_A Z0) s Z H locs → lv_has ls 9 [(1, .ref x1), (2, .int x2), (4, .int x4), (5, .int x5), (6, .int x6), (7, .int x7)] → cells + n * 0 ≤ E → slots + n * 0 ≤ G → E ≤ 12 → G ≤ 96 → (∀ (oZ : c_S), out = oZ → ∀ (H : Heap) (locs : List Loc) (ls : Array Slot), z_W gp D K (z_A Z0) s oZ H locs → lv_has ls 9 [] → W p l e rmX3_lay s m ([.ref a0, .ref a1] : List Value).toArray below meth c H locs E G (MQT below (z_Q (oV Out) D K (z_A Z0) (oVs Out)) ([.ref a0, .ref a1] : List Value).toArray s 12 96 (z_A Z0)) (F0 m 93 ls [])) → W p l e rmX3_lay s m ([.ref a0, .ref a1] : List Value).toArray below meth c H locs cells slots (MQT below (z_Q (oV Out) D K (z_A Z0) (oVs Out)) ([.ref a0, .ref a1] : List Value).toArray s 12 96 (z_A Z0)) (F0 m 49 ls []) := by
    intro x1 x2 x4 x5 x6 E G n
    induction n with
    | zero =>
      intro x7 Z out cells slots H locs ls h
      exact (lp_0 h).elim
    | succ n ih =>
      intro x7 Z out cells slots H locs ls h hW hl hcl hsl hE hG k1
      rw [cm_X3_lay_L49_s] at h
      unfold cm_X3_lay_B49 at h
      refine lv_iload hx hb dX3_lay_49 (lv_at hl 5 rfl) ?_
      refine lv_iload hx hb dX3_lay_51 (lv_at hl 3 rfl) ?_
      refine lv_icmp_gt (tgt := 93) hx hb dX3_lay_53 (by decide) (fun c_41 => ?_) (fun c_41 => ?_)
      · have h := if_t h c_41
        exact W.widen (by omega) (by omega) (k1 _ (Option.some.inj h).symm _ _ _ hW (lv_sub hl [] rfl))
      · have h := if_f h c_41
        refine lv_iload_n hx hb dX3_lay_56 rfl (lv_at hl 1 rfl) ?_
        refine lv_istore (lv' := [(8, .int x2), (1, .ref x1), (2, .int x2), (4, .int x4), (5, .int x5), (6, .int x6), (7, .int x7)]) hx hb dX3_lay_57 hl (by decide) rfl (fun ls hl => ?_)
        obtain ⟨Z_49, h_48, h⟩ := bnd_some h
        refine Lp59 x1 x2 x4 x5 x6 x7 cells slots 1000 x2 Z  _ cells slots _ _ _ h_48 hW (lv_sub hl [1, 2, 3, 4, 5, 6, 0] rfl) (by omega) (by omega) (by omega) (by omega) ?_
        intro w0 eo H locs ls hW hl
        subst eo
        obtain ⟨x_50, e_51, h⟩ := nmI_some h
        refine lv_iinc (v := x_50) (lv' := [(7, .int x_50), (1, .ref x1), (2, .int x2), (4, .int x4), (5, .int x5), (6, .int x6)]) hx hb dX3_lay_87 hl (k := 5) rfl (by rw [e_51]; rfl) (by decide) rfl (fun ls hl => ?_)
        refine lv_goto (tgt := 49) hx hb dX3_lay_90 (by decide) ?_
        exact ih x_50 Z_49 out cells slots _ _ _ h hW (lv_sub hl [1, 2, 3, 4, 5, 0] rfl) (by omega) (by omega) hE hG k1
  unfold cm_X3_lay at h
  refine lv_aload_n hx hb dX3_lay_0 rfl (lv_at hl 0 rfl) ?_
  refine lv_iconst (v := 0) hx hb dX3_lay_1 (by decide) ?_
  refine lv_bipush (v := 11) hx hb dX3_lay_2 (by decide) ?_
  obtain ⟨⟨_, k_1⟩, h⟩ := zK_some h
  obtain ⟨q_8, h_2, h⟩ := bnd_some h
  have h9 := cs2_some h
  clear h
  rcases h9 with ⟨_, rfl, h⟩ | ⟨_, rfl, h⟩
  · have h9 := un2_some h
    clear h
    obtain ⟨x_4, Z_5, rfl, h⟩ := h9
    refine d_callVTr (As := [.int 0, .int 11]) (rest := []) S hW (metX3_number h_2) (cwX3_number_V S.2.2.2.2 q981 ⟨Nat.le_of_ble_eq_true rfl, Nat.le_of_ble_eq_true rfl⟩) k_1 rfl rfl hl.1 rfl (Nat.le_of_ble_eq_true rfl) dX3_lay_4 ⟨(Nat.le_of_ble_eq_true rfl), (Nat.le_of_ble_eq_true rfl)⟩ rfl (fun H locs hW => ?_)
    refine lv_istore_n (lv' := [(2, .int x_4), (0, .ref a0), (1, .ref a1)]) hx hb dX3_lay_7 rfl hl (by decide) rfl (fun ls hl => ?_)
    refine lv_aload_n hx hb dX3_lay_8 rfl (lv_at hl 1 rfl) ?_
    refine lv_iconst (v := 0) hx hb dX3_lay_9 (by decide) ?_
    refine lv_bipush (v := 11) hx hb dX3_lay_10 (by decide) ?_
    obtain ⟨⟨_, k_9⟩, h⟩ := zK_some h
    obtain ⟨q_16, h_10, h⟩ := bnd_some h
    have h9 := cs2_some h
    clear h
    rcases h9 with ⟨_, rfl, h⟩ | ⟨_, rfl, h⟩
    · have h9 := un2_some h
      clear h
      obtain ⟨x_12, Z_13, rfl, h⟩ := h9
      refine d_callVTr (As := [.int 0, .int 11]) (rest := []) S hW (metX3_number h_10) (cwX3_number_V S.2.2.2.2 q981 ⟨Nat.le_of_ble_eq_true rfl, Nat.le_of_ble_eq_true rfl⟩) k_9 rfl rfl hl.1 rfl (Nat.le_of_ble_eq_true rfl) dX3_lay_12 ⟨(Nat.le_of_ble_eq_true rfl), (Nat.le_of_ble_eq_true rfl)⟩ rfl (fun H locs hW => ?_)
      refine lv_istore_n (lv' := [(3, .int x_12), (2, .int x_4), (0, .ref a0), (1, .ref a1)]) hx hb dX3_lay_15 rfl hl (by decide) rfl (fun ls hl => ?_)
      refine lv_aload_n hx hb dX3_lay_16 rfl (lv_at hl 2 rfl) ?_
      refine g_ldcS (w := 17) (tx := "to") S hW.1 (List.mem_of_getElem? (i := 17) rfl) dX3_lay_17 ?_
      refine lv_iload_n hx hb dX3_lay_19 rfl (lv_at hl 1 rfl) ?_
      refine lv_bipush (v := 11) hx hb dX3_lay_20 (by decide) ?_
      obtain ⟨⟨_, k_17⟩, h⟩ := zK_some h
      obtain ⟨q_24, h_18, h⟩ := bnd_some h
      have h9 := cs2_some h
      clear h
      rcases h9 with ⟨_, rfl, h⟩ | ⟨_, rfl, h⟩
      · have h9 := un2_some h
        clear h
        obtain ⟨x_20, Z_21, rfl, h⟩ := h9
        refine d_callVTr (As := [.ref (gp 17), .int x_4, .int 11]) (rest := []) S hW (metX3_number_2 h_18) (cwX3_number_2_V S.2.2.2.2 q987 ⟨Nat.le_of_ble_eq_true rfl, Nat.le_of_ble_eq_true rfl⟩) k_17 rfl rfl hl.1 rfl (Nat.le_of_ble_eq_true rfl) dX3_lay_22 ⟨(Nat.le_of_ble_eq_true rfl), (Nat.le_of_ble_eq_true rfl)⟩ rfl (fun H locs hW => ?_)
        refine lv_istore (lv' := [(4, .int x_20), (3, .int x_12), (2, .int x_4), (0, .ref a0), (1, .ref a1)]) hx hb dX3_lay_25 hl (by decide) rfl (fun ls hl => ?_)
        refine lv_aload_n hx hb dX3_lay_27 rfl (lv_at hl 3 rfl) ?_
        refine lv_iload_n hx hb dX3_lay_28 rfl (lv_at hl 1 rfl) ?_
        refine lv_bipush (v := 11) hx hb dX3_lay_29 (by decide) ?_
        obtain ⟨⟨_, k_25⟩, h⟩ := zK_some h
        obtain ⟨q_32, h_26, h⟩ := bnd_some h
        have h9 := cs2_some h
        clear h
        rcases h9 with ⟨_, rfl, h⟩ | ⟨_, rfl, h⟩
        · have h9 := un2_some h
          clear h
          obtain ⟨x_28, Z_29, rfl, h⟩ := h9
          refine d_callVTr (As := [.int x_12, .int 11]) (rest := []) S hW (metX3_number h_26) (cwX3_number_V S.2.2.2.2 q981 ⟨Nat.le_of_ble_eq_true rfl, Nat.le_of_ble_eq_true rfl⟩) k_25 rfl rfl hl.1 rfl (Nat.le_of_ble_eq_true rfl) dX3_lay_31 ⟨(Nat.le_of_ble_eq_true rfl), (Nat.le_of_ble_eq_true rfl)⟩ rfl (fun H locs hW => ?_)
          refine lv_istore (lv' := [(5, .int x_28), (4, .int x_20), (3, .int x_12), (2, .int x_4), (0, .ref a0), (1, .ref a1)]) hx hb dX3_lay_34 hl (by decide) rfl (fun ls hl => ?_)
          refine lv_aload_n hx hb dX3_lay_36 rfl (lv_at hl 4 rfl) ?_
          refine g_ldcS (w := 4) (tx := "ground") S hW.1 (List.mem_of_getElem? (i := 4) rfl) dX3_lay_37 ?_
          refine lv_iconst (v := 0) hx hb dX3_lay_39 (by decide) ?_
          refine lv_iconst (v := 3) hx hb dX3_lay_40 (by decide) ?_
          obtain ⟨⟨_, k_33⟩, h⟩ := zK_some h
          obtain ⟨q_40, h_34, h⟩ := bnd_some h
          have h9 := cs2_some h
          clear h
          rcases h9 with ⟨_, rfl, h⟩ | ⟨_, rfl, h⟩
          · have h9 := un2_some h
            clear h
            obtain ⟨x_36, Z_37, rfl, h⟩ := h9
            refine d_callVTr (As := [.ref (gp 4), .int 0, .int 3]) (rest := []) S hW (metX3_number_2 h_34) (cwX3_number_2_V S.2.2.2.2 q987 ⟨Nat.le_of_ble_eq_true rfl, Nat.le_of_ble_eq_true rfl⟩) k_33 rfl rfl hl.1 rfl (Nat.le_of_ble_eq_true rfl) dX3_lay_41 ⟨(Nat.le_of_ble_eq_true rfl), (Nat.le_of_ble_eq_true rfl)⟩ rfl (fun H locs hW => ?_)
            refine lv_istore (lv' := [(6, .int x_36), (5, .int x_28), (4, .int x_20), (3, .int x_12), (2, .int x_4), (0, .ref a0), (1, .ref a1)]) hx hb dX3_lay_44 hl (by decide) rfl (fun ls hl => ?_)
            refine lv_iload_n hx hb dX3_lay_46 rfl (lv_at hl 3 rfl) ?_
            refine lv_istore (lv' := [(7, .int x_12), (6, .int x_36), (5, .int x_28), (4, .int x_20), (3, .int x_12), (2, .int x_4), (0, .ref a0), (1, .ref a1)]) hx hb dX3_lay_47 hl (by decide) rfl (fun ls hl => ?_)
            obtain ⟨Z_54, h_53, h⟩ := bnd_some h
            refine Lp49 a1 x_4 x_20 x_28 x_36 12 96 1000 x_12 Z_37  _ 12 96 _ _ _ h_53 hW (lv_sub hl [7, 5, 3, 2, 1, 0] rfl) (by omega) (by omega) (by omega) (by omega) ?_
            intro w0 eo H locs ls hW hl
            subst eo
            cases h
            exact W.toT (d_vret S hr hlk hW (Nat.le_of_ble_eq_true rfl) (Nat.le_of_ble_eq_true rfl) dX3_lay_93)
          · have h9 := un2_some h
            clear h
            obtain ⟨x_38, Z_39, rfl, h⟩ := h9
            refine d_callVTt (As := [.ref (gp 4), .int 0, .int 3]) (rest := []) S hW (metX3_number_2 h_34) (cwX3_number_2_V S.2.2.2.2 q987 ⟨Nat.le_of_ble_eq_true rfl, Nat.le_of_ble_eq_true rfl⟩) k_33 rfl rfl hl.1 rfl (Nat.le_of_ble_eq_true rfl) dX3_lay_41 ⟨(Nat.le_of_ble_eq_true rfl), (Nat.le_of_ble_eq_true rfl)⟩ (fun H locs hW => ?_)
            cases h
            exact d_leave hlk hne hW (Nat.le_of_ble_eq_true rfl) (Nat.le_of_ble_eq_true rfl)
        · have h9 := un2_some h
          clear h
          obtain ⟨x_30, Z_31, rfl, h⟩ := h9
          refine d_callVTt (As := [.int x_12, .int 11]) (rest := []) S hW (metX3_number h_26) (cwX3_number_V S.2.2.2.2 q981 ⟨Nat.le_of_ble_eq_true rfl, Nat.le_of_ble_eq_true rfl⟩) k_25 rfl rfl hl.1 rfl (Nat.le_of_ble_eq_true rfl) dX3_lay_31 ⟨(Nat.le_of_ble_eq_true rfl), (Nat.le_of_ble_eq_true rfl)⟩ (fun H locs hW => ?_)
          cases h
          exact d_leave hlk hne hW (Nat.le_of_ble_eq_true rfl) (Nat.le_of_ble_eq_true rfl)
      · have h9 := un2_some h
        clear h
        obtain ⟨x_22, Z_23, rfl, h⟩ := h9
        refine d_callVTt (As := [.ref (gp 17), .int x_4, .int 11]) (rest := []) S hW (metX3_number_2 h_18) (cwX3_number_2_V S.2.2.2.2 q987 ⟨Nat.le_of_ble_eq_true rfl, Nat.le_of_ble_eq_true rfl⟩) k_17 rfl rfl hl.1 rfl (Nat.le_of_ble_eq_true rfl) dX3_lay_22 ⟨(Nat.le_of_ble_eq_true rfl), (Nat.le_of_ble_eq_true rfl)⟩ (fun H locs hW => ?_)
        cases h
        exact d_leave hlk hne hW (Nat.le_of_ble_eq_true rfl) (Nat.le_of_ble_eq_true rfl)
    · have h9 := un2_some h
      clear h
      obtain ⟨x_14, Z_15, rfl, h⟩ := h9
      refine d_callVTt (As := [.int 0, .int 11]) (rest := []) S hW (metX3_number h_10) (cwX3_number_V S.2.2.2.2 q981 ⟨Nat.le_of_ble_eq_true rfl, Nat.le_of_ble_eq_true rfl⟩) k_9 rfl rfl hl.1 rfl (Nat.le_of_ble_eq_true rfl) dX3_lay_12 ⟨(Nat.le_of_ble_eq_true rfl), (Nat.le_of_ble_eq_true rfl)⟩ (fun H locs hW => ?_)
      cases h
      exact d_leave hlk hne hW (Nat.le_of_ble_eq_true rfl) (Nat.le_of_ble_eq_true rfl)
  · have h9 := un2_some h
    clear h
    obtain ⟨x_6, Z_7, rfl, h⟩ := h9
    refine d_callVTt (As := [.int 0, .int 11]) (rest := []) S hW (metX3_number h_2) (cwX3_number_V S.2.2.2.2 q981 ⟨Nat.le_of_ble_eq_true rfl, Nat.le_of_ble_eq_true rfl⟩) k_1 rfl rfl hl.1 rfl (Nat.le_of_ble_eq_true rfl) dX3_lay_4 ⟨(Nat.le_of_ble_eq_true rfl), (Nat.le_of_ble_eq_true rfl)⟩ (fun H locs hW => ?_)
    cases h
    exact d_leave hlk hne hW (Nat.le_of_ble_eq_true rfl) (Nat.le_of_ble_eq_true rfl)
def cm_X3_stream_J35 (gp : Nat → Nat) (y0 : Nat) (y1 : Nat) (Z : c_S) : Option ((c_S) ⊕ (Nat × c_S)) :=
  zK Z y0 3 11 <| bnd (cm_X3_number gp Z y0 0 11) (cs2 (un2 fun x_6 Z_7 => cA Z_7.Sh y1 2 13 2 fun a_11 => zK Z_7 y0 3 11 <| bnd (cm_X3_number_2 gp Z_7 y0 (gp 19) 0 30) (cs2 (un2 fun x_15 Z_16 => zsI Z_16 0 a_11 x_6 x_15 fun Z_20 => some (.inl Z_20)) (un2 fun x_17 Z_18 => some (.inr (x_17, Z_18))))) (un2 fun x_8 Z_9 => some (.inr (x_8, Z_9))))
def cm_X3_stream (gp : Nat → Nat) (Z0 : c_S) (a0 : Nat) (a1 : Nat) : Option ((c_S) ⊕ (Nat × c_S)) :=
  cI Z0.Sh Z0.V a0 3 11 6 fun x_1 => if x_1 = 2 then (cI Z0.Sh Z0.V a0 3 11 8 fun x_21 => if 12 ≤ x_21 then (cm_X3_stream_J35 gp a0 a1 Z0) else (cA Z0.Sh a1 2 13 2 fun a_23 => cI Z0.Sh Z0.V a0 3 11 8 fun x_24 => caI Z0.Sh Z0.V 0 a_23 x_24 fun x_25 => if x_25 = (-1) then (cm_X3_stream_J35 gp a0 a1 Z0) else (zK Z0 a0 3 11 <| bnd (cm_X3_fails gp Z0 a0 2) (cs2 (fun Z_30 => cm_X3_stream_J35 gp a0 a1 Z_30) (un2 fun x_31 Z_32 => some (.inr (x_31, Z_32))))))) else (cm_X3_stream_J35 gp a0 a1 Z0)
abbrev rmX3_stream : Room := rmD 8 209 6 48
set_option maxHeartbeats 4000000 in
theorem metX3_stream {l : Launch} {gp : Nat → Nat} {D : va_G} {K : Nat → ClassId} {Z0 : c_S} {a0 : Nat} {a1 : Nat} {Out : ((c_S) ⊕ (Nat × c_S))} (h : cm_X3_stream gp Z0 a0 a1 = some Out) : MetT l yX3_stream (ws_ yX3_stream cX3_stream 3 (none)) rmX3_stream (z_Pc gp [.ref a0, .ref a1] D K Z0) (z_Q (oV Out) D K (z_A Z0) (oVs Out)) 6 48 (z_A Z0) := by
  refine d_metT rfl (Nat.le_of_ble_eq_true rfl) ?_
  intro p e s m below meth c ls S hr hlk hnm hne hl hW hsz
  have S : CallFix p m c cX3_stream 3 s ([.ref a0, .ref a1] : List Value).toArray lw_all RX3 := S
  have hx := S.1
  have hb := S.2.1
  have hl : lv_has ls 3 [(0, .ref a0), (1, .ref a1)] := hl
  have hnm : meth.name = "stream" := hnm
  have J35 : ∀ (y0 : Nat) (y1 : Nat) (Z : c_S) (cells slots : Nat) (H : Heap) (locs : List Loc) (ls : Array Slot), cm_X3_stream_J35 gp y0 y1 Z = some Out → z_W gp D K (z_A Z0) s Z H locs → lv_has ls 3 [(0, .ref y0), (1, .ref y1)] → cells + 5 ≤ 6 → slots + 40 ≤ 48 → W p l e rmX3_stream s m ([.ref a0, .ref a1] : List Value).toArray below meth c H locs cells slots (MQT below (z_Q (oV Out) D K (z_A Z0) (oVs Out)) ([.ref a0, .ref a1] : List Value).toArray s 6 48 (z_A Z0)) (F0 m 35 ls []) := by
    intro y0 y1 Z cells slots H locs ls h hW hl hcl hsl
    unfold cm_X3_stream_J35 at h
    refine lv_aload_n hx hb dX3_stream_35 rfl (lv_at hl 0 rfl) ?_
    refine lv_iconst (v := 0) hx hb dX3_stream_36 (by decide) ?_
    refine lv_bipush (v := 11) hx hb dX3_stream_37 (by decide) ?_
    obtain ⟨⟨_, k_3⟩, h⟩ := zK_some h
    obtain ⟨q_10, h_4, h⟩ := bnd_some h
    have h9 := cs2_some h
    clear h
    rcases h9 with ⟨_, rfl, h⟩ | ⟨_, rfl, h⟩
    · have h9 := un2_some h
      clear h
      obtain ⟨x_6, Z_7, rfl, h⟩ := h9
      refine d_callVTr (As := [.int 0, .int 11]) (rest := []) S hW (metX3_number h_4) (cwX3_number_V S.2.2.2.2 q981 ⟨Nat.le_of_ble_eq_true rfl, Nat.le_of_ble_eq_true rfl⟩) k_3 rfl rfl hl.1 rfl (Nat.le_of_ble_eq_true rfl) dX3_stream_39 ⟨(show _ ≤ 6 from by omega), (show _ ≤ 48 from by omega)⟩ rfl (fun H locs hW => ?_)
      refine lv_istore_n (lv' := [(2, .int x_6), (0, .ref y0), (1, .ref y1)]) hx hb dX3_stream_42 rfl hl (by decide) rfl (fun ls hl => ?_)
      refine lv_aload_n hx hb dX3_stream_43 rfl (lv_at hl 2 rfl) ?_
      refine zw_getA S hW zC_X2 (i := 2) (by decide) (Or.inr ⟨_, nestW_in q396 rfl⟩) (fun _ h => h) dX3_stream_44 h (fun a_11 h => ?_)
      refine lv_iload_n hx hb dX3_stream_47 rfl (lv_at hl 0 rfl) ?_
      refine lv_aload_n hx hb dX3_stream_48 rfl (lv_at hl 1 rfl) ?_
      refine g_ldcS (w := 19) (tx := "speed") S hW.1 (List.mem_of_getElem? (i := 19) rfl) dX3_stream_49 ?_
      refine lv_iconst (v := 0) hx hb dX3_stream_51 (by decide) ?_
      refine lv_bipush (v := 30) hx hb dX3_stream_52 (by decide) ?_
      obtain ⟨⟨_, k_12⟩, h⟩ := zK_some h
      obtain ⟨q_19, h_13, h⟩ := bnd_some h
      have h9 := cs2_some h
      clear h
      rcases h9 with ⟨_, rfl, h⟩ | ⟨_, rfl, h⟩
      · have h9 := un2_some h
        clear h
        obtain ⟨x_15, Z_16, rfl, h⟩ := h9
        refine d_callVTr (As := [.ref (gp 19), .int 0, .int 30]) (rest := [.int x_6, .ref a_11]) S hW (metX3_number_2 h_13) (cwX3_number_2_V S.2.2.2.2 q987 ⟨Nat.le_of_ble_eq_true rfl, Nat.le_of_ble_eq_true rfl⟩) k_12 rfl rfl hl.1 rfl (Nat.le_of_ble_eq_true rfl) dX3_stream_54 ⟨(show _ ≤ 6 from by omega), (show _ ≤ 48 from by omega)⟩ rfl (fun H locs hW => ?_)
        refine zw_iast S hW dX3_stream_57 h (fun Z_20 h H locs hW => ?_)
        cases h
        exact W.toT (d_vret S hr hlk hW (show _ ≤ 6 from by omega) (show _ ≤ 48 from by omega) dX3_stream_58)
      · have h9 := un2_some h
        clear h
        obtain ⟨x_17, Z_18, rfl, h⟩ := h9
        refine d_callVTt (As := [.ref (gp 19), .int 0, .int 30]) (rest := [.int x_6, .ref a_11]) S hW (metX3_number_2 h_13) (cwX3_number_2_V S.2.2.2.2 q987 ⟨Nat.le_of_ble_eq_true rfl, Nat.le_of_ble_eq_true rfl⟩) k_12 rfl rfl hl.1 rfl (Nat.le_of_ble_eq_true rfl) dX3_stream_54 ⟨(show _ ≤ 6 from by omega), (show _ ≤ 48 from by omega)⟩ (fun H locs hW => ?_)
        cases h
        exact d_leave hlk hne hW (show _ ≤ 6 from by omega) (show _ ≤ 48 from by omega)
    · have h9 := un2_some h
      clear h
      obtain ⟨x_8, Z_9, rfl, h⟩ := h9
      refine d_callVTt (As := [.int 0, .int 11]) (rest := []) S hW (metX3_number h_4) (cwX3_number_V S.2.2.2.2 q981 ⟨Nat.le_of_ble_eq_true rfl, Nat.le_of_ble_eq_true rfl⟩) k_3 rfl rfl hl.1 rfl (Nat.le_of_ble_eq_true rfl) dX3_stream_39 ⟨(show _ ≤ 6 from by omega), (show _ ≤ 48 from by omega)⟩ (fun H locs hW => ?_)
      cases h
      exact d_leave hlk hne hW (show _ ≤ 6 from by omega) (show _ ≤ 48 from by omega)
  unfold cm_X3_stream at h
  refine lv_aload_n hx hb dX3_stream_0 rfl (lv_at hl 0 rfl) ?_
  refine zw_getI S hW zC_X3 (i := 6) (by decide) (Or.inl q833) (fun _ h => h) dX3_stream_1 h (fun x_1 h => ?_)
  refine lv_iconst (v := 2) hx hb dX3_stream_4 (by decide) ?_
  refine lv_icmp_ne (tgt := 35) hx hb dX3_stream_5 (by decide) (fun c_2 => ?_) (fun c_2 => ?_)
  · have h := if_f h c_2
    exact J35 a0 a1 Z0 0 0 _ _ _ h hW hl (by omega) (by omega)
  · have h := if_t h c_2
    refine lv_aload_n hx hb dX3_stream_8 rfl (lv_at hl 0 rfl) ?_
    refine zw_getI S hW zC_X3 (i := 8) (by decide) (Or.inl q835) (fun _ h => h) dX3_stream_9 h (fun x_21 h => ?_)
    refine lv_bipush (v := 12) hx hb dX3_stream_12 (by decide) ?_
    refine lv_icmp_ge (tgt := 35) hx hb dX3_stream_14 (by decide) (fun c_22 => ?_) (fun c_22 => ?_)
    · have h := if_t h c_22
      exact J35 a0 a1 Z0 0 0 _ _ _ h hW hl (by omega) (by omega)
    · have h := if_f h c_22
      refine lv_aload_n hx hb dX3_stream_17 rfl (lv_at hl 1 rfl) ?_
      refine zw_getA S hW zC_X2 (i := 2) (by decide) (Or.inr ⟨_, nestW_in q396 rfl⟩) (fun _ h => h) dX3_stream_18 h (fun a_23 h => ?_)
      refine lv_aload_n hx hb dX3_stream_21 rfl (lv_at hl 0 rfl) ?_
      refine zw_getI S hW zC_X3 (i := 8) (by decide) (Or.inl q835) (fun _ h => h) dX3_stream_22 h (fun x_24 h => ?_)
      refine zw_iald S hW dX3_stream_25 h (fun x_25 h => ?_)
      refine lv_iconst (v := (-1)) hx hb dX3_stream_26 (by decide) ?_
      refine lv_icmp_eq (tgt := 35) hx hb dX3_stream_27 (by decide) (fun c_26 => ?_) (fun c_26 => ?_)
      · have h := if_t h c_26
        exact J35 a0 a1 Z0 0 0 _ _ _ h hW hl (by omega) (by omega)
      · have h := if_f h c_26
        refine lv_aload_n hx hb dX3_stream_30 rfl (lv_at hl 0 rfl) ?_
        refine lv_iconst (v := 2) hx hb dX3_stream_31 (by decide) ?_
        obtain ⟨⟨_, k_27⟩, h⟩ := zK_some h
        obtain ⟨q_33, h_28, h⟩ := bnd_some h
        have h9 := cs2_some h
        clear h
        rcases h9 with ⟨_, rfl, h⟩ | ⟨_, rfl, h⟩
        · rename_i Z_30
          refine d_callVTr (As := [.int 2]) (rest := []) S hW (metX3_fails h_28) (cwX3_fails_V S.2.2.2.2 q931 ⟨Nat.le_of_ble_eq_true rfl, Nat.le_of_ble_eq_true rfl⟩) k_27 rfl rfl hl.1 rfl (Nat.le_of_ble_eq_true rfl) dX3_stream_32 ⟨(Nat.le_of_ble_eq_true rfl), (Nat.le_of_ble_eq_true rfl)⟩ rfl (fun H locs hW => ?_)
          exact J35 a0 a1 Z_30 1 8 _ _ _ h hW hl (by omega) (by omega)
        · have h9 := un2_some h
          clear h
          obtain ⟨x_31, Z_32, rfl, h⟩ := h9
          refine d_callVTt (As := [.int 2]) (rest := []) S hW (metX3_fails h_28) (cwX3_fails_V S.2.2.2.2 q931 ⟨Nat.le_of_ble_eq_true rfl, Nat.le_of_ble_eq_true rfl⟩) k_27 rfl rfl hl.1 rfl (Nat.le_of_ble_eq_true rfl) dX3_stream_32 ⟨(Nat.le_of_ble_eq_true rfl), (Nat.le_of_ble_eq_true rfl)⟩ (fun H locs hW => ?_)
          cases h
          exact d_leave hlk hne hW (Nat.le_of_ble_eq_true rfl) (Nat.le_of_ble_eq_true rfl)
def cm_X3_shaft (gp : Nat → Nat) (Z0 : c_S) (a0 : Nat) (a1 : Nat) : Option ((c_S) ⊕ (Nat × c_S)) :=
  zK Z0 a0 3 11 <| bnd (cm_X3_number gp Z0 a0 1 10) (cs2 (un2 fun x_4 Z_5 => zK Z_5 a0 3 11 <| bnd (cm_X3_number gp Z_5 a0 1 10) (cs2 (un2 fun x_12 Z_13 => zPI Z_13 a1 2 13 8 x_12 fun Z_17 => zK Z_17 a0 3 11 <| bnd (cm_X3_number_2 gp Z_17 a0 (gp 17) x_4 10) (cs2 (un2 fun x_21 Z_22 => zPI Z_22 a1 2 13 9 x_21 fun Z_26 => cI Z_26.Sh Z_26.V a1 2 13 8 fun x_27 => zK Z_26 a0 3 11 <| bnd (cm_X3_number gp Z_26 a0 x_27 10) (cs2 (un2 fun x_31 Z_32 => zPI Z_32 a1 2 13 10 x_31 fun Z_36 => zPI Z_36 a1 2 13 7 x_4 fun Z_37 => some (.inl Z_37)) (un2 fun x_33 Z_34 => some (.inr (x_33, Z_34))))) (un2 fun x_23 Z_24 => some (.inr (x_23, Z_24))))) (un2 fun x_14 Z_15 => some (.inr (x_14, Z_15))))) (un2 fun x_6 Z_7 => some (.inr (x_6, Z_7))))
abbrev rmX3_shaft : Room := rmD 8 209 9 72
set_option maxHeartbeats 4000000 in
theorem metX3_shaft {l : Launch} {gp : Nat → Nat} {D : va_G} {K : Nat → ClassId} {Z0 : c_S} {a0 : Nat} {a1 : Nat} {Out : ((c_S) ⊕ (Nat × c_S))} (h : cm_X3_shaft gp Z0 a0 a1 = some Out) : MetT l yX3_shaft (ws_ yX3_shaft cX3_shaft 3 (none)) rmX3_shaft (z_Pc gp [.ref a0, .ref a1] D K Z0) (z_Q (oV Out) D K (z_A Z0) (oVs Out)) 9 72 (z_A Z0) := by
  refine d_metT rfl (Nat.le_of_ble_eq_true rfl) ?_
  intro p e s m below meth c ls S hr hlk hnm hne hl hW hsz
  have S : CallFix p m c cX3_shaft 3 s ([.ref a0, .ref a1] : List Value).toArray lw_all RX3 := S
  have hx := S.1
  have hb := S.2.1
  have hl : lv_has ls 3 [(0, .ref a0), (1, .ref a1)] := hl
  have hnm : meth.name = "shaft" := hnm
  unfold cm_X3_shaft at h
  refine lv_aload_n hx hb dX3_shaft_0 rfl (lv_at hl 0 rfl) ?_
  refine lv_iconst (v := 1) hx hb dX3_shaft_1 (by decide) ?_
  refine lv_bipush (v := 10) hx hb dX3_shaft_2 (by decide) ?_
  obtain ⟨⟨_, k_1⟩, h⟩ := zK_some h
  obtain ⟨q_8, h_2, h⟩ := bnd_some h
  have h9 := cs2_some h
  clear h
  rcases h9 with ⟨_, rfl, h⟩ | ⟨_, rfl, h⟩
  · have h9 := un2_some h
    clear h
    obtain ⟨x_4, Z_5, rfl, h⟩ := h9
    refine d_callVTr (As := [.int 1, .int 10]) (rest := []) S hW (metX3_number h_2) (cwX3_number_V S.2.2.2.2 q981 ⟨Nat.le_of_ble_eq_true rfl, Nat.le_of_ble_eq_true rfl⟩) k_1 rfl rfl hl.1 rfl (Nat.le_of_ble_eq_true rfl) dX3_shaft_4 ⟨(Nat.le_of_ble_eq_true rfl), (Nat.le_of_ble_eq_true rfl)⟩ rfl (fun H locs hW => ?_)
    refine lv_istore_n (lv' := [(2, .int x_4), (0, .ref a0), (1, .ref a1)]) hx hb dX3_shaft_7 rfl hl (by decide) rfl (fun ls hl => ?_)
    refine lv_aload_n hx hb dX3_shaft_8 rfl (lv_at hl 2 rfl) ?_
    refine lv_aload_n hx hb dX3_shaft_9 rfl (lv_at hl 1 rfl) ?_
    refine lv_iconst (v := 1) hx hb dX3_shaft_10 (by decide) ?_
    refine lv_bipush (v := 10) hx hb dX3_shaft_11 (by decide) ?_
    obtain ⟨⟨_, k_9⟩, h⟩ := zK_some h
    obtain ⟨q_16, h_10, h⟩ := bnd_some h
    have h9 := cs2_some h
    clear h
    rcases h9 with ⟨_, rfl, h⟩ | ⟨_, rfl, h⟩
    · have h9 := un2_some h
      clear h
      obtain ⟨x_12, Z_13, rfl, h⟩ := h9
      refine d_callVTr (As := [.int 1, .int 10]) (rest := [.ref a1]) S hW (metX3_number h_10) (cwX3_number_V S.2.2.2.2 q981 ⟨Nat.le_of_ble_eq_true rfl, Nat.le_of_ble_eq_true rfl⟩) k_9 rfl rfl hl.1 rfl (Nat.le_of_ble_eq_true rfl) dX3_shaft_13 ⟨(Nat.le_of_ble_eq_true rfl), (Nat.le_of_ble_eq_true rfl)⟩ rfl (fun H locs hW => ?_)
      refine zw_putI S hW zC_X2 (i := 8) (by decide) (Or.inl rfl) rfl rfl rfl (Or.inr ⟨_, nestW_in q413 rfl⟩) (fun _ h => h) dX3_shaft_16 h (fun Z_17 h H locs hW => ?_)
      refine lv_aload_n hx hb dX3_shaft_19 rfl (lv_at hl 2 rfl) ?_
      refine lv_aload_n hx hb dX3_shaft_20 rfl (lv_at hl 1 rfl) ?_
      refine g_ldcS (w := 17) (tx := "to") S hW.1 (List.mem_of_getElem? (i := 17) rfl) dX3_shaft_21 ?_
      refine lv_iload_n hx hb dX3_shaft_23 rfl (lv_at hl 0 rfl) ?_
      refine lv_bipush (v := 10) hx hb dX3_shaft_24 (by decide) ?_
      obtain ⟨⟨_, k_18⟩, h⟩ := zK_some h
      obtain ⟨q_25, h_19, h⟩ := bnd_some h
      have h9 := cs2_some h
      clear h
      rcases h9 with ⟨_, rfl, h⟩ | ⟨_, rfl, h⟩
      · have h9 := un2_some h
        clear h
        obtain ⟨x_21, Z_22, rfl, h⟩ := h9
        refine d_callVTr (As := [.ref (gp 17), .int x_4, .int 10]) (rest := [.ref a1]) S hW (metX3_number_2 h_19) (cwX3_number_2_V S.2.2.2.2 q987 ⟨Nat.le_of_ble_eq_true rfl, Nat.le_of_ble_eq_true rfl⟩) k_18 rfl rfl hl.1 rfl (Nat.le_of_ble_eq_true rfl) dX3_shaft_26 ⟨(Nat.le_of_ble_eq_true rfl), (Nat.le_of_ble_eq_true rfl)⟩ rfl (fun H locs hW => ?_)
        refine zw_putI S hW zC_X2 (i := 9) (by decide) (Or.inl rfl) rfl rfl rfl (Or.inr ⟨_, nestW_in q415 rfl⟩) (fun _ h => h) dX3_shaft_29 h (fun Z_26 h H locs hW => ?_)
        refine lv_aload_n hx hb dX3_shaft_32 rfl (lv_at hl 2 rfl) ?_
        refine lv_aload_n hx hb dX3_shaft_33 rfl (lv_at hl 1 rfl) ?_
        refine lv_aload_n hx hb dX3_shaft_34 rfl (lv_at hl 2 rfl) ?_
        refine zw_getI S hW zC_X2 (i := 8) (by decide) (Or.inr ⟨_, nestW_in q413 rfl⟩) (fun _ h => h) dX3_shaft_35 h (fun x_27 h => ?_)
        refine lv_bipush (v := 10) hx hb dX3_shaft_38 (by decide) ?_
        obtain ⟨⟨_, k_28⟩, h⟩ := zK_some h
        obtain ⟨q_35, h_29, h⟩ := bnd_some h
        have h9 := cs2_some h
        clear h
        rcases h9 with ⟨_, rfl, h⟩ | ⟨_, rfl, h⟩
        · have h9 := un2_some h
          clear h
          obtain ⟨x_31, Z_32, rfl, h⟩ := h9
          refine d_callVTr (As := [.int x_27, .int 10]) (rest := [.ref a1]) S hW (metX3_number h_29) (cwX3_number_V S.2.2.2.2 q981 ⟨Nat.le_of_ble_eq_true rfl, Nat.le_of_ble_eq_true rfl⟩) k_28 rfl rfl hl.1 rfl (Nat.le_of_ble_eq_true rfl) dX3_shaft_40 ⟨(Nat.le_of_ble_eq_true rfl), (Nat.le_of_ble_eq_true rfl)⟩ rfl (fun H locs hW => ?_)
          refine zw_putI S hW zC_X2 (i := 10) (by decide) (Or.inl rfl) rfl rfl rfl (Or.inr ⟨_, nestW_in q417 rfl⟩) (fun _ h => h) dX3_shaft_43 h (fun Z_36 h H locs hW => ?_)
          refine lv_aload_n hx hb dX3_shaft_46 rfl (lv_at hl 2 rfl) ?_
          refine lv_iload_n hx hb dX3_shaft_47 rfl (lv_at hl 0 rfl) ?_
          refine zw_putI S hW zC_X2 (i := 7) (by decide) (Or.inl rfl) rfl rfl rfl (Or.inr ⟨_, nestW_in q411 rfl⟩) (fun _ h => h) dX3_shaft_48 h (fun Z_37 h H locs hW => ?_)
          cases h
          exact W.toT (d_vret S hr hlk hW (Nat.le_of_ble_eq_true rfl) (Nat.le_of_ble_eq_true rfl) dX3_shaft_51)
        · have h9 := un2_some h
          clear h
          obtain ⟨x_33, Z_34, rfl, h⟩ := h9
          refine d_callVTt (As := [.int x_27, .int 10]) (rest := [.ref a1]) S hW (metX3_number h_29) (cwX3_number_V S.2.2.2.2 q981 ⟨Nat.le_of_ble_eq_true rfl, Nat.le_of_ble_eq_true rfl⟩) k_28 rfl rfl hl.1 rfl (Nat.le_of_ble_eq_true rfl) dX3_shaft_40 ⟨(Nat.le_of_ble_eq_true rfl), (Nat.le_of_ble_eq_true rfl)⟩ (fun H locs hW => ?_)
          cases h
          exact d_leave hlk hne hW (Nat.le_of_ble_eq_true rfl) (Nat.le_of_ble_eq_true rfl)
      · have h9 := un2_some h
        clear h
        obtain ⟨x_23, Z_24, rfl, h⟩ := h9
        refine d_callVTt (As := [.ref (gp 17), .int x_4, .int 10]) (rest := [.ref a1]) S hW (metX3_number_2 h_19) (cwX3_number_2_V S.2.2.2.2 q987 ⟨Nat.le_of_ble_eq_true rfl, Nat.le_of_ble_eq_true rfl⟩) k_18 rfl rfl hl.1 rfl (Nat.le_of_ble_eq_true rfl) dX3_shaft_26 ⟨(Nat.le_of_ble_eq_true rfl), (Nat.le_of_ble_eq_true rfl)⟩ (fun H locs hW => ?_)
        cases h
        exact d_leave hlk hne hW (Nat.le_of_ble_eq_true rfl) (Nat.le_of_ble_eq_true rfl)
    · have h9 := un2_some h
      clear h
      obtain ⟨x_14, Z_15, rfl, h⟩ := h9
      refine d_callVTt (As := [.int 1, .int 10]) (rest := [.ref a1]) S hW (metX3_number h_10) (cwX3_number_V S.2.2.2.2 q981 ⟨Nat.le_of_ble_eq_true rfl, Nat.le_of_ble_eq_true rfl⟩) k_9 rfl rfl hl.1 rfl (Nat.le_of_ble_eq_true rfl) dX3_shaft_13 ⟨(Nat.le_of_ble_eq_true rfl), (Nat.le_of_ble_eq_true rfl)⟩ (fun H locs hW => ?_)
      cases h
      exact d_leave hlk hne hW (Nat.le_of_ble_eq_true rfl) (Nat.le_of_ble_eq_true rfl)
  · have h9 := un2_some h
    clear h
    obtain ⟨x_6, Z_7, rfl, h⟩ := h9
    refine d_callVTt (As := [.int 1, .int 10]) (rest := []) S hW (metX3_number h_2) (cwX3_number_V S.2.2.2.2 q981 ⟨Nat.le_of_ble_eq_true rfl, Nat.le_of_ble_eq_true rfl⟩) k_1 rfl rfl hl.1 rfl (Nat.le_of_ble_eq_true rfl) dX3_shaft_4 ⟨(Nat.le_of_ble_eq_true rfl), (Nat.le_of_ble_eq_true rfl)⟩ (fun H locs hW => ?_)
    cases h
    exact d_leave hlk hne hW (Nat.le_of_ble_eq_true rfl) (Nat.le_of_ble_eq_true rfl)
def cm_J2_add_2 (gp : Nat → Nat) (Z0 : c_S) (a0 : Nat) (a1 : Nat) (a2 : Nat) (a3 : Int32) : Option (c_S) :=
  zLen Z0 a2 fun x_1 => if a3 = x_1 then (zK Z0 a0 14 3 <| bnd (cm_J2_grow gp Z0 a0) (un2 fun o_8 Z_9 => nn o_8 fun a_10 => zsR [4, 5, 6, 10] Z_9 5 a_10 a3 (some a1) fun Z_11 => zPI Z_11 a0 14 3 2 (a3 + 1) fun Z_12 => some Z_12)) else (zsR [4, 5, 6, 10] Z0 5 a2 a3 (some a1) fun Z_3 => zPI Z_3 a0 14 3 2 (a3 + 1) fun Z_4 => some Z_4)
abbrev rmJ2_add_2 : Room := rmD 5 147 1 19
theorem cwJ2_grow_V {own : String} {R : Room} {s : State} {args : Array Value} {index : Nat} (hts : ∀ w ∈ lw_all, w.before args s = true) (hl : Cond.methodLink own index yJ2_grow ∈ lw_all) (hR : rmJ2_grow.frames + 1 ≤ R.frames ∧ 8 + (1 + 11) + rmJ2_grow.locals ≤ R.locals) : CallW R s args own RJ2 index yJ2_grow cJ2_grow 1 (some (.array (.object "java/lang/Object"))) (ws_ yJ2_grow cJ2_grow 1 (some (.array (.object "java/lang/Object")))) rmJ2_grow 1 19 0 := cwV 0 hts (lw_V hl q583 qs6 q110 q584) rfl rfl rfl (by decide +kernel) hR
set_option maxHeartbeats 4000000 in
theorem metJ2_add_2 {l : Launch} {gp : Nat → Nat} {D : va_G} {K : Nat → ClassId} {Z0 : c_S} {a0 : Nat} {a1 : Nat} {a2 : Nat} {a3 : Int32} {Z' : c_S} (h : cm_J2_add_2 gp Z0 a0 a1 a2 a3 = some Z') : Met l yJ2_add_2 (ws_ yJ2_add_2 cJ2_add_2 4 (none)) rmJ2_add_2 (z_Pc gp [.ref a0, .ref a1, .ref a2, .int a3] D K Z0) (z_Q (.returned (none)) D K (z_A Z0) Z') 1 19 (z_A Z0) := by
  refine d_met rfl (Nat.le_of_ble_eq_true rfl) ?_
  intro p e s m below meth c ls S hr hlk hnm hl hW hsz
  have S : CallFix p m c cJ2_add_2 4 s ([.ref a0, .ref a1, .ref a2, .int a3] : List Value).toArray lw_all RJ2 := S
  have hx := S.1
  have hb := S.2.1
  have hl : lv_has ls 4 [(0, .ref a0), (1, .ref a1), (2, .ref a2), (3, .int a3)] := hl
  have hnm : meth.name = "add" := hnm
  unfold cm_J2_add_2 at h
  refine lv_iload_n hx hb dJ2_add_2_0 rfl (lv_at hl 3 rfl) ?_
  refine lv_aload_n hx hb dJ2_add_2_1 rfl (lv_at hl 2 rfl) ?_
  refine zw_len S hW dJ2_add_2_2 h (fun x_1 h => ?_)
  refine lv_icmp_ne (tgt := 11) hx hb dJ2_add_2_3 (by decide) (fun c_2 => ?_) (fun c_2 => ?_)
  · have h := if_f h c_2
    refine lv_aload_n hx hb dJ2_add_2_11 rfl (lv_at hl 2 rfl) ?_
    refine lv_iload_n hx hb dJ2_add_2_12 rfl (lv_at hl 3 rfl) ?_
    refine lv_aload_n hx hb dJ2_add_2_13 rfl (lv_at hl 1 rfl) ?_
    refine zw_aast (o := some a1) S hW (t := 5) rfl zal_5 dJ2_add_2_14 h (fun Z_3 h H locs hW => ?_)
    refine lv_aload_n hx hb dJ2_add_2_15 rfl (lv_at hl 0 rfl) ?_
    refine lv_iload_n hx hb dJ2_add_2_16 rfl (lv_at hl 3 rfl) ?_
    refine lv_iconst (v := 1) hx hb dJ2_add_2_17 (by decide) ?_
    refine lv_iadd hx hb dJ2_add_2_18 ?_
    refine zw_putI S hW zC_J2 (i := 2) (by decide) (Or.inl rfl) rfl rfl rfl (Or.inl q377) (fun _ h => h) dJ2_add_2_19 h (fun Z_4 h H locs hW => ?_)
    cases h
    exact d_vret S hr hlk hW (Nat.le_of_ble_eq_true rfl) (Nat.le_of_ble_eq_true rfl) dJ2_add_2_22
  · have h := if_t h c_2
    refine lv_aload_n hx hb dJ2_add_2_6 rfl (lv_at hl 0 rfl) ?_
    obtain ⟨⟨_, k_5⟩, h⟩ := zK_some h
    obtain ⟨o_8, Z_9, h_6, h⟩ := bnd2_some h
    refine d_callV (As := []) (rest := []) S hW (metJ2_grow h_6) (cwJ2_grow_V S.2.2.2.2 q581 ⟨Nat.le_of_ble_eq_true rfl, Nat.le_of_ble_eq_true rfl⟩) k_5 rfl rfl hl.1 rfl (Nat.le_of_ble_eq_true rfl) dJ2_add_2_7 ⟨(Nat.le_of_ble_eq_true rfl), (Nat.le_of_ble_eq_true rfl)⟩ rfl (fun H locs hW => ?_)
    have h9 := nn_some h
    clear h
    obtain ⟨a_10, rfl, h8⟩ := h9
    have h := h8
    clear h8
    refine lv_astore_n (lv' := [(2, .ref a_10), (0, .ref a0), (1, .ref a1), (3, .int a3)]) hx hb dJ2_add_2_10 rfl hl (by decide) rfl (fun ls hl => ?_)
    refine lv_aload_n hx hb dJ2_add_2_11 rfl (lv_at hl 0 rfl) ?_
    refine lv_iload_n hx hb dJ2_add_2_12 rfl (lv_at hl 3 rfl) ?_
    refine lv_aload_n hx hb dJ2_add_2_13 rfl (lv_at hl 2 rfl) ?_
    refine zw_aast (o := some a1) S hW (t := 5) rfl zal_5 dJ2_add_2_14 h (fun Z_11 h H locs hW => ?_)
    refine lv_aload_n hx hb dJ2_add_2_15 rfl (lv_at hl 1 rfl) ?_
    refine lv_iload_n hx hb dJ2_add_2_16 rfl (lv_at hl 3 rfl) ?_
    refine lv_iconst (v := 1) hx hb dJ2_add_2_17 (by decide) ?_
    refine lv_iadd hx hb dJ2_add_2_18 ?_
    refine zw_putI S hW zC_J2 (i := 2) (by decide) (Or.inl rfl) rfl rfl rfl (Or.inl q377) (fun _ h => h) dJ2_add_2_19 h (fun Z_12 h H locs hW => ?_)
    cases h
    exact d_vret S hr hlk hW (Nat.le_of_ble_eq_true rfl) (Nat.le_of_ble_eq_true rfl) dJ2_add_2_22
def cm_X0_shut (Z0 : c_S) (a0 : Nat) : Option (Int32 × c_S) :=
  zK Z0 a0 0 11 <| bnd (cm_X0_hasShaft Z0 a0) (fun x_4 => if x_4 = 0 then (some ((-6), Z0)) else (cA Z0.Sh a0 0 11 1 fun a_6 => zK Z0 a_6 1 20 <| bnd (cm_X1_isShut Z0 a_6) (un2 fun x_10 Z_11 => if x_10 = 0 then (some (0, Z_11)) else (some (1, Z_11)))))
abbrev rmX0_shut : Room := rmD 5 114 0 0
set_option maxHeartbeats 4000000 in
theorem metX0_shut {l : Launch} {gp : Nat → Nat} {D : va_G} {K : Nat → ClassId} {Z0 : c_S} {a0 : Nat} {r : Int32} {Z' : c_S} (h : cm_X0_shut Z0 a0 = some (r, Z')) : Met l yX0_shut (ws_ yX0_shut cX0_shut 1 (some .int)) rmX0_shut (z_Pc gp [.ref a0] D K Z0) (z_Q (.returned (some (.int r))) D K (z_A Z0) Z') 0 0 (z_A Z0) := by
  refine d_met rfl (Nat.le_of_ble_eq_true rfl) ?_
  intro p e s m below meth c ls S hr hlk hnm hl hW hsz
  have S : CallFix p m c cX0_shut 1 s ([.ref a0] : List Value).toArray lw_all RX0 := S
  have hx := S.1
  have hb := S.2.1
  have hl : lv_has ls 1 [(0, .ref a0)] := hl
  have hnm : meth.name = "shut" := hnm
  unfold cm_X0_shut at h
  refine lv_aload_n hx hb dX0_shut_0 rfl (lv_at hl 0 rfl) ?_
  obtain ⟨⟨_, k_1⟩, h⟩ := zK_some h
  obtain ⟨x_4, h_2, h⟩ := bnd_some h
  refine d_callV (As := []) (rest := []) S hW (metX0_hasShaft h_2) (cwX0_hasShaft_V S.2.2.2.2 q1226 ⟨Nat.le_of_ble_eq_true rfl, Nat.le_of_ble_eq_true rfl⟩) k_1 rfl rfl hl.1 rfl (Nat.le_of_ble_eq_true rfl) dX0_shut_1 ⟨(Nat.le_of_ble_eq_true rfl), (Nat.le_of_ble_eq_true rfl)⟩ rfl (fun H locs hW => ?_)
  refine lv_if_ne (tgt := 12) hx hb dX0_shut_4 (by decide) (fun c_5 => ?_) (fun c_5 => ?_)
  · have h := if_f h c_5
    refine lv_aload_n hx hb dX0_shut_12 rfl (lv_at hl 0 rfl) ?_
    refine zw_getA S hW zC_X0 (i := 1) (by decide) (Or.inl q756) (fun _ h => h) dX0_shut_13 h (fun a_6 h => ?_)
    obtain ⟨⟨_, k_7⟩, h⟩ := zK_some h
    obtain ⟨x_10, Z_11, h_8, h⟩ := bnd2_some h
    refine d_callV (As := []) (rest := []) S hW (metX1_isShut h_8) (cwX1_isShut_V S.2.2.2.2 q1231 ⟨Nat.le_of_ble_eq_true rfl, Nat.le_of_ble_eq_true rfl⟩) k_7 rfl rfl hl.1 rfl (Nat.le_of_ble_eq_true rfl) dX0_shut_16 ⟨(Nat.le_of_ble_eq_true rfl), (Nat.le_of_ble_eq_true rfl)⟩ rfl (fun H locs hW => ?_)
    refine lv_if_eq (tgt := 26) hx hb dX0_shut_19 (by decide) (fun c_12 => ?_) (fun c_12 => ?_)
    · have h := if_t h c_12
      refine lv_iconst (v := 0) hx hb dX0_shut_26 (by decide) ?_
      cases h
      exact d_iret S hr hlk hW (Nat.le_of_ble_eq_true rfl) (Nat.le_of_ble_eq_true rfl) dX0_shut_27
    · have h := if_f h c_12
      refine lv_iconst (v := 1) hx hb dX0_shut_22 (by decide) ?_
      refine lv_goto (tgt := 27) hx hb dX0_shut_23 (by decide) ?_
      cases h
      exact d_iret S hr hlk hW (Nat.le_of_ble_eq_true rfl) (Nat.le_of_ble_eq_true rfl) dX0_shut_27
  · have h := if_t h c_5
    refine lv_bipush (v := (-6)) hx hb dX0_shut_7 (by decide) ?_
    refine lv_goto (tgt := 27) hx hb dX0_shut_9 (by decide) ?_
    cases h
    exact d_iret S hr hlk hW (Nat.le_of_ble_eq_true rfl) (Nat.le_of_ble_eq_true rfl) dX0_shut_27
def cm_X0_pump (Z0 : c_S) (a0 : Nat) : Option (Int32 × c_S) :=
  zK Z0 a0 0 11 <| bnd (cm_X0_hasShaft Z0 a0) (fun x_4 => if x_4 = 0 then (some ((-6), Z0)) else (cA Z0.Sh a0 0 11 1 fun a_6 => cI Z0.Sh Z0.V a_6 1 20 17 fun x_7 => if x_7 = 0 then (some ((-5), Z0)) else (cA Z0.Sh a0 0 11 1 fun a_9 => zK Z0 a_9 1 20 <| bnd (cm_X1_isShut Z0 a_9) (un2 fun x_13 Z_14 => if x_13 = 0 then (some ((-8), Z_14)) else (cA Z_14.Sh a0 0 11 1 fun a_16 => zPI Z_14 a_16 1 20 17 0 fun Z_17 => some (0, Z_17))))))
abbrev rmX0_pump : Room := rmD 5 114 0 0
set_option maxHeartbeats 4000000 in
theorem metX0_pump {l : Launch} {gp : Nat → Nat} {D : va_G} {K : Nat → ClassId} {Z0 : c_S} {a0 : Nat} {r : Int32} {Z' : c_S} (h : cm_X0_pump Z0 a0 = some (r, Z')) : Met l yX0_pump (ws_ yX0_pump cX0_pump 1 (some .int)) rmX0_pump (z_Pc gp [.ref a0] D K Z0) (z_Q (.returned (some (.int r))) D K (z_A Z0) Z') 0 0 (z_A Z0) := by
  refine d_met rfl (Nat.le_of_ble_eq_true rfl) ?_
  intro p e s m below meth c ls S hr hlk hnm hl hW hsz
  have S : CallFix p m c cX0_pump 1 s ([.ref a0] : List Value).toArray lw_all RX0 := S
  have hx := S.1
  have hb := S.2.1
  have hl : lv_has ls 1 [(0, .ref a0)] := hl
  have hnm : meth.name = "pump" := hnm
  unfold cm_X0_pump at h
  refine lv_aload_n hx hb dX0_pump_0 rfl (lv_at hl 0 rfl) ?_
  obtain ⟨⟨_, k_1⟩, h⟩ := zK_some h
  obtain ⟨x_4, h_2, h⟩ := bnd_some h
  refine d_callV (As := []) (rest := []) S hW (metX0_hasShaft h_2) (cwX0_hasShaft_V S.2.2.2.2 q1226 ⟨Nat.le_of_ble_eq_true rfl, Nat.le_of_ble_eq_true rfl⟩) k_1 rfl rfl hl.1 rfl (Nat.le_of_ble_eq_true rfl) dX0_pump_1 ⟨(Nat.le_of_ble_eq_true rfl), (Nat.le_of_ble_eq_true rfl)⟩ rfl (fun H locs hW => ?_)
  refine lv_if_ne (tgt := 10) hx hb dX0_pump_4 (by decide) (fun c_5 => ?_) (fun c_5 => ?_)
  · have h := if_f h c_5
    refine lv_aload_n hx hb dX0_pump_10 rfl (lv_at hl 0 rfl) ?_
    refine zw_getA S hW zC_X0 (i := 1) (by decide) (Or.inl q756) (fun _ h => h) dX0_pump_11 h (fun a_6 h => ?_)
    refine zw_getI S hW zC_X1 (i := 17) (by decide) (Or.inr ⟨_, nestW_in q700 rfl⟩) (fun _ h => h) dX0_pump_14 h (fun x_7 h => ?_)
    refine lv_if_ne (tgt := 23) hx hb dX0_pump_17 (by decide) (fun c_8 => ?_) (fun c_8 => ?_)
    · have h := if_f h c_8
      refine lv_aload_n hx hb dX0_pump_23 rfl (lv_at hl 0 rfl) ?_
      refine zw_getA S hW zC_X0 (i := 1) (by decide) (Or.inl q756) (fun _ h => h) dX0_pump_24 h (fun a_9 h => ?_)
      obtain ⟨⟨_, k_10⟩, h⟩ := zK_some h
      obtain ⟨x_13, Z_14, h_11, h⟩ := bnd2_some h
      refine d_callV (As := []) (rest := []) S hW (metX1_isShut h_11) (cwX1_isShut_V S.2.2.2.2 q1231 ⟨Nat.le_of_ble_eq_true rfl, Nat.le_of_ble_eq_true rfl⟩) k_10 rfl rfl hl.1 rfl (Nat.le_of_ble_eq_true rfl) dX0_pump_27 ⟨(Nat.le_of_ble_eq_true rfl), (Nat.le_of_ble_eq_true rfl)⟩ rfl (fun H locs hW => ?_)
      refine lv_if_ne (tgt := 36) hx hb dX0_pump_30 (by decide) (fun c_15 => ?_) (fun c_15 => ?_)
      · have h := if_f h c_15
        refine lv_aload_n hx hb dX0_pump_36 rfl (lv_at hl 0 rfl) ?_
        refine zw_getA S hW zC_X0 (i := 1) (by decide) (Or.inl q756) (fun _ h => h) dX0_pump_37 h (fun a_16 h => ?_)
        refine lv_iconst (v := 0) hx hb dX0_pump_40 (by decide) ?_
        refine zw_putI S hW zC_X1 (i := 17) (by decide) (Or.inl rfl) rfl rfl rfl (Or.inr ⟨_, nestW_in q700 rfl⟩) (fun _ h => h) dX0_pump_41 h (fun Z_17 h H locs hW => ?_)
        refine lv_iconst (v := 0) hx hb dX0_pump_44 (by decide) ?_
        cases h
        exact d_iret S hr hlk hW (Nat.le_of_ble_eq_true rfl) (Nat.le_of_ble_eq_true rfl) dX0_pump_45
      · have h := if_t h c_15
        refine lv_bipush (v := (-8)) hx hb dX0_pump_33 (by decide) ?_
        cases h
        exact d_iret S hr hlk hW (Nat.le_of_ble_eq_true rfl) (Nat.le_of_ble_eq_true rfl) dX0_pump_35
    · have h := if_t h c_8
      refine lv_bipush (v := (-5)) hx hb dX0_pump_20 (by decide) ?_
      cases h
      exact d_iret S hr hlk hW (Nat.le_of_ble_eq_true rfl) (Nat.le_of_ble_eq_true rfl) dX0_pump_22
  · have h := if_t h c_5
    refine lv_bipush (v := (-6)) hx hb dX0_pump_7 (by decide) ?_
    cases h
    exact d_iret S hr hlk hW (Nat.le_of_ble_eq_true rfl) (Nat.le_of_ble_eq_true rfl) dX0_pump_9
def cm_X1_isOpenDug_B4 (x0 : Nat) (Z : c_S) (rec : Int32 → Int32 → Option (Int32)) (x1 : Int32) (x2 : Int32) : Option (Int32) :=
  if 144 ≤ x2 then (some x1) else (if x1 = 0 then (cA Z.Sh x0 1 20 4 fun a_5 => caI Z.Sh Z.V 2 a_5 x2 fun x_6 => if x_6 = 0 then (nmI (x2 + 1) fun x_8 => rec 0 x_8) else (nmI (x2 + 1) fun x_10 => rec 1 x_10)) else (nmI (x2 + 1) fun x_3 => rec 1 x_3))
abbrev cm_X1_isOpenDug_F4 (x0 : Nat) (Z : c_S) : (((Int32) × (Int32)) → Option (Int32)) → ((Int32) × (Int32)) → Option (Int32) := fun rec s => cm_X1_isOpenDug_B4 x0 Z (fun x1 x2 => rec (x1, x2)) s.1 s.2
def cm_X1_isOpenDug_L4 (x0 : Nat) (Z : c_S) (n : Nat) (x1 : Int32) (x2 : Int32) : Option (Int32) := lp (cm_X1_isOpenDug_F4 x0 Z) n (x1, x2)
theorem cm_X1_isOpenDug_L4_s (x0 : Nat) (Z : c_S) (n : Nat) (x1 : Int32) (x2 : Int32) : cm_X1_isOpenDug_L4 x0 Z (n + 1) x1 x2 = cm_X1_isOpenDug_B4 x0 Z (fun x1 x2 => cm_X1_isOpenDug_L4 x0 Z n x1 x2) x1 x2 := lp_s (cm_X1_isOpenDug_F4 x0 Z) n (x1, x2)
def cm_X1_isOpenDug (Z0 : c_S) (a0 : Nat) : Option (Int32 × c_S) :=
  bnd (cm_X1_isOpenDug_L4 a0 Z0 1000 0 0) (fun x_14 => if x_14 = 0 then (some (0, Z0)) else (zK Z0 a0 1 20 <| bnd (cm_X1_isShut Z0 a0) (un2 fun x_19 Z_20 => if x_19 = 0 then (some (1, Z_20)) else (some (0, Z_20)))))
abbrev rmX1_isOpenDug : Room := rmD 5 114 0 0
set_option maxHeartbeats 4000000 in
theorem metX1_isOpenDug {l : Launch} {gp : Nat → Nat} {D : va_G} {K : Nat → ClassId} {Z0 : c_S} {a0 : Nat} {r : Int32} {Z' : c_S} (h : cm_X1_isOpenDug Z0 a0 = some (r, Z')) : Met l yX1_isOpenDug (ws_ yX1_isOpenDug cX1_isOpenDug 3 (some .boolean)) rmX1_isOpenDug (z_Pc gp [.ref a0] D K Z0) (z_Q (.returned (some (.int r))) D K (z_A Z0) Z') 0 0 (z_A Z0) := by
  refine d_met rfl (Nat.le_of_ble_eq_true rfl) ?_
  intro p e s m below meth c ls S hr hlk hnm hl hW hsz
  have S : CallFix p m c cX1_isOpenDug 3 s ([.ref a0] : List Value).toArray lw_all RX1 := S
  have hx := S.1
  have hb := S.2.1
  have hl : lv_has ls 3 [(0, .ref a0)] := hl
  have hnm : meth.name = "isOpenDug" := hnm
  have Lp4 : ∀ (x0 : Nat) (Z : c_S) (n : Nat) (x1 : Int32) (x2 : Int32) (out : (Int32)) (H : Heap) (locs : List Loc) (ls : Array Slot), cm_X1_isOpenDug_L4 x0 Z n x1 x2 = some out → z_W gp D K (z_A Z0) s Z H locs → lv_has ls 3 [(0, .ref x0), (1, .int x1), (2, .int x2)] → (∀ (o1 : Int32), out = o1 → ∀ (H : Heap) (locs : List Loc) (ls : Array Slot), z_W gp D K (z_A Z0) s Z H locs → lv_has ls 3 [(0, .ref x0), (1, .int o1)] → W p l e rmX1_isOpenDug s m ([.ref a0] : List Value).toArray below meth c H locs 0 0 (MQ below (z_Q (.returned (some (.int r))) D K (z_A Z0) Z') ([.ref a0] : List Value).toArray s 0 0 (z_A Z0)) (F0 m 36 ls [])) → W p l e rmX1_isOpenDug s m ([.ref a0] : List Value).toArray below meth c H locs 0 0 (MQ below (z_Q (.returned (some (.int r))) D K (z_A Z0) Z') ([.ref a0] : List Value).toArray s 0 0 (z_A Z0)) (F0 m 4 ls []) := by
    intro x0 Z n
    induction n with
    | zero =>
      intro x1 x2 out H locs ls h
      exact (lp_0 h).elim
    | succ n ih =>
      intro x1 x2 out H locs ls h hW hl k1
      rw [cm_X1_isOpenDug_L4_s] at h
      unfold cm_X1_isOpenDug_B4 at h
      refine lv_iload_n hx hb dX1_isOpenDug_4 rfl (lv_at hl 2 rfl) ?_
      refine lv_sipush (v := 144) hx hb dX1_isOpenDug_5 (by decide) ?_
      refine lv_icmp_ge (tgt := 36) hx hb dX1_isOpenDug_8 (by decide) (fun c_1 => ?_) (fun c_1 => ?_)
      · have h := if_t h c_1
        exact k1 _ (Option.some.inj h).symm _ _ _ hW (lv_sub hl [0, 1] rfl)
      · have h := if_f h c_1
        refine lv_iload_n hx hb dX1_isOpenDug_11 rfl (lv_at hl 1 rfl) ?_
        refine lv_if_ne (tgt := 24) hx hb dX1_isOpenDug_12 (by decide) (fun c_2 => ?_) (fun c_2 => ?_)
        · have h := if_f h c_2
          refine lv_iconst (v := 1) hx hb dX1_isOpenDug_24 (by decide) ?_
          refine lv_goto (tgt := 29) hx hb dX1_isOpenDug_25 (by decide) ?_
          refine lv_istore_n (lv' := [(1, .int 1), (0, .ref x0), (2, .int x2)]) hx hb dX1_isOpenDug_29 rfl hl (by decide) rfl (fun ls hl => ?_)
          obtain ⟨x_3, e_4, h⟩ := nmI_some h
          refine lv_iinc (v := x_3) (lv' := [(2, .int x_3), (1, .int 1), (0, .ref x0)]) hx hb dX1_isOpenDug_30 hl (k := 2) rfl (by rw [e_4]; rfl) (by decide) rfl (fun ls hl => ?_)
          refine lv_goto (tgt := 4) hx hb dX1_isOpenDug_33 (by decide) ?_
          exact ih 1 x_3 out _ _ _ h hW (lv_sub hl [2, 1, 0] rfl) k1
        · have h := if_t h c_2
          refine lv_aload_n hx hb dX1_isOpenDug_15 rfl (lv_at hl 0 rfl) ?_
          refine zw_getA S hW zC_X1 (i := 4) (by decide) (Or.inl q673) (fun _ h => h) dX1_isOpenDug_16 h (fun a_5 h => ?_)
          refine lv_iload_n hx hb dX1_isOpenDug_19 rfl (lv_at hl 2 rfl) ?_
          refine zw_zald S hW dX1_isOpenDug_20 h (fun x_6 h => ?_)
          refine lv_if_eq (tgt := 28) hx hb dX1_isOpenDug_21 (by decide) (fun c_7 => ?_) (fun c_7 => ?_)
          · have h := if_t h c_7
            refine lv_iconst (v := 0) hx hb dX1_isOpenDug_28 (by decide) ?_
            refine lv_istore_n (lv' := [(1, .int 0), (0, .ref x0), (2, .int x2)]) hx hb dX1_isOpenDug_29 rfl hl (by decide) rfl (fun ls hl => ?_)
            obtain ⟨x_8, e_9, h⟩ := nmI_some h
            refine lv_iinc (v := x_8) (lv' := [(2, .int x_8), (1, .int 0), (0, .ref x0)]) hx hb dX1_isOpenDug_30 hl (k := 2) rfl (by rw [e_9]; rfl) (by decide) rfl (fun ls hl => ?_)
            refine lv_goto (tgt := 4) hx hb dX1_isOpenDug_33 (by decide) ?_
            exact ih 0 x_8 out _ _ _ h hW (lv_sub hl [2, 1, 0] rfl) k1
          · have h := if_f h c_7
            refine lv_iconst (v := 1) hx hb dX1_isOpenDug_24 (by decide) ?_
            refine lv_goto (tgt := 29) hx hb dX1_isOpenDug_25 (by decide) ?_
            refine lv_istore_n (lv' := [(1, .int 1), (0, .ref x0), (2, .int x2)]) hx hb dX1_isOpenDug_29 rfl hl (by decide) rfl (fun ls hl => ?_)
            obtain ⟨x_10, e_11, h⟩ := nmI_some h
            refine lv_iinc (v := x_10) (lv' := [(2, .int x_10), (1, .int 1), (0, .ref x0)]) hx hb dX1_isOpenDug_30 hl (k := 2) rfl (by rw [e_11]; rfl) (by decide) rfl (fun ls hl => ?_)
            refine lv_goto (tgt := 4) hx hb dX1_isOpenDug_33 (by decide) ?_
            exact ih 1 x_10 out _ _ _ h hW (lv_sub hl [2, 1, 0] rfl) k1
  unfold cm_X1_isOpenDug at h
  refine lv_iconst (v := 0) hx hb dX1_isOpenDug_0 (by decide) ?_
  refine lv_istore_n (lv' := [(1, .int 0), (0, .ref a0)]) hx hb dX1_isOpenDug_1 rfl hl (by decide) rfl (fun ls hl => ?_)
  refine lv_iconst (v := 0) hx hb dX1_isOpenDug_2 (by decide) ?_
  refine lv_istore_n (lv' := [(2, .int 0), (1, .int 0), (0, .ref a0)]) hx hb dX1_isOpenDug_3 rfl hl (by decide) rfl (fun ls hl => ?_)
  obtain ⟨x_14, h_13, h⟩ := bnd_some h
  refine Lp4 a0 Z0 1000 0 0  _ _ _ _ h_13 hW (lv_sub hl [2, 1, 0] rfl) ?_
  intro w0 eo H locs ls hW hl
  subst eo
  refine lv_iload_n hx hb dX1_isOpenDug_36 rfl (lv_at hl 1 rfl) ?_
  refine lv_if_eq (tgt := 51) hx hb dX1_isOpenDug_37 (by decide) (fun c_15 => ?_) (fun c_15 => ?_)
  · have h := if_t h c_15
    refine lv_iconst (v := 0) hx hb dX1_isOpenDug_51 (by decide) ?_
    cases h
    exact d_zret S hr hlk rfl hW (Nat.le_of_ble_eq_true rfl) (Nat.le_of_ble_eq_true rfl) dX1_isOpenDug_52
  · have h := if_f h c_15
    refine lv_aload_n hx hb dX1_isOpenDug_40 rfl (lv_at hl 0 rfl) ?_
    obtain ⟨⟨_, k_16⟩, h⟩ := zK_some h
    obtain ⟨x_19, Z_20, h_17, h⟩ := bnd2_some h
    refine d_callV (As := []) (rest := []) S hW (metX1_isShut h_17) (cwX1_isShut_V S.2.2.2.2 q1156 ⟨Nat.le_of_ble_eq_true rfl, Nat.le_of_ble_eq_true rfl⟩) k_16 rfl rfl hl.1 rfl (Nat.le_of_ble_eq_true rfl) dX1_isOpenDug_41 ⟨(Nat.le_of_ble_eq_true rfl), (Nat.le_of_ble_eq_true rfl)⟩ rfl (fun H locs hW => ?_)
    refine lv_if_ne (tgt := 51) hx hb dX1_isOpenDug_44 (by decide) (fun c_21 => ?_) (fun c_21 => ?_)
    · have h := if_f h c_21
      refine lv_iconst (v := 0) hx hb dX1_isOpenDug_51 (by decide) ?_
      cases h
      exact d_zret S hr hlk rfl hW (Nat.le_of_ble_eq_true rfl) (Nat.le_of_ble_eq_true rfl) dX1_isOpenDug_52
    · have h := if_t h c_21
      refine lv_iconst (v := 1) hx hb dX1_isOpenDug_47 (by decide) ?_
      refine lv_goto (tgt := 52) hx hb dX1_isOpenDug_48 (by decide) ?_
      cases h
      exact d_zret S hr hlk rfl hW (Nat.le_of_ble_eq_true rfl) (Nat.le_of_ble_eq_true rfl) dX1_isOpenDug_52
