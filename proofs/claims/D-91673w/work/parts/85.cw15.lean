/-! walks of the component: X0_keep X3_whole_2 -/
set_option maxRecDepth 100000
def cm_X0_keep_J44 (gp : Nat → Nat) (y0 : Nat) (y1 : Int32) (Z : c_S) : Option (Int32 × c_S) :=
  cA Z.Sh y0 0 11 3 fun a_17 => caR Z.Sh 9 a_17 y1 fun o_18 => cA Z.Sh y0 0 11 1 fun a_19 => nn o_18 fun a_20 => zK Z a_20 1 20 <| bnd (cm_X1_becomes gp Z a_20 a_19) (fun Z_24 => some (0, Z_24))
def cm_X0_keep (gp : Nat → Nat) (Z0 : c_S) (a0 : Nat) (a1 : Int32) : Option (Int32 × c_S) :=
  bnd (cm_X0_in a1.toInt64 0 2) (fun x_3 => if x_3 = 0 then (some ((-2), Z0)) else (cA Z0.Sh a0 0 11 3 fun a_5 => caR Z0.Sh 9 a_5 a1 fun o_6 => zNl o_6 (cA Z0.Sh a0 0 11 3 fun a_8 => zNew Z0 1 20 tyX1 fun Z_9 a_10 => cA Z_9.Sh a0 0 11 1 fun a_11 => cA Z_9.Sh a_11 1 20 0 fun a_12 => bnd (cm_X1_init gp Z_9 a_10 a_12) (fun Z_15 => zsR [1] Z_15 9 a_8 a1 (some a_10) fun Z_16 => cm_X0_keep_J44 gp a0 a1 Z_16)) (fun a_7 => cm_X0_keep_J44 gp a0 a1 Z0)))
abbrev rmX0_keep : Room := rmD 9 235 133 2791
set_option maxHeartbeats 4000000 in
theorem metX0_keep {l : Launch} {gp : Nat → Nat} {D : va_G} {K : Nat → ClassId} {Z0 : c_S} {a0 : Nat} {a1 : Int32} {r : Int32} {Z' : c_S} (h : cm_X0_keep gp Z0 a0 a1 = some (r, Z')) : Met l yX0_keep (ws_ yX0_keep cX0_keep 2 (some .int)) rmX0_keep (z_Pc gp [.ref a0, .int a1] D K Z0) (z_Q (.returned (some (.int r))) D K (z_A Z0) Z') 133 2791 (z_A Z0) := by
  refine d_met rfl (Nat.le_of_ble_eq_true rfl) ?_
  intro p e s m below meth c ls S hr hlk hnm hl hW hsz
  have S : CallFix p m c cX0_keep 2 s ([.ref a0, .int a1] : List Value).toArray lw_all RX0 := S
  have hx := S.1
  have hb := S.2.1
  have hl : lv_has ls 2 [(0, .ref a0), (1, .int a1)] := hl
  have hnm : meth.name = "keep" := hnm
  have J44 : ∀ (y0 : Nat) (y1 : Int32) (Z : c_S) (cells slots : Nat) (H : Heap) (locs : List Loc) (ls : Array Slot), cm_X0_keep_J44 gp y0 y1 Z = some (r, Z') → z_W gp D K (z_A Z0) s Z H locs → lv_has ls 2 [(0, .ref y0), (1, .int y1)] → cells + 80 ≤ 133 → slots + 958 ≤ 2791 → W p l e rmX0_keep s m ([.ref a0, .int a1] : List Value).toArray below meth c H locs cells slots (MQ below (z_Q (.returned (some (.int r))) D K (z_A Z0) Z') ([.ref a0, .int a1] : List Value).toArray s 133 2791 (z_A Z0)) (F0 m 44 ls []) := by
    intro y0 y1 Z cells slots H locs ls h hW hl hcl hsl
    unfold cm_X0_keep_J44 at h
    refine lv_aload_n hx hb dX0_keep_44 rfl (lv_at hl 0 rfl) ?_
    refine zw_getA S hW zC_X0 (i := 3) (by decide) (Or.inl q758) (fun _ h => h) dX0_keep_45 h (fun a_17 h => ?_)
    refine lv_iload_n hx hb dX0_keep_48 rfl (lv_at hl 1 rfl) ?_
    refine zw_aald (t := 9) S hW rfl dX0_keep_49 h (fun o_18 h => ?_)
    refine lv_aload_n hx hb dX0_keep_50 rfl (lv_at hl 0 rfl) ?_
    refine zw_getA S hW zC_X0 (i := 1) (by decide) (Or.inl q756) (fun _ h => h) dX0_keep_51 h (fun a_19 h => ?_)
    have h9 := nn_some h
    clear h
    obtain ⟨a_20, rfl, h8⟩ := h9
    have h := h8
    clear h8
    obtain ⟨⟨_, k_21⟩, h⟩ := zK_some h
    obtain ⟨Z_24, h_22, h⟩ := bnd_some h
    refine d_callV (As := [.ref a_19]) (rest := []) S hW (metX1_becomes h_22) (cwX1_becomes_V S.2.2.2.2 q1398 ⟨Nat.le_of_ble_eq_true rfl, Nat.le_of_ble_eq_true rfl⟩) k_21 rfl rfl hl.1 rfl (Nat.le_of_ble_eq_true rfl) dX0_keep_54 ⟨(show _ ≤ 133 from by omega), (show _ ≤ 2791 from by omega)⟩ rfl (fun H locs hW => ?_)
    refine lv_iconst (v := 0) hx hb dX0_keep_57 (by decide) ?_
    cases h
    exact d_iret S hr hlk hW (show _ ≤ 133 from by omega) (show _ ≤ 2791 from by omega) dX0_keep_58
  unfold cm_X0_keep at h
  refine lv_iload_n hx hb dX0_keep_0 rfl (lv_at hl 1 rfl) ?_
  refine lv_i2l (v := a1.toInt64) hx hb dX0_keep_1 rfl ?_
  refine lv_lconst (v := 0) hx hb dX0_keep_2 (by decide) ?_
  refine lv_ldc2 (v := 2) hx hb S.2.2.2.1 (S.2.2.2.2 _ q1474) dX0_keep_3 ?_
  obtain ⟨x_3, h_1, h⟩ := bnd_some h
  refine d_callS (As := [.long a1.toInt64, .long 0, .long 2]) (rest := []) S hW (metX0_in h_1) (cwX0_in_S S.2.2.2.2 q149 ⟨Nat.le_of_ble_eq_true rfl, Nat.le_of_ble_eq_true rfl⟩) rfl hl.1 rfl (Nat.le_of_ble_eq_true rfl) dX0_keep_6 ⟨(Nat.le_of_ble_eq_true rfl), (Nat.le_of_ble_eq_true rfl)⟩ rfl (fun H locs hW => ?_)
  refine lv_if_ne (tgt := 15) hx hb dX0_keep_9 (by decide) (fun c_4 => ?_) (fun c_4 => ?_)
  · have h := if_f h c_4
    refine lv_aload_n hx hb dX0_keep_15 rfl (lv_at hl 0 rfl) ?_
    refine zw_getA S hW zC_X0 (i := 3) (by decide) (Or.inl q758) (fun _ h => h) dX0_keep_16 h (fun a_5 h => ?_)
    refine lv_iload_n hx hb dX0_keep_19 rfl (lv_at hl 1 rfl) ?_
    refine zw_aald (t := 9) S hW rfl dX0_keep_20 h (fun o_6 h => ?_)
    refine z_ifnonnull (tgt := 44) hx hb dX0_keep_21 (by decide) h (fun a_7 eo h9 => ?_) (fun eo h9 => ?_)
    · subst eo; have h := h9; clear h9
      exact J44 a0 a1 Z0 0 0 _ _ _ h hW hl (by omega) (by omega)
    · subst eo; have h := h9; clear h9
      refine lv_aload_n hx hb dX0_keep_24 rfl (lv_at hl 0 rfl) ?_
      refine zw_getA S hW zC_X0 (i := 3) (by decide) (Or.inl q758) (fun _ h => h) dX0_keep_25 h (fun a_8 h => ?_)
      refine lv_iload_n hx hb dX0_keep_28 rfl (lv_at hl 1 rfl) ?_
      refine zw_new S hW zC_X1 q350 q351 q106 (Nat.le_of_ble_eq_true rfl) (Nat.le_of_ble_eq_true rfl) dX0_keep_29 h (fun Z_9 a_10 h H hW => ?_)
      refine lv_dup hx hb dX0_keep_32 rfl ?_
      refine lv_aload_n hx hb dX0_keep_33 rfl (lv_at hl 0 rfl) ?_
      refine zw_getA S hW zC_X0 (i := 1) (by decide) (Or.inl q756) (fun _ h => h) dX0_keep_34 h (fun a_11 h => ?_)
      refine zw_getA S hW zC_X1 (i := 0) (by decide) (Or.inr ⟨_, nestW_in q667 rfl⟩) (fun _ h => h) dX0_keep_37 h (fun a_12 h => ?_)
      obtain ⟨Z_15, h_13, h⟩ := bnd_some h
      refine d_callI (As := [.ref a_12]) (rest := [.ref a_10, .int a1, .ref a_8]) S hW (metX1_init h_13) (cwX1_init_I S.2.2.2.2 q476 ⟨Nat.le_of_ble_eq_true rfl, Nat.le_of_ble_eq_true rfl⟩) rfl hl.1 rfl (Nat.le_of_ble_eq_true rfl) dX0_keep_40 ⟨(Nat.le_of_ble_eq_true rfl), (Nat.le_of_ble_eq_true rfl)⟩ rfl (fun H locs hW => ?_)
      refine zw_aast (o := some a_10) S hW (t := 9) rfl zal_9 dX0_keep_43 h (fun Z_16 h H locs hW => ?_)
      exact J44 a0 a1 Z_16 53 1833 _ _ _ h hW hl (by omega) (by omega)
  · have h := if_t h c_4
    refine lv_bipush (v := (-2)) hx hb dX0_keep_12 (by decide) ?_
    cases h
    exact d_iret S hr hlk hW (Nat.le_of_ble_eq_true rfl) (Nat.le_of_ble_eq_true rfl) dX0_keep_14
def cm_X3_whole_2_J76 (gp : Nat → Nat) (rec : c_S → Option ((c_S) ⊕ ((Nat × c_S)))) (x0 : Nat) (x1 : Nat) (Z : c_S) : Option ((c_S) ⊕ ((Nat × c_S))) :=
  zK Z x0 3 11 <| bnd (cm_X3_next Z x0) (fun Z_42 => cI Z_42.Sh Z_42.V x1 2 13 12 fun x_43 => zPI Z_42 x1 2 13 12 (x_43 + 1) fun Z_44 => rec Z_44)
def cm_X3_whole_2_J52 (gp : Nat → Nat) (rec : c_S → Option ((c_S) ⊕ ((Nat × c_S)))) (x0 : Nat) (x1 : Nat) (y2 : Int32) (Z : c_S) : Option ((c_S) ⊕ ((Nat × c_S))) :=
  zK Z x0 3 11 <| bnd (cm_X3_next Z x0) (fun Z_26 => zK Z_26 x0 3 11 <| bnd (cm_X3_line gp Z_26 x0 x1 y2) (cs2 (fun Z_30 => zK Z_30 x0 3 11 <| bnd (cm_X3_isSign Z_30 x0 59) (fun x_37 => if x_37 = 0 then (zK Z_30 x0 3 11 <| bnd (cm_X3_fails gp Z_30 x0 1) (cs2 (fun Z_48 => cm_X3_whole_2_J76 gp rec x0 x1 Z_48) (un2 fun x_49 Z_50 => some (.inr (x_49, Z_50))))) else (cm_X3_whole_2_J76 gp rec x0 x1 Z_30))) (un2 fun x_31 Z_32 => some (.inr (x_31, Z_32)))))
def cm_X3_whole_2_J38 (gp : Nat → Nat) (rec : c_S → Option ((c_S) ⊕ ((Nat × c_S)))) (x0 : Nat) (x1 : Nat) (y2 : Int32) (Z : c_S) : Option ((c_S) ⊕ ((Nat × c_S))) :=
  zK Z x0 3 11 <| bnd (cm_X3_isFull Z x0 x1 y2) (fun x_21 => if x_21 = 0 then (cm_X3_whole_2_J52 gp rec x0 x1 y2 Z) else (zK Z x0 3 11 <| bnd (cm_X3_fails gp Z x0 3) (cs2 (fun Z_55 => cm_X3_whole_2_J52 gp rec x0 x1 y2 Z_55) (un2 fun x_56 Z_57 => some (.inr (x_56, Z_57))))))
def cm_X3_whole_2_B12 (gp : Nat → Nat) (x0 : Nat) (x1 : Nat) (rec : c_S → Option ((c_S) ⊕ ((Nat × c_S)))) (Z : c_S) : Option ((c_S) ⊕ ((Nat × c_S))) :=
  cI Z.Sh Z.V x0 3 11 6 fun x_10 => if x_10 = 0 then (some (.inl Z)) else (cA Z.Sh x0 3 11 1 fun a_12 => zK Z x0 3 11 <| bnd (cm_X3_oneOf gp Z x0 a_12) (fun x_16 => if x_16 = (-1) then (zK Z x0 3 11 <| bnd (cm_X3_fails gp Z x0 1) (cs2 (fun Z_62 => cm_X3_whole_2_J38 gp rec x0 x1 x_16 Z_62) (un2 fun x_63 Z_64 => some (.inr (x_63, Z_64))))) else (cm_X3_whole_2_J38 gp rec x0 x1 x_16 Z)))
abbrev cm_X3_whole_2_F12 (gp : Nat → Nat) (x0 : Nat) (x1 : Nat) : (((c_S)) → Option ((c_S) ⊕ ((Nat × c_S)))) → ((c_S)) → Option ((c_S) ⊕ ((Nat × c_S))) := fun rec s => cm_X3_whole_2_B12 gp x0 x1 (fun Z => rec Z) s
def cm_X3_whole_2_L12 (gp : Nat → Nat) (x0 : Nat) (x1 : Nat) (n : Nat) (Z : c_S) : Option ((c_S) ⊕ ((Nat × c_S))) := lp (cm_X3_whole_2_F12 gp x0 x1) n Z
theorem cm_X3_whole_2_L12_s (gp : Nat → Nat) (x0 : Nat) (x1 : Nat) (n : Nat) (Z : c_S) : cm_X3_whole_2_L12 gp x0 x1 (n + 1) Z = cm_X3_whole_2_B12 gp x0 x1 (fun Z => cm_X3_whole_2_L12 gp x0 x1 n Z) Z := lp_s (cm_X3_whole_2_F12 gp x0 x1) n Z
def cm_X3_whole_2 (gp : Nat → Nat) (Z0 : c_S) (a0 : Nat) : Option (((Option Nat) × c_S) ⊕ (Nat × c_S)) :=
  zNew Z0 2 13 tyX2 fun Z_1 a_2 => bnd (cm_X2_init Z_1 a_2) (fun Z_5 => zK Z_5 a0 3 11 <| bnd (cm_X3_next Z_5 a0) (fun Z_9 => bnd (cm_X3_whole_2_L12 gp a0 a_2 42 Z_9) (cs2 (fun Z_68 => bnd (cm_X3_whole Z_68 a_2) (un2 fun o_71 Z_72 => some (.inl (o_71, Z_72)))) (un2 fun x_73 Z_74 => some (.inr (x_73, Z_74))))))
abbrev rmX3_whole_2 : Room := rmD 10 260 1569 11596
theorem cwX3_isFull_V {own : String} {R : Room} {s : State} {args : Array Value} {index : Nat} (hts : ∀ w ∈ lw_all, w.before args s = true) (hl : Cond.methodLink own index yX3_isFull ∈ lw_all) (hR : rmX3_isFull.frames + 1 ≤ R.frames ∧ 8 + (4 + 11) + rmX3_isFull.locals ≤ R.locals) : CallW R s args own RX3 index yX3_isFull cX3_isFull 4 (some .boolean) (ws_ yX3_isFull cX3_isFull 4 (some .boolean)) rmX3_isFull 0 0 2 := cwV 2 hts (lw_V hl q965 qs14 q111 q966) rfl rfl rfl (by decide +kernel) hR
theorem cwX3_line_V {own : String} {R : Room} {s : State} {args : Array Value} {index : Nat} (hts : ∀ w ∈ lw_all, w.before args s = true) (hl : Cond.methodLink own index yX3_line ∈ lw_all) (hR : rmX3_line.frames + 1 ≤ R.frames ∧ 8 + (4 + 11) + rmX3_line.locals ≤ R.locals) : CallW R s args own RX3 index yX3_line cX3_line 4 (none) (ws_ yX3_line cX3_line 4 (none)) rmX3_line 34 247 2 := cwV 2 hts (lw_V hl q975 qs15 q111 q976) rfl rfl rfl (by decide +kernel) hR
set_option maxHeartbeats 4000000 in
theorem metX3_whole_2 {l : Launch} {gp : Nat → Nat} {D : va_G} {K : Nat → ClassId} {Z0 : c_S} {a0 : Nat} {Out : (((Option Nat) × c_S) ⊕ (Nat × c_S))} (h : cm_X3_whole_2 gp Z0 a0 = some Out) : MetT l yX3_whole_2 (ws_ yX3_whole_2 cX3_whole_2 3 (some (.object "FrostRing$Told"))) rmX3_whole_2 (z_Pc gp [.ref a0] D K Z0) (z_Q (oR Out) D K (z_A Z0) (oRs Out)) 1569 11596 (z_A Z0) := by
  refine d_metT rfl (Nat.le_of_ble_eq_true rfl) ?_
  intro p e s m below meth c ls S hr hlk hnm hne hl hW hsz
  have S : CallFix p m c cX3_whole_2 3 s ([.ref a0] : List Value).toArray lw_all RX3 := S
  have hx := S.1
  have hb := S.2.1
  have hl : lv_has ls 3 [(0, .ref a0)] := hl
  have hnm : meth.name = "whole" := hnm
  have Lp12 : ∀ (x0 : Nat) (x1 : Nat) (E G : Nat) (n : Nat) (Z : c_S) (out : ((c_S) ⊕ ((Nat × c_S)))) (cells slots : Nat) (H : Heap) (locs : List Loc) (ls : Array Slot), cm_X3_whole_2_L12 gp x0 x1 n Z = some out → z_W gp D K (z_A Z0) s Z H locs → lv_has ls 3 [(0, .ref x0), (1, .ref x1)] → cells + n * 37 ≤ E → slots + n * 271 ≤ G → E ≤ 1569 → G ≤ 11596 → (∀ (oZ : c_S), out = (.inl oZ) → ∀ (H : Heap) (locs : List Loc) (ls : Array Slot), z_W gp D K (z_A Z0) s oZ H locs → lv_has ls 3 [(1, .ref x1)] → W p l e rmX3_whole_2 s m ([.ref a0] : List Value).toArray below meth c H locs E G (MQT below (z_Q (oR Out) D K (z_A Z0) (oRs Out)) ([.ref a0] : List Value).toArray s 1569 11596 (z_A Z0)) (F0 m 93 ls [])) → (∀ (x : Nat) (oZ : c_S), out = (.inr (x, oZ)) → ∀ (H : Heap) (locs : List Loc) (pc : Nat) (ls : Array Slot) (st0 : List Value), z_W gp D K (z_A Z0) s oZ H locs → WT p l e rmX3_whole_2 s m ([.ref a0] : List Value).toArray below meth c H locs E G (MQT below (z_Q (oR Out) D K (z_A Z0) (oRs Out)) ([.ref a0] : List Value).toArray s 1569 11596 (z_A Z0)) (F0 m pc ls st0) x) → W p l e rmX3_whole_2 s m ([.ref a0] : List Value).toArray below meth c H locs cells slots (MQT below (z_Q (oR Out) D K (z_A Z0) (oRs Out)) ([.ref a0] : List Value).toArray s 1569 11596 (z_A Z0)) (F0 m 12 ls []) := by
    intro x0 x1 E G n
    induction n with
    | zero =>
      intro Z out cells slots H locs ls h
      exact (lp_0 h).elim
    | succ n ih =>
      intro Z out cells slots H locs ls h hW hl hcl hsl hE hG k1 k2
      have hcl := nsucc hcl
      have hsl := nsucc hsl
      have J76 : ∀ (Z : c_S) (cells slots : Nat) (H : Heap) (locs : List Loc) (ls : Array Slot), cm_X3_whole_2_J76 gp (fun Z => cm_X3_whole_2_L12 gp x0 x1 n Z) x0 x1 Z = some out → z_W gp D K (z_A Z0) s Z H locs → lv_has ls 3 [(0, .ref x0), (1, .ref x1)] → cells + 0 + n * 37 ≤ E → slots + 0 + n * 271 ≤ G → W p l e rmX3_whole_2 s m ([.ref a0] : List Value).toArray below meth c H locs cells slots (MQT below (z_Q (oR Out) D K (z_A Z0) (oRs Out)) ([.ref a0] : List Value).toArray s 1569 11596 (z_A Z0)) (F0 m 76 ls []) := by
        intro Z cells slots H locs ls h hW hl hcl hsl
        unfold cm_X3_whole_2_J76 at h
        refine lv_aload_n hx hb dX3_whole_2_76 rfl (lv_at hl 0 rfl) ?_
        obtain ⟨⟨_, k_39⟩, h⟩ := zK_some h
        obtain ⟨Z_42, h_40, h⟩ := bnd_some h
        refine d_callV (As := []) (rest := []) S hW (metX3_next h_40) (cwX3_next_V S.2.2.2.2 q867 ⟨Nat.le_of_ble_eq_true rfl, Nat.le_of_ble_eq_true rfl⟩) k_39 rfl rfl hl.1 rfl (Nat.le_of_ble_eq_true rfl) dX3_whole_2_77 ⟨(show _ ≤ 1569 from by omega), (show _ ≤ 11596 from by omega)⟩ rfl (fun H locs hW => ?_)
        refine lv_aload_n hx hb dX3_whole_2_80 rfl (lv_at hl 1 rfl) ?_
        refine lv_dup hx hb dX3_whole_2_81 rfl ?_
        refine zw_getI S hW zC_X2 (i := 12) (by decide) (Or.inr ⟨_, nestW_in q422 rfl⟩) (fun _ h => h) dX3_whole_2_82 h (fun x_43 h => ?_)
        refine lv_iconst (v := 1) hx hb dX3_whole_2_85 (by decide) ?_
        refine lv_iadd hx hb dX3_whole_2_86 ?_
        refine zw_putI S hW zC_X2 (i := 12) (by decide) (Or.inl rfl) rfl rfl rfl (Or.inr ⟨_, nestW_in q422 rfl⟩) (fun _ h => h) dX3_whole_2_87 h (fun Z_44 h H locs hW => ?_)
        refine lv_goto (tgt := 12) hx hb dX3_whole_2_90 (by decide) ?_
        exact ih Z_44 out cells slots _ _ _ h hW hl (by omega) (by omega) hE hG k1 k2
      have J52 : ∀ (y2 : Int32) (Z : c_S) (cells slots : Nat) (H : Heap) (locs : List Loc) (ls : Array Slot), cm_X3_whole_2_J52 gp (fun Z => cm_X3_whole_2_L12 gp x0 x1 n Z) x0 x1 y2 Z = some out → z_W gp D K (z_A Z0) s Z H locs → lv_has ls 3 [(0, .ref x0), (1, .ref x1), (2, .int y2)] → cells + 35 + n * 37 ≤ E → slots + 255 + n * 271 ≤ G → W p l e rmX3_whole_2 s m ([.ref a0] : List Value).toArray below meth c H locs cells slots (MQT below (z_Q (oR Out) D K (z_A Z0) (oRs Out)) ([.ref a0] : List Value).toArray s 1569 11596 (z_A Z0)) (F0 m 52 ls []) := by
        intro y2 Z cells slots H locs ls h hW hl hcl hsl
        unfold cm_X3_whole_2_J52 at h
        refine lv_aload_n hx hb dX3_whole_2_52 rfl (lv_at hl 0 rfl) ?_
        obtain ⟨⟨_, k_23⟩, h⟩ := zK_some h
        obtain ⟨Z_26, h_24, h⟩ := bnd_some h
        refine d_callV (As := []) (rest := []) S hW (metX3_next h_24) (cwX3_next_V S.2.2.2.2 q867 ⟨Nat.le_of_ble_eq_true rfl, Nat.le_of_ble_eq_true rfl⟩) k_23 rfl rfl hl.1 rfl (Nat.le_of_ble_eq_true rfl) dX3_whole_2_53 ⟨(show _ ≤ 1569 from by omega), (show _ ≤ 11596 from by omega)⟩ rfl (fun H locs hW => ?_)
        refine lv_aload_n hx hb dX3_whole_2_56 rfl (lv_at hl 0 rfl) ?_
        refine lv_aload_n hx hb dX3_whole_2_57 rfl (lv_at hl 1 rfl) ?_
        refine lv_iload_n hx hb dX3_whole_2_58 rfl (lv_at hl 2 rfl) ?_
        obtain ⟨⟨_, k_27⟩, h⟩ := zK_some h
        obtain ⟨q_33, h_28, h⟩ := bnd_some h
        have h9 := cs2_some h
        clear h
        rcases h9 with ⟨_, rfl, h⟩ | ⟨_, rfl, h⟩
        · rename_i Z_30
          refine d_callVTr (As := [.ref x1, .int y2]) (rest := []) S hW (metX3_line h_28) (cwX3_line_V S.2.2.2.2 q973 ⟨Nat.le_of_ble_eq_true rfl, Nat.le_of_ble_eq_true rfl⟩) k_27 rfl rfl hl.1 rfl (Nat.le_of_ble_eq_true rfl) dX3_whole_2_59 ⟨(show _ ≤ 1569 from by omega), (show _ ≤ 11596 from by omega)⟩ rfl (fun H locs hW => ?_)
          refine lv_aload_n hx hb dX3_whole_2_62 rfl (lv_at hl 0 rfl) ?_
          refine lv_bipush (v := 59) hx hb dX3_whole_2_63 (by decide) ?_
          obtain ⟨⟨_, k_34⟩, h⟩ := zK_some h
          obtain ⟨x_37, h_35, h⟩ := bnd_some h
          refine d_callV (As := [.int 59]) (rest := []) S hW (metX3_isSign h_35) (cwX3_isSign_V S.2.2.2.2 q1006 ⟨Nat.le_of_ble_eq_true rfl, Nat.le_of_ble_eq_true rfl⟩) k_34 rfl rfl hl.1 rfl (Nat.le_of_ble_eq_true rfl) dX3_whole_2_65 ⟨(show _ ≤ 1569 from by omega), (show _ ≤ 11596 from by omega)⟩ rfl (fun H locs hW => ?_)
          refine lv_if_ne (tgt := 76) hx hb dX3_whole_2_68 (by decide) (fun c_38 => ?_) (fun c_38 => ?_)
          · have h := if_f h c_38
            exact J76 Z_30 (cells + 34) (slots + 247) _ _ _ h hW (lv_sub hl [0, 1] rfl) (by omega) (by omega)
          · have h := if_t h c_38
            refine lv_aload_n hx hb dX3_whole_2_71 rfl (lv_at hl 0 rfl) ?_
            refine lv_iconst (v := 1) hx hb dX3_whole_2_72 (by decide) ?_
            obtain ⟨⟨_, k_45⟩, h⟩ := zK_some h
            obtain ⟨q_51, h_46, h⟩ := bnd_some h
            have h9 := cs2_some h
            clear h
            rcases h9 with ⟨_, rfl, h⟩ | ⟨_, rfl, h⟩
            · rename_i Z_48
              refine d_callVTr (As := [.int 1]) (rest := []) S hW (metX3_fails h_46) (cwX3_fails_V S.2.2.2.2 q931 ⟨Nat.le_of_ble_eq_true rfl, Nat.le_of_ble_eq_true rfl⟩) k_45 rfl rfl hl.1 rfl (Nat.le_of_ble_eq_true rfl) dX3_whole_2_73 ⟨(show _ ≤ 1569 from by omega), (show _ ≤ 11596 from by omega)⟩ rfl (fun H locs hW => ?_)
              exact J76 Z_48 (cells + 35) (slots + 255) _ _ _ h hW (lv_sub hl [0, 1] rfl) (by omega) (by omega)
            · have h9 := un2_some h
              clear h
              obtain ⟨x_49, Z_50, rfl, h⟩ := h9
              refine d_callVTt (As := [.int 1]) (rest := []) S hW (metX3_fails h_46) (cwX3_fails_V S.2.2.2.2 q931 ⟨Nat.le_of_ble_eq_true rfl, Nat.le_of_ble_eq_true rfl⟩) k_45 rfl rfl hl.1 rfl (Nat.le_of_ble_eq_true rfl) dX3_whole_2_73 ⟨(show _ ≤ 1569 from by omega), (show _ ≤ 11596 from by omega)⟩ (fun H locs hW => ?_)
              exact WT.widen (by omega) (by omega) (k2 _ _ (Option.some.inj h).symm _ _ _ _ _ hW)
        · have h9 := un2_some h
          clear h
          obtain ⟨x_31, Z_32, rfl, h⟩ := h9
          refine d_callVTt (As := [.ref x1, .int y2]) (rest := []) S hW (metX3_line h_28) (cwX3_line_V S.2.2.2.2 q973 ⟨Nat.le_of_ble_eq_true rfl, Nat.le_of_ble_eq_true rfl⟩) k_27 rfl rfl hl.1 rfl (Nat.le_of_ble_eq_true rfl) dX3_whole_2_59 ⟨(show _ ≤ 1569 from by omega), (show _ ≤ 11596 from by omega)⟩ (fun H locs hW => ?_)
          exact WT.widen (by omega) (by omega) (k2 _ _ (Option.some.inj h).symm _ _ _ _ _ hW)
      have J38 : ∀ (y2 : Int32) (Z : c_S) (cells slots : Nat) (H : Heap) (locs : List Loc) (ls : Array Slot), cm_X3_whole_2_J38 gp (fun Z => cm_X3_whole_2_L12 gp x0 x1 n Z) x0 x1 y2 Z = some out → z_W gp D K (z_A Z0) s Z H locs → lv_has ls 3 [(0, .ref x0), (1, .ref x1), (2, .int y2)] → cells + 36 + n * 37 ≤ E → slots + 263 + n * 271 ≤ G → W p l e rmX3_whole_2 s m ([.ref a0] : List Value).toArray below meth c H locs cells slots (MQT below (z_Q (oR Out) D K (z_A Z0) (oRs Out)) ([.ref a0] : List Value).toArray s 1569 11596 (z_A Z0)) (F0 m 38 ls []) := by
        intro y2 Z cells slots H locs ls h hW hl hcl hsl
        unfold cm_X3_whole_2_J38 at h
        refine lv_aload_n hx hb dX3_whole_2_38 rfl (lv_at hl 0 rfl) ?_
        refine lv_aload_n hx hb dX3_whole_2_39 rfl (lv_at hl 1 rfl) ?_
        refine lv_iload_n hx hb dX3_whole_2_40 rfl (lv_at hl 2 rfl) ?_
        obtain ⟨⟨_, k_18⟩, h⟩ := zK_some h
        obtain ⟨x_21, h_19, h⟩ := bnd_some h
        refine d_callV (As := [.ref x1, .int y2]) (rest := []) S hW (metX3_isFull h_19) (cwX3_isFull_V S.2.2.2.2 q963 ⟨Nat.le_of_ble_eq_true rfl, Nat.le_of_ble_eq_true rfl⟩) k_18 rfl rfl hl.1 rfl (Nat.le_of_ble_eq_true rfl) dX3_whole_2_41 ⟨(show _ ≤ 1569 from by omega), (show _ ≤ 11596 from by omega)⟩ rfl (fun H locs hW => ?_)
        refine lv_if_eq (tgt := 52) hx hb dX3_whole_2_44 (by decide) (fun c_22 => ?_) (fun c_22 => ?_)
        · have h := if_t h c_22
          exact J52 y2 Z cells slots _ _ _ h hW hl (by omega) (by omega)
        · have h := if_f h c_22
          refine lv_aload_n hx hb dX3_whole_2_47 rfl (lv_at hl 0 rfl) ?_
          refine lv_iconst (v := 3) hx hb dX3_whole_2_48 (by decide) ?_
          obtain ⟨⟨_, k_52⟩, h⟩ := zK_some h
          obtain ⟨q_58, h_53, h⟩ := bnd_some h
          have h9 := cs2_some h
          clear h
          rcases h9 with ⟨_, rfl, h⟩ | ⟨_, rfl, h⟩
          · rename_i Z_55
            refine d_callVTr (As := [.int 3]) (rest := []) S hW (metX3_fails h_53) (cwX3_fails_V S.2.2.2.2 q931 ⟨Nat.le_of_ble_eq_true rfl, Nat.le_of_ble_eq_true rfl⟩) k_52 rfl rfl hl.1 rfl (Nat.le_of_ble_eq_true rfl) dX3_whole_2_49 ⟨(show _ ≤ 1569 from by omega), (show _ ≤ 11596 from by omega)⟩ rfl (fun H locs hW => ?_)
            exact J52 y2 Z_55 (cells + 1) (slots + 8) _ _ _ h hW hl (by omega) (by omega)
          · have h9 := un2_some h
            clear h
            obtain ⟨x_56, Z_57, rfl, h⟩ := h9
            refine d_callVTt (As := [.int 3]) (rest := []) S hW (metX3_fails h_53) (cwX3_fails_V S.2.2.2.2 q931 ⟨Nat.le_of_ble_eq_true rfl, Nat.le_of_ble_eq_true rfl⟩) k_52 rfl rfl hl.1 rfl (Nat.le_of_ble_eq_true rfl) dX3_whole_2_49 ⟨(show _ ≤ 1569 from by omega), (show _ ≤ 11596 from by omega)⟩ (fun H locs hW => ?_)
            exact WT.widen (by omega) (by omega) (k2 _ _ (Option.some.inj h).symm _ _ _ _ _ hW)
      rw [cm_X3_whole_2_L12_s] at h
      unfold cm_X3_whole_2_B12 at h
      refine lv_aload_n hx hb dX3_whole_2_12 rfl (lv_at hl 0 rfl) ?_
      refine zw_getI S hW zC_X3 (i := 6) (by decide) (Or.inl q833) (fun _ h => h) dX3_whole_2_13 h (fun x_10 h => ?_)
      refine lv_if_eq (tgt := 93) hx hb dX3_whole_2_16 (by decide) (fun c_11 => ?_) (fun c_11 => ?_)
      · have h := if_t h c_11
        exact W.widen (by omega) (by omega) (k1 _ (Option.some.inj h).symm _ _ _ hW (lv_sub hl [1] rfl))
      · have h := if_f h c_11
        refine lv_aload_n hx hb dX3_whole_2_19 rfl (lv_at hl 0 rfl) ?_
        refine lv_aload_n hx hb dX3_whole_2_20 rfl (lv_at hl 0 rfl) ?_
        refine zw_getA S hW zC_X3 (i := 1) (by decide) (Or.inl q828) (fun _ h => h) dX3_whole_2_21 h (fun a_12 h => ?_)
        obtain ⟨⟨_, k_13⟩, h⟩ := zK_some h
        obtain ⟨x_16, h_14, h⟩ := bnd_some h
        refine d_callV (As := [.ref a_12]) (rest := []) S hW (metX3_oneOf h_14) (cwX3_oneOf_V S.2.2.2.2 q877 ⟨Nat.le_of_ble_eq_true rfl, Nat.le_of_ble_eq_true rfl⟩) k_13 rfl rfl hl.1 rfl (Nat.le_of_ble_eq_true rfl) dX3_whole_2_24 ⟨(show _ ≤ 1569 from by omega), (show _ ≤ 11596 from by omega)⟩ rfl (fun H locs hW => ?_)
        refine lv_istore_n (lv' := [(2, .int x_16), (0, .ref x0), (1, .ref x1)]) hx hb dX3_whole_2_27 rfl hl (by decide) rfl (fun ls hl => ?_)
        refine lv_iload_n hx hb dX3_whole_2_28 rfl (lv_at hl 0 rfl) ?_
        refine lv_iconst (v := (-1)) hx hb dX3_whole_2_29 (by decide) ?_
        refine lv_icmp_ne (tgt := 38) hx hb dX3_whole_2_30 (by decide) (fun c_17 => ?_) (fun c_17 => ?_)
        · have h := if_f h c_17
          exact J38 x_16 Z cells slots _ _ _ h hW (lv_sub hl [1, 2, 0] rfl) (by omega) (by omega)
        · have h := if_t h c_17
          refine lv_aload_n hx hb dX3_whole_2_33 rfl (lv_at hl 1 rfl) ?_
          refine lv_iconst (v := 1) hx hb dX3_whole_2_34 (by decide) ?_
          obtain ⟨⟨_, k_59⟩, h⟩ := zK_some h
          obtain ⟨q_65, h_60, h⟩ := bnd_some h
          have h9 := cs2_some h
          clear h
          rcases h9 with ⟨_, rfl, h⟩ | ⟨_, rfl, h⟩
          · rename_i Z_62
            refine d_callVTr (As := [.int 1]) (rest := []) S hW (metX3_fails h_60) (cwX3_fails_V S.2.2.2.2 q931 ⟨Nat.le_of_ble_eq_true rfl, Nat.le_of_ble_eq_true rfl⟩) k_59 rfl rfl hl.1 rfl (Nat.le_of_ble_eq_true rfl) dX3_whole_2_35 ⟨(show _ ≤ 1569 from by omega), (show _ ≤ 11596 from by omega)⟩ rfl (fun H locs hW => ?_)
            exact J38 x_16 Z_62 (cells + 1) (slots + 8) _ _ _ h hW (lv_sub hl [1, 2, 0] rfl) (by omega) (by omega)
          · have h9 := un2_some h
            clear h
            obtain ⟨x_63, Z_64, rfl, h⟩ := h9
            refine d_callVTt (As := [.int 1]) (rest := []) S hW (metX3_fails h_60) (cwX3_fails_V S.2.2.2.2 q931 ⟨Nat.le_of_ble_eq_true rfl, Nat.le_of_ble_eq_true rfl⟩) k_59 rfl rfl hl.1 rfl (Nat.le_of_ble_eq_true rfl) dX3_whole_2_35 ⟨(show _ ≤ 1569 from by omega), (show _ ≤ 11596 from by omega)⟩ (fun H locs hW => ?_)
            exact WT.widen (by omega) (by omega) (k2 _ _ (Option.some.inj h).symm _ _ _ _ _ hW)
  unfold cm_X3_whole_2 at h
  refine zw_new S hW zC_X2 q865 q353 q107 (Nat.le_of_ble_eq_true rfl) (Nat.le_of_ble_eq_true rfl) dX3_whole_2_0 h (fun Z_1 a_2 h H hW => ?_)
  refine lv_dup hx hb dX3_whole_2_3 rfl ?_
  obtain ⟨Z_5, h_3, h⟩ := bnd_some h
  refine d_callI (As := []) (rest := [.ref a_2]) S hW (metX2_init h_3) (cwX2_init_I S.2.2.2.2 q866 ⟨Nat.le_of_ble_eq_true rfl, Nat.le_of_ble_eq_true rfl⟩) rfl hl.1 rfl (Nat.le_of_ble_eq_true rfl) dX3_whole_2_4 ⟨(Nat.le_of_ble_eq_true rfl), (Nat.le_of_ble_eq_true rfl)⟩ rfl (fun H locs hW => ?_)
  refine lv_astore_n (lv' := [(1, .ref a_2), (0, .ref a0)]) hx hb dX3_whole_2_7 rfl hl (by decide) rfl (fun ls hl => ?_)
  refine lv_aload_n hx hb dX3_whole_2_8 rfl (lv_at hl 1 rfl) ?_
  obtain ⟨⟨_, k_6⟩, h⟩ := zK_some h
  obtain ⟨Z_9, h_7, h⟩ := bnd_some h
  refine d_callV (As := []) (rest := []) S hW (metX3_next h_7) (cwX3_next_V S.2.2.2.2 q867 ⟨Nat.le_of_ble_eq_true rfl, Nat.le_of_ble_eq_true rfl⟩) k_6 rfl rfl hl.1 rfl (Nat.le_of_ble_eq_true rfl) dX3_whole_2_9 ⟨(Nat.le_of_ble_eq_true rfl), (Nat.le_of_ble_eq_true rfl)⟩ rfl (fun H locs hW => ?_)
  obtain ⟨o_66, h_67, h⟩ := bnd_some h
  have h9 := cs2_some h
  clear h
  rcases h9 with ⟨q, rfl, h⟩ | ⟨q, rfl, h⟩
  · obtain ⟨Z_68, rfl⟩ : ∃ z, z = q := ⟨q, rfl⟩
    refine Lp12 a0 a_2 1564 11576 42 Z_9  _ 10 194 _ _ _ h_67 hW (lv_sub hl [1, 0] rfl) (by omega) (by omega) (by omega) (by omega) ?_ (fun _ _ eo => by cases eo)
    intro w0 eo H locs ls hW hl
    cases eo
    refine lv_aload_n hx hb dX3_whole_2_93 rfl (lv_at hl 0 rfl) ?_
    obtain ⟨o_71, Z_72, h_69, h⟩ := bnd2_some h
    refine d_callS (As := [.ref a_2]) (rest := []) S hW (metX3_whole h_69) (cwX3_whole_S S.2.2.2.2 q1093 ⟨Nat.le_of_ble_eq_true rfl, Nat.le_of_ble_eq_true rfl⟩) rfl hl.1 rfl (Nat.le_of_ble_eq_true rfl) dX3_whole_2_94 ⟨(Nat.le_of_ble_eq_true rfl), (Nat.le_of_ble_eq_true rfl)⟩ rfl (fun H locs hW => ?_)
    cases h
    exact W.toT (d_aret S hr (Or.inl ⟨_, rfl⟩) hlk hW (Nat.le_of_ble_eq_true rfl) (Nat.le_of_ble_eq_true rfl) dX3_whole_2_97)
  · have h9 := un2_some h
    clear h
    obtain ⟨x_73, Z_74, rfl, h⟩ := h9
    refine Lp12 a0 a_2 1564 11576 42 Z_9  _ 10 194 _ _ _ h_67 hW (lv_sub hl [1, 0] rfl) (by omega) (by omega) (by omega) (by omega) (fun _ eo => by cases eo) ?_
    intro w0 w1 eo H locs pc_ ls_ st_ hW
    cases eo
    cases h
    exact d_leave hlk hne hW (Nat.le_of_ble_eq_true rfl) (Nat.le_of_ble_eq_true rfl)
