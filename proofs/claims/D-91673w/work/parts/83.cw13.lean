/-! walks of the component: X0_tick X0_foretell X0_off X0_shutsBy X0_back X1_init -/
set_option maxRecDepth 100000
def cm_X0_tick_B35 (x0 : Nat) (x1 : Int32) (rec : Int32 → c_S → Option (c_S)) (x2 : Int32) (Z : c_S) : Option (c_S) :=
  if x1 ≤ x2 then (some Z) else (cA Z.Sh x0 0 11 1 fun a_9 => zK Z a_9 1 20 <| bnd (cm_X1_ticks Z a_9) (fun Z_13 => nmI (x2 + 1) fun x_14 => rec x_14 Z_13))
abbrev cm_X0_tick_F35 (x0 : Nat) (x1 : Int32) : (((Int32) × (c_S)) → Option (c_S)) → ((Int32) × (c_S)) → Option (c_S) := fun rec s => cm_X0_tick_B35 x0 x1 (fun x2 Z => rec (x2, Z)) s.1 s.2
def cm_X0_tick_L35 (x0 : Nat) (x1 : Int32) (n : Nat) (x2 : Int32) (Z : c_S) : Option (c_S) := lp (cm_X0_tick_F35 x0 x1) n (x2, Z)
theorem cm_X0_tick_L35_s (x0 : Nat) (x1 : Int32) (n : Nat) (x2 : Int32) (Z : c_S) : cm_X0_tick_L35 x0 x1 (n + 1) x2 Z = cm_X0_tick_B35 x0 x1 (fun x2 Z => cm_X0_tick_L35 x0 x1 n x2 Z) x2 Z := lp_s (cm_X0_tick_F35 x0 x1) n (x2, Z)
def cm_X0_tick (Z0 : c_S) (a0 : Nat) (a1 : Int32) : Option (Int32 × c_S) :=
  bnd (cm_X0_in a1.toInt64 1 40) (fun x_3 => if x_3 = 0 then (some ((-2), Z0)) else (cA Z0.Sh a0 0 11 1 fun a_5 => cI Z0.Sh Z0.V a_5 1 20 9 fun x_6 => if (x_6 + a1) ≤ 2000 then (bnd (cm_X0_tick_L35 a0 a1 1000 0 Z0) (fun Z_18 => cA Z_18.Sh a0 0 11 1 fun a_19 => cI Z_18.Sh Z_18.V a_19 1 20 9 fun x_20 => some (x_20, Z_18))) else (some ((-3), Z0))))
abbrev rmX0_tick : Room := rmD 7 158 0 0
theorem cwX1_ticks_V {own : String} {R : Room} {s : State} {args : Array Value} {index : Nat} (hts : ∀ w ∈ lw_all, w.before args s = true) (hl : Cond.methodLink own index yX1_ticks ∈ lw_all) (hR : rmX1_ticks.frames + 1 ≤ R.frames ∧ 8 + (3 + 11) + rmX1_ticks.locals ≤ R.locals) : CallW R s args own RX1 index yX1_ticks cX1_ticks 3 (none) (ws_ yX1_ticks cX1_ticks 3 (none)) rmX1_ticks 0 0 0 := cwV 0 hts (lw_V hl q1105 q1106 q106 q1107) rfl rfl rfl (by decide +kernel) hR
set_option maxHeartbeats 4000000 in
theorem metX0_tick {l : Launch} {gp : Nat → Nat} {D : va_G} {K : Nat → ClassId} {Z0 : c_S} {a0 : Nat} {a1 : Int32} {r : Int32} {Z' : c_S} (h : cm_X0_tick Z0 a0 a1 = some (r, Z')) : Met l yX0_tick (ws_ yX0_tick cX0_tick 3 (some .int)) rmX0_tick (z_Pc gp [.ref a0, .int a1] D K Z0) (z_Q (.returned (some (.int r))) D K (z_A Z0) Z') 0 0 (z_A Z0) := by
  refine d_met rfl (Nat.le_of_ble_eq_true rfl) ?_
  intro p e s m below meth c ls S hr hlk hnm hl hW hsz
  have S : CallFix p m c cX0_tick 3 s ([.ref a0, .int a1] : List Value).toArray lw_all RX0 := S
  have hx := S.1
  have hb := S.2.1
  have hl : lv_has ls 3 [(0, .ref a0), (1, .int a1)] := hl
  have hnm : meth.name = "tick" := hnm
  have Lp35 : ∀ (x0 : Nat) (x1 : Int32) (n : Nat) (x2 : Int32) (Z : c_S) (out : (c_S)) (H : Heap) (locs : List Loc) (ls : Array Slot), cm_X0_tick_L35 x0 x1 n x2 Z = some out → z_W gp D K (z_A Z0) s Z H locs → lv_has ls 3 [(0, .ref x0), (1, .int x1), (2, .int x2)] → (∀ (oZ : c_S), out = oZ → ∀ (H : Heap) (locs : List Loc) (ls : Array Slot), z_W gp D K (z_A Z0) s oZ H locs → lv_has ls 3 [(0, .ref x0)] → W p l e rmX0_tick s m ([.ref a0, .int a1] : List Value).toArray below meth c H locs 0 0 (MQ below (z_Q (.returned (some (.int r))) D K (z_A Z0) Z') ([.ref a0, .int a1] : List Value).toArray s 0 0 (z_A Z0)) (F0 m 53 ls [])) → W p l e rmX0_tick s m ([.ref a0, .int a1] : List Value).toArray below meth c H locs 0 0 (MQ below (z_Q (.returned (some (.int r))) D K (z_A Z0) Z') ([.ref a0, .int a1] : List Value).toArray s 0 0 (z_A Z0)) (F0 m 35 ls []) := by
    intro x0 x1 n
    induction n with
    | zero =>
      intro x2 Z out H locs ls h
      exact (lp_0 h).elim
    | succ n ih =>
      intro x2 Z out H locs ls h hW hl k1
      rw [cm_X0_tick_L35_s] at h
      unfold cm_X0_tick_B35 at h
      refine lv_iload_n hx hb dX0_tick_35 rfl (lv_at hl 2 rfl) ?_
      refine lv_iload_n hx hb dX0_tick_36 rfl (lv_at hl 1 rfl) ?_
      refine lv_icmp_ge (tgt := 53) hx hb dX0_tick_37 (by decide) (fun c_8 => ?_) (fun c_8 => ?_)
      · have h := if_t h c_8
        exact k1 _ (Option.some.inj h).symm _ _ _ hW (lv_sub hl [0] rfl)
      · have h := if_f h c_8
        refine lv_aload_n hx hb dX0_tick_40 rfl (lv_at hl 0 rfl) ?_
        refine zw_getA S hW zC_X0 (i := 1) (by decide) (Or.inl q756) (fun _ h => h) dX0_tick_41 h (fun a_9 h => ?_)
        obtain ⟨⟨_, k_10⟩, h⟩ := zK_some h
        obtain ⟨Z_13, h_11, h⟩ := bnd_some h
        refine d_callV (As := []) (rest := []) S hW (metX1_ticks h_11) (cwX1_ticks_V S.2.2.2.2 q1104 ⟨Nat.le_of_ble_eq_true rfl, Nat.le_of_ble_eq_true rfl⟩) k_10 rfl rfl hl.1 rfl (Nat.le_of_ble_eq_true rfl) dX0_tick_44 ⟨(Nat.le_of_ble_eq_true rfl), (Nat.le_of_ble_eq_true rfl)⟩ rfl (fun H locs hW => ?_)
        obtain ⟨x_14, e_15, h⟩ := nmI_some h
        refine lv_iinc (v := x_14) (lv' := [(2, .int x_14), (0, .ref x0), (1, .int x1)]) hx hb dX0_tick_47 hl (k := 2) rfl (by rw [e_15]; rfl) (by decide) rfl (fun ls hl => ?_)
        refine lv_goto (tgt := 35) hx hb dX0_tick_50 (by decide) ?_
        exact ih x_14 Z_13 out _ _ _ h hW (lv_sub hl [1, 2, 0] rfl) k1
  unfold cm_X0_tick at h
  refine lv_iload_n hx hb dX0_tick_0 rfl (lv_at hl 1 rfl) ?_
  refine lv_i2l (v := a1.toInt64) hx hb dX0_tick_1 rfl ?_
  refine lv_lconst (v := 1) hx hb dX0_tick_2 (by decide) ?_
  refine lv_ldc2 (v := 40) hx hb S.2.2.2.1 (S.2.2.2.2 _ q1103) dX0_tick_3 ?_
  obtain ⟨x_3, h_1, h⟩ := bnd_some h
  refine d_callS (As := [.long a1.toInt64, .long 1, .long 40]) (rest := []) S hW (metX0_in h_1) (cwX0_in_S S.2.2.2.2 q149 ⟨Nat.le_of_ble_eq_true rfl, Nat.le_of_ble_eq_true rfl⟩) rfl hl.1 rfl (Nat.le_of_ble_eq_true rfl) dX0_tick_6 ⟨(Nat.le_of_ble_eq_true rfl), (Nat.le_of_ble_eq_true rfl)⟩ rfl (fun H locs hW => ?_)
  refine lv_if_ne (tgt := 15) hx hb dX0_tick_9 (by decide) (fun c_4 => ?_) (fun c_4 => ?_)
  · have h := if_f h c_4
    refine lv_aload_n hx hb dX0_tick_15 rfl (lv_at hl 0 rfl) ?_
    refine zw_getA S hW zC_X0 (i := 1) (by decide) (Or.inl q756) (fun _ h => h) dX0_tick_16 h (fun a_5 h => ?_)
    refine zw_getI S hW zC_X1 (i := 9) (by decide) (Or.inr ⟨_, nestW_in q684 rfl⟩) (fun _ h => h) dX0_tick_19 h (fun x_6 h => ?_)
    refine lv_iload_n hx hb dX0_tick_22 rfl (lv_at hl 1 rfl) ?_
    refine lv_iadd hx hb dX0_tick_23 ?_
    refine lv_sipush (v := 2000) hx hb dX0_tick_24 (by decide) ?_
    refine lv_icmp_le (tgt := 33) hx hb dX0_tick_27 (by decide) (fun c_7 => ?_) (fun c_7 => ?_)
    · have h := if_t h c_7
      refine lv_iconst (v := 0) hx hb dX0_tick_33 (by decide) ?_
      refine lv_istore_n (lv' := [(2, .int 0), (0, .ref a0), (1, .int a1)]) hx hb dX0_tick_34 rfl hl (by decide) rfl (fun ls hl => ?_)
      obtain ⟨Z_18, h_17, h⟩ := bnd_some h
      refine Lp35 a0 a1 1000 0 Z0  _ _ _ _ h_17 hW (lv_sub hl [1, 2, 0] rfl) ?_
      intro w0 eo H locs ls hW hl
      subst eo
      refine lv_aload_n hx hb dX0_tick_53 rfl (lv_at hl 0 rfl) ?_
      refine zw_getA S hW zC_X0 (i := 1) (by decide) (Or.inl q756) (fun _ h => h) dX0_tick_54 h (fun a_19 h => ?_)
      refine zw_getI S hW zC_X1 (i := 9) (by decide) (Or.inr ⟨_, nestW_in q684 rfl⟩) (fun _ h => h) dX0_tick_57 h (fun x_20 h => ?_)
      cases h
      exact d_iret S hr hlk hW (Nat.le_of_ble_eq_true rfl) (Nat.le_of_ble_eq_true rfl) dX0_tick_60
    · have h := if_f h c_7
      refine lv_bipush (v := (-3)) hx hb dX0_tick_30 (by decide) ?_
      cases h
      exact d_iret S hr hlk hW (Nat.le_of_ble_eq_true rfl) (Nat.le_of_ble_eq_true rfl) dX0_tick_32
  · have h := if_t h c_4
    refine lv_bipush (v := (-2)) hx hb dX0_tick_12 (by decide) ?_
    cases h
    exact d_iret S hr hlk hW (Nat.le_of_ble_eq_true rfl) (Nat.le_of_ble_eq_true rfl) dX0_tick_14
def cm_X0_foretell_B23 (gp : Nat → Nat) (x0 : Nat) (rec : Int32 → c_S → Option ((c_S) ⊕ (Int32 × c_S))) (x1 : Int32) (Z : c_S) : Option ((c_S) ⊕ (Int32 × c_S)) :=
  if 60 < x1 then (some (.inl Z)) else (cA Z.Sh x0 0 11 2 fun a_13 => zK Z a_13 1 20 <| bnd (cm_X1_isShut Z a_13) (un2 fun x_17 Z_18 => if x_17 = 0 then (cA Z_18.Sh x0 0 11 2 fun a_20 => zK Z_18 a_20 1 20 <| bnd (cm_X1_ticks Z_18 a_20) (fun Z_24 => nmI (x1 + 1) fun x_25 => rec x_25 Z_24)) else (some (.inr (x1, Z_18)))))
abbrev cm_X0_foretell_F23 (gp : Nat → Nat) (x0 : Nat) : (((Int32) × (c_S)) → Option ((c_S) ⊕ (Int32 × c_S))) → ((Int32) × (c_S)) → Option ((c_S) ⊕ (Int32 × c_S)) := fun rec s => cm_X0_foretell_B23 gp x0 (fun x1 Z => rec (x1, Z)) s.1 s.2
def cm_X0_foretell_L23 (gp : Nat → Nat) (x0 : Nat) (n : Nat) (x1 : Int32) (Z : c_S) : Option ((c_S) ⊕ (Int32 × c_S)) := lp (cm_X0_foretell_F23 gp x0) n (x1, Z)
theorem cm_X0_foretell_L23_s (gp : Nat → Nat) (x0 : Nat) (n : Nat) (x1 : Int32) (Z : c_S) : cm_X0_foretell_L23 gp x0 (n + 1) x1 Z = cm_X0_foretell_B23 gp x0 (fun x1 Z => cm_X0_foretell_L23 gp x0 n x1 Z) x1 Z := lp_s (cm_X0_foretell_F23 gp x0) n (x1, Z)
def cm_X0_foretell (gp : Nat → Nat) (Z0 : c_S) (a0 : Nat) : Option (Int32 × c_S) :=
  zK Z0 a0 0 11 <| bnd (cm_X0_hasShaft Z0 a0) (fun x_4 => if x_4 = 0 then (some ((-6), Z0)) else (cA Z0.Sh a0 0 11 2 fun a_6 => cA Z0.Sh a0 0 11 1 fun a_7 => zK Z0 a_6 1 20 <| bnd (cm_X1_becomes gp Z0 a_6 a_7) (fun Z_11 => bnd (cm_X0_foretell_L23 gp a0 1000 0 Z_11) (cs2 (fun Z_29 => some ((-1), Z_29)) (un2 fun x_30 Z_31 => some (x_30, Z_31))))))
abbrev rmX0_foretell : Room := rmD 9 235 80 958
theorem cwX1_becomes_V {own : String} {R : Room} {s : State} {args : Array Value} {index : Nat} (hts : ∀ w ∈ lw_all, w.before args s = true) (hl : Cond.methodLink own index yX1_becomes ∈ lw_all) (hR : rmX1_becomes.frames + 1 ≤ R.frames ∧ 8 + (3 + 11) + rmX1_becomes.locals ≤ R.locals) : CallW R s args own RX1 index yX1_becomes cX1_becomes 3 (none) (ws_ yX1_becomes cX1_becomes 3 (none)) rmX1_becomes 80 958 1 := cwV 1 hts (lw_V hl q1399 q1400 q106 q1401) rfl rfl rfl (by decide +kernel) hR
set_option maxHeartbeats 4000000 in
theorem metX0_foretell {l : Launch} {gp : Nat → Nat} {D : va_G} {K : Nat → ClassId} {Z0 : c_S} {a0 : Nat} {r : Int32} {Z' : c_S} (h : cm_X0_foretell gp Z0 a0 = some (r, Z')) : Met l yX0_foretell (ws_ yX0_foretell cX0_foretell 2 (some .int)) rmX0_foretell (z_Pc gp [.ref a0] D K Z0) (z_Q (.returned (some (.int r))) D K (z_A Z0) Z') 80 958 (z_A Z0) := by
  refine d_met rfl (Nat.le_of_ble_eq_true rfl) ?_
  intro p e s m below meth c ls S hr hlk hnm hl hW hsz
  have S : CallFix p m c cX0_foretell 2 s ([.ref a0] : List Value).toArray lw_all RX0 := S
  have hx := S.1
  have hb := S.2.1
  have hl : lv_has ls 2 [(0, .ref a0)] := hl
  have hnm : meth.name = "foretell" := hnm
  have Lp23 : ∀ (x0 : Nat) (E G : Nat) (n : Nat) (x1 : Int32) (Z : c_S) (out : ((c_S) ⊕ (Int32 × c_S))) (cells slots : Nat) (H : Heap) (locs : List Loc) (ls : Array Slot), cm_X0_foretell_L23 gp x0 n x1 Z = some out → z_W gp D K (z_A Z0) s Z H locs → lv_has ls 2 [(0, .ref x0), (1, .int x1)] → cells + n * 0 ≤ E → slots + n * 0 ≤ G → E ≤ 80 → G ≤ 958 → (∀ (oZ : c_S), out = (.inl oZ) → ∀ (H : Heap) (locs : List Loc) (ls : Array Slot), z_W gp D K (z_A Z0) s oZ H locs → lv_has ls 2 [] → W p l e rmX0_foretell s m ([.ref a0] : List Value).toArray below meth c H locs E G (MQ below (z_Q (.returned (some (.int r))) D K (z_A Z0) Z') ([.ref a0] : List Value).toArray s 80 958 (z_A Z0)) (F0 m 54 ls [])) → (∀ (o1 : Int32) (oZ : c_S), out = (.inr (o1, oZ)) → ∀ (H : Heap) (locs : List Loc) (ls : Array Slot), z_W gp D K (z_A Z0) s oZ H locs → lv_has ls 2 [(1, .int o1)] → W p l e rmX0_foretell s m ([.ref a0] : List Value).toArray below meth c H locs E G (MQ below (z_Q (.returned (some (.int r))) D K (z_A Z0) Z') ([.ref a0] : List Value).toArray s 80 958 (z_A Z0)) (F0 m 39 ls [])) → W p l e rmX0_foretell s m ([.ref a0] : List Value).toArray below meth c H locs cells slots (MQ below (z_Q (.returned (some (.int r))) D K (z_A Z0) Z') ([.ref a0] : List Value).toArray s 80 958 (z_A Z0)) (F0 m 23 ls []) := by
    intro x0 E G n
    induction n with
    | zero =>
      intro x1 Z out cells slots H locs ls h
      exact (lp_0 h).elim
    | succ n ih =>
      intro x1 Z out cells slots H locs ls h hW hl hcl hsl hE hG k1 k2
      rw [cm_X0_foretell_L23_s] at h
      unfold cm_X0_foretell_B23 at h
      refine lv_iload_n hx hb dX0_foretell_23 rfl (lv_at hl 1 rfl) ?_
      refine lv_bipush (v := 60) hx hb dX0_foretell_24 (by decide) ?_
      refine lv_icmp_gt (tgt := 54) hx hb dX0_foretell_26 (by decide) (fun c_12 => ?_) (fun c_12 => ?_)
      · have h := if_t h c_12
        exact W.widen (by omega) (by omega) (k1 _ (Option.some.inj h).symm _ _ _ hW (lv_sub hl [] rfl))
      · have h := if_f h c_12
        refine lv_aload_n hx hb dX0_foretell_29 rfl (lv_at hl 0 rfl) ?_
        refine zw_getA S hW zC_X0 (i := 2) (by decide) (Or.inl q757) (fun _ h => h) dX0_foretell_30 h (fun a_13 h => ?_)
        obtain ⟨⟨_, k_14⟩, h⟩ := zK_some h
        obtain ⟨x_17, Z_18, h_15, h⟩ := bnd2_some h
        refine d_callV (As := []) (rest := []) S hW (metX1_isShut h_15) (cwX1_isShut_V S.2.2.2.2 q1231 ⟨Nat.le_of_ble_eq_true rfl, Nat.le_of_ble_eq_true rfl⟩) k_14 rfl rfl hl.1 rfl (Nat.le_of_ble_eq_true rfl) dX0_foretell_33 ⟨(show _ ≤ 80 from by omega), (show _ ≤ 958 from by omega)⟩ rfl (fun H locs hW => ?_)
        refine lv_if_eq (tgt := 41) hx hb dX0_foretell_36 (by decide) (fun c_19 => ?_) (fun c_19 => ?_)
        · have h := if_t h c_19
          refine lv_aload_n hx hb dX0_foretell_41 rfl (lv_at hl 0 rfl) ?_
          refine zw_getA S hW zC_X0 (i := 2) (by decide) (Or.inl q757) (fun _ h => h) dX0_foretell_42 h (fun a_20 h => ?_)
          obtain ⟨⟨_, k_21⟩, h⟩ := zK_some h
          obtain ⟨Z_24, h_22, h⟩ := bnd_some h
          refine d_callV (As := []) (rest := []) S hW (metX1_ticks h_22) (cwX1_ticks_V S.2.2.2.2 q1104 ⟨Nat.le_of_ble_eq_true rfl, Nat.le_of_ble_eq_true rfl⟩) k_21 rfl rfl hl.1 rfl (Nat.le_of_ble_eq_true rfl) dX0_foretell_45 ⟨(show _ ≤ 80 from by omega), (show _ ≤ 958 from by omega)⟩ rfl (fun H locs hW => ?_)
          obtain ⟨x_25, e_26, h⟩ := nmI_some h
          refine lv_iinc (v := x_25) (lv' := [(1, .int x_25), (0, .ref x0)]) hx hb dX0_foretell_48 hl (k := 1) rfl (by rw [e_26]; rfl) (by decide) rfl (fun ls hl => ?_)
          refine lv_goto (tgt := 23) hx hb dX0_foretell_51 (by decide) ?_
          exact ih x_25 Z_24 out cells slots _ _ _ h hW (lv_sub hl [1, 0] rfl) (by omega) (by omega) hE hG k1 k2
        · have h := if_f h c_19
          exact W.widen (by omega) (by omega) (k2 _ _ (Option.some.inj h).symm _ _ _ hW (lv_sub hl [1] rfl))
  unfold cm_X0_foretell at h
  refine lv_aload_n hx hb dX0_foretell_0 rfl (lv_at hl 0 rfl) ?_
  obtain ⟨⟨_, k_1⟩, h⟩ := zK_some h
  obtain ⟨x_4, h_2, h⟩ := bnd_some h
  refine d_callV (As := []) (rest := []) S hW (metX0_hasShaft h_2) (cwX0_hasShaft_V S.2.2.2.2 q1226 ⟨Nat.le_of_ble_eq_true rfl, Nat.le_of_ble_eq_true rfl⟩) k_1 rfl rfl hl.1 rfl (Nat.le_of_ble_eq_true rfl) dX0_foretell_1 ⟨(Nat.le_of_ble_eq_true rfl), (Nat.le_of_ble_eq_true rfl)⟩ rfl (fun H locs hW => ?_)
  refine lv_if_ne (tgt := 10) hx hb dX0_foretell_4 (by decide) (fun c_5 => ?_) (fun c_5 => ?_)
  · have h := if_f h c_5
    refine lv_aload_n hx hb dX0_foretell_10 rfl (lv_at hl 0 rfl) ?_
    refine zw_getA S hW zC_X0 (i := 2) (by decide) (Or.inl q757) (fun _ h => h) dX0_foretell_11 h (fun a_6 h => ?_)
    refine lv_aload_n hx hb dX0_foretell_14 rfl (lv_at hl 0 rfl) ?_
    refine zw_getA S hW zC_X0 (i := 1) (by decide) (Or.inl q756) (fun _ h => h) dX0_foretell_15 h (fun a_7 h => ?_)
    obtain ⟨⟨_, k_8⟩, h⟩ := zK_some h
    obtain ⟨Z_11, h_9, h⟩ := bnd_some h
    refine d_callV (As := [.ref a_7]) (rest := []) S hW (metX1_becomes h_9) (cwX1_becomes_V S.2.2.2.2 q1398 ⟨Nat.le_of_ble_eq_true rfl, Nat.le_of_ble_eq_true rfl⟩) k_8 rfl rfl hl.1 rfl (Nat.le_of_ble_eq_true rfl) dX0_foretell_18 ⟨(Nat.le_of_ble_eq_true rfl), (Nat.le_of_ble_eq_true rfl)⟩ rfl (fun H locs hW => ?_)
    refine lv_iconst (v := 0) hx hb dX0_foretell_21 (by decide) ?_
    refine lv_istore_n (lv' := [(1, .int 0), (0, .ref a0)]) hx hb dX0_foretell_22 rfl hl (by decide) rfl (fun ls hl => ?_)
    obtain ⟨o_27, h_28, h⟩ := bnd_some h
    have h9 := cs2_some h
    clear h
    rcases h9 with ⟨q, rfl, h⟩ | ⟨q, rfl, h⟩
    · obtain ⟨Z_29, rfl⟩ : ∃ z, z = q := ⟨q, rfl⟩
      refine Lp23 a0 80 958 1000 0 Z_11  _ 80 958 _ _ _ h_28 hW (lv_sub hl [1, 0] rfl) (by omega) (by omega) (by omega) (by omega) ?_ (fun _ _ eo => by cases eo)
      intro w0 eo H locs ls hW hl
      cases eo
      refine lv_iconst (v := (-1)) hx hb dX0_foretell_54 (by decide) ?_
      cases h
      exact d_iret S hr hlk hW (Nat.le_of_ble_eq_true rfl) (Nat.le_of_ble_eq_true rfl) dX0_foretell_55
    · have h9 := un2_some h
      clear h
      obtain ⟨x_30, Z_31, rfl, h⟩ := h9
      refine Lp23 a0 80 958 1000 0 Z_11  _ 80 958 _ _ _ h_28 hW (lv_sub hl [1, 0] rfl) (by omega) (by omega) (by omega) (by omega) (fun _ eo => by cases eo) ?_
      intro w0 w1 eo H locs ls hW hl
      cases eo
      refine lv_iload_n hx hb dX0_foretell_39 rfl (lv_at hl 0 rfl) ?_
      cases h
      exact d_iret S hr hlk hW (Nat.le_of_ble_eq_true rfl) (Nat.le_of_ble_eq_true rfl) dX0_foretell_40
  · have h := if_t h c_5
    refine lv_bipush (v := (-6)) hx hb dX0_foretell_7 (by decide) ?_
    cases h
    exact d_iret S hr hlk hW (Nat.le_of_ble_eq_true rfl) (Nat.le_of_ble_eq_true rfl) dX0_foretell_9
def cm_X0_off_B36 (gp : Nat → Nat) (x0 : Nat) (rec : Int32 → c_S → Option (c_S)) (x1 : Int32) (Z : c_S) : Option (c_S) :=
  cA Z.Sh x0 0 11 2 fun a_19 => cA Z.Sh a_19 1 20 5 fun a_20 => zK Z a_20 14 3 <| bnd (cm_J2_size Z a_20) (fun x_24 => if x_24 ≤ x1 then (some Z) else (cA Z.Sh x0 0 11 2 fun a_26 => cA Z.Sh a_26 1 20 5 fun a_27 => zK Z a_27 14 3 <| bnd (cm_J2_get Z a_27 x1) (fun o_31 => zCk Z o_31 5 6 <| nn o_31 fun a_32 => zPI Z a_32 5 6 3 0 fun Z_33 => nmI (x1 + 1) fun x_34 => rec x_34 Z_33)))
abbrev cm_X0_off_F36 (gp : Nat → Nat) (x0 : Nat) : (((Int32) × (c_S)) → Option (c_S)) → ((Int32) × (c_S)) → Option (c_S) := fun rec s => cm_X0_off_B36 gp x0 (fun x1 Z => rec (x1, Z)) s.1 s.2
def cm_X0_off_L36 (gp : Nat → Nat) (x0 : Nat) (n : Nat) (x1 : Int32) (Z : c_S) : Option (c_S) := lp (cm_X0_off_F36 gp x0) n (x1, Z)
theorem cm_X0_off_L36_s (gp : Nat → Nat) (x0 : Nat) (n : Nat) (x1 : Int32) (Z : c_S) : cm_X0_off_L36 gp x0 (n + 1) x1 Z = cm_X0_off_B36 gp x0 (fun x1 Z => cm_X0_off_L36 gp x0 n x1 Z) x1 Z := lp_s (cm_X0_off_F36 gp x0) n (x1, Z)
def cm_X0_off_B80 (gp : Nat → Nat) (x0 : Nat) (rec : Int32 → c_S → Option ((c_S) ⊕ (Int32 × c_S))) (x1 : Int32) (Z : c_S) : Option ((c_S) ⊕ (Int32 × c_S)) :=
  if 60 < x1 then (some (.inl Z)) else (cA Z.Sh x0 0 11 2 fun a_40 => zK Z a_40 1 20 <| bnd (cm_X1_ticks Z a_40) (fun Z_44 => cA Z_44.Sh x0 0 11 2 fun a_45 => zK Z_44 a_45 1 20 <| bnd (cm_X1_isShut Z_44 a_45) (un2 fun x_49 Z_50 => if x_49 = 0 then (some (.inr (x1, Z_50))) else (nmI (x1 + 1) fun x_52 => rec x_52 Z_50))))
abbrev cm_X0_off_F80 (gp : Nat → Nat) (x0 : Nat) : (((Int32) × (c_S)) → Option ((c_S) ⊕ (Int32 × c_S))) → ((Int32) × (c_S)) → Option ((c_S) ⊕ (Int32 × c_S)) := fun rec s => cm_X0_off_B80 gp x0 (fun x1 Z => rec (x1, Z)) s.1 s.2
def cm_X0_off_L80 (gp : Nat → Nat) (x0 : Nat) (n : Nat) (x1 : Int32) (Z : c_S) : Option ((c_S) ⊕ (Int32 × c_S)) := lp (cm_X0_off_F80 gp x0) n (x1, Z)
theorem cm_X0_off_L80_s (gp : Nat → Nat) (x0 : Nat) (n : Nat) (x1 : Int32) (Z : c_S) : cm_X0_off_L80 gp x0 (n + 1) x1 Z = cm_X0_off_B80 gp x0 (fun x1 Z => cm_X0_off_L80 gp x0 n x1 Z) x1 Z := lp_s (cm_X0_off_F80 gp x0) n (x1, Z)
def cm_X0_off (gp : Nat → Nat) (Z0 : c_S) (a0 : Nat) : Option (Int32 × c_S) :=
  zK Z0 a0 0 11 <| bnd (cm_X0_hasShaft Z0 a0) (fun x_4 => if x_4 = 0 then (some ((-6), Z0)) else (cA Z0.Sh a0 0 11 1 fun a_6 => zK Z0 a_6 1 20 <| bnd (cm_X1_isShut Z0 a_6) (un2 fun x_10 Z_11 => if x_10 = 0 then (some ((-5), Z_11)) else (cA Z_11.Sh a0 0 11 2 fun a_13 => cA Z_11.Sh a0 0 11 1 fun a_14 => zK Z_11 a_13 1 20 <| bnd (cm_X1_becomes gp Z_11 a_13 a_14) (fun Z_18 => bnd (cm_X0_off_L36 gp a0 1000 0 Z_18) (fun Z_38 => bnd (cm_X0_off_L80 gp a0 1000 1 Z_38) (cs2 (fun Z_56 => some ((-1), Z_56)) (un2 fun x_57 Z_58 => some (x_57, Z_58)))))))))
abbrev rmX0_off : Room := rmD 9 235 80 958
set_option maxHeartbeats 4000000 in
theorem metX0_off {l : Launch} {gp : Nat → Nat} {D : va_G} {K : Nat → ClassId} {Z0 : c_S} {a0 : Nat} {r : Int32} {Z' : c_S} (h : cm_X0_off gp Z0 a0 = some (r, Z')) : Met l yX0_off (ws_ yX0_off cX0_off 2 (some .int)) rmX0_off (z_Pc gp [.ref a0] D K Z0) (z_Q (.returned (some (.int r))) D K (z_A Z0) Z') 80 958 (z_A Z0) := by
  refine d_met rfl (Nat.le_of_ble_eq_true rfl) ?_
  intro p e s m below meth c ls S hr hlk hnm hl hW hsz
  have S : CallFix p m c cX0_off 2 s ([.ref a0] : List Value).toArray lw_all RX0 := S
  have hx := S.1
  have hb := S.2.1
  have hl : lv_has ls 2 [(0, .ref a0)] := hl
  have hnm : meth.name = "off" := hnm
  have Lp36 : ∀ (x0 : Nat) (E G : Nat) (n : Nat) (x1 : Int32) (Z : c_S) (out : (c_S)) (cells slots : Nat) (H : Heap) (locs : List Loc) (ls : Array Slot), cm_X0_off_L36 gp x0 n x1 Z = some out → z_W gp D K (z_A Z0) s Z H locs → lv_has ls 2 [(0, .ref x0), (1, .int x1)] → cells + n * 0 ≤ E → slots + n * 0 ≤ G → E ≤ 80 → G ≤ 958 → (∀ (oZ : c_S), out = oZ → ∀ (H : Heap) (locs : List Loc) (ls : Array Slot), z_W gp D K (z_A Z0) s oZ H locs → lv_has ls 2 [(0, .ref x0)] → W p l e rmX0_off s m ([.ref a0] : List Value).toArray below meth c H locs E G (MQ below (z_Q (.returned (some (.int r))) D K (z_A Z0) Z') ([.ref a0] : List Value).toArray s 80 958 (z_A Z0)) (F0 m 78 ls [])) → W p l e rmX0_off s m ([.ref a0] : List Value).toArray below meth c H locs cells slots (MQ below (z_Q (.returned (some (.int r))) D K (z_A Z0) Z') ([.ref a0] : List Value).toArray s 80 958 (z_A Z0)) (F0 m 36 ls []) := by
    intro x0 E G n
    induction n with
    | zero =>
      intro x1 Z out cells slots H locs ls h
      exact (lp_0 h).elim
    | succ n ih =>
      intro x1 Z out cells slots H locs ls h hW hl hcl hsl hE hG k1
      rw [cm_X0_off_L36_s] at h
      unfold cm_X0_off_B36 at h
      refine lv_iload_n hx hb dX0_off_36 rfl (lv_at hl 1 rfl) ?_
      refine lv_aload_n hx hb dX0_off_37 rfl (lv_at hl 0 rfl) ?_
      refine zw_getA S hW zC_X0 (i := 2) (by decide) (Or.inl q757) (fun _ h => h) dX0_off_38 h (fun a_19 h => ?_)
      refine zw_getA S hW zC_X1 (i := 5) (by decide) (Or.inr ⟨_, nestW_in q676 rfl⟩) (fun _ h => h) dX0_off_41 h (fun a_20 h => ?_)
      obtain ⟨⟨_, k_21⟩, h⟩ := zK_some h
      obtain ⟨x_24, h_22, h⟩ := bnd_some h
      refine d_callF (As := []) (rest := [.int x1]) S hW (metJ2_size h_22) (cwJ2_size_F S.2.2.2.2 q1192 (hW.1.2.2.2.2.1.2.2.2.2.2.2.1 _ (List.mem_of_getElem? (i := 1) rfl)) ⟨Nat.le_of_ble_eq_true rfl, Nat.le_of_ble_eq_true rfl⟩) k_21 rfl rfl hl.1 rfl (Nat.le_of_ble_eq_true rfl) dX0_off_44 ⟨(show _ ≤ 80 from by omega), (show _ ≤ 958 from by omega)⟩ rfl (fun H locs hW => ?_)
      refine lv_icmp_ge (tgt := 78) hx hb dX0_off_49 (by decide) (fun c_25 => ?_) (fun c_25 => ?_)
      · have h := if_t h c_25
        exact W.widen (by omega) (by omega) (k1 _ (Option.some.inj h).symm _ _ _ hW (lv_sub hl [0] rfl))
      · have h := if_f h c_25
        refine lv_aload_n hx hb dX0_off_52 rfl (lv_at hl 0 rfl) ?_
        refine zw_getA S hW zC_X0 (i := 2) (by decide) (Or.inl q757) (fun _ h => h) dX0_off_53 h (fun a_26 h => ?_)
        refine zw_getA S hW zC_X1 (i := 5) (by decide) (Or.inr ⟨_, nestW_in q676 rfl⟩) (fun _ h => h) dX0_off_56 h (fun a_27 h => ?_)
        refine lv_iload_n hx hb dX0_off_59 rfl (lv_at hl 1 rfl) ?_
        obtain ⟨⟨_, k_28⟩, h⟩ := zK_some h
        obtain ⟨o_31, h_29, h⟩ := bnd_some h
        refine d_callF (As := [.int x1]) (rest := []) S hW (metJ2_get h_29) (cwJ2_get_F S.2.2.2.2 q1194 (hW.1.2.2.2.2.1.2.2.2.2.2.2.1 _ (List.mem_of_getElem? (i := 2) rfl)) ⟨Nat.le_of_ble_eq_true rfl, Nat.le_of_ble_eq_true rfl⟩) k_28 rfl rfl hl.1 rfl (Nat.le_of_ble_eq_true rfl) dX0_off_60 ⟨(show _ ≤ 80 from by omega), (show _ ≤ 958 from by omega)⟩ rfl (fun H locs hW => ?_)
        refine zw_ck (o := o_31) S hW zC_X5 q1195 dX0_off_65 h (fun h => ?_)
        refine lv_iconst (v := 0) hx hb dX0_off_68 (by decide) ?_
        have h9 := nn_some h
        clear h
        obtain ⟨a_32, rfl, h8⟩ := h9
        have h := h8
        clear h8
        refine zw_putI S hW zC_X5 (i := 3) (by decide) (Or.inl rfl) rfl rfl rfl (Or.inr ⟨_, nestW_in q547 rfl⟩) (fun _ h => h) dX0_off_69 h (fun Z_33 h H locs hW => ?_)
        obtain ⟨x_34, e_35, h⟩ := nmI_some h
        refine lv_iinc (v := x_34) (lv' := [(1, .int x_34), (0, .ref x0)]) hx hb dX0_off_72 hl (k := 1) rfl (by rw [e_35]; rfl) (by decide) rfl (fun ls hl => ?_)
        refine lv_goto (tgt := 36) hx hb dX0_off_75 (by decide) ?_
        exact ih x_34 Z_33 out cells slots _ _ _ h hW (lv_sub hl [1, 0] rfl) (by omega) (by omega) hE hG k1
  have Lp80 : ∀ (x0 : Nat) (E G : Nat) (n : Nat) (x1 : Int32) (Z : c_S) (out : ((c_S) ⊕ (Int32 × c_S))) (cells slots : Nat) (H : Heap) (locs : List Loc) (ls : Array Slot), cm_X0_off_L80 gp x0 n x1 Z = some out → z_W gp D K (z_A Z0) s Z H locs → lv_has ls 2 [(0, .ref x0), (1, .int x1)] → cells + n * 0 ≤ E → slots + n * 0 ≤ G → E ≤ 80 → G ≤ 958 → (∀ (oZ : c_S), out = (.inl oZ) → ∀ (H : Heap) (locs : List Loc) (ls : Array Slot), z_W gp D K (z_A Z0) s oZ H locs → lv_has ls 2 [] → W p l e rmX0_off s m ([.ref a0] : List Value).toArray below meth c H locs E G (MQ below (z_Q (.returned (some (.int r))) D K (z_A Z0) Z') ([.ref a0] : List Value).toArray s 80 958 (z_A Z0)) (F0 m 111 ls [])) → (∀ (o1 : Int32) (oZ : c_S), out = (.inr (o1, oZ)) → ∀ (H : Heap) (locs : List Loc) (ls : Array Slot), z_W gp D K (z_A Z0) s oZ H locs → lv_has ls 2 [(1, .int o1)] → W p l e rmX0_off s m ([.ref a0] : List Value).toArray below meth c H locs E G (MQ below (z_Q (.returned (some (.int r))) D K (z_A Z0) Z') ([.ref a0] : List Value).toArray s 80 958 (z_A Z0)) (F0 m 103 ls [])) → W p l e rmX0_off s m ([.ref a0] : List Value).toArray below meth c H locs cells slots (MQ below (z_Q (.returned (some (.int r))) D K (z_A Z0) Z') ([.ref a0] : List Value).toArray s 80 958 (z_A Z0)) (F0 m 80 ls []) := by
    intro x0 E G n
    induction n with
    | zero =>
      intro x1 Z out cells slots H locs ls h
      exact (lp_0 h).elim
    | succ n ih =>
      intro x1 Z out cells slots H locs ls h hW hl hcl hsl hE hG k1 k2
      rw [cm_X0_off_L80_s] at h
      unfold cm_X0_off_B80 at h
      refine lv_iload_n hx hb dX0_off_80 rfl (lv_at hl 1 rfl) ?_
      refine lv_bipush (v := 60) hx hb dX0_off_81 (by decide) ?_
      refine lv_icmp_gt (tgt := 111) hx hb dX0_off_83 (by decide) (fun c_39 => ?_) (fun c_39 => ?_)
      · have h := if_t h c_39
        exact W.widen (by omega) (by omega) (k1 _ (Option.some.inj h).symm _ _ _ hW (lv_sub hl [] rfl))
      · have h := if_f h c_39
        refine lv_aload_n hx hb dX0_off_86 rfl (lv_at hl 0 rfl) ?_
        refine zw_getA S hW zC_X0 (i := 2) (by decide) (Or.inl q757) (fun _ h => h) dX0_off_87 h (fun a_40 h => ?_)
        obtain ⟨⟨_, k_41⟩, h⟩ := zK_some h
        obtain ⟨Z_44, h_42, h⟩ := bnd_some h
        refine d_callV (As := []) (rest := []) S hW (metX1_ticks h_42) (cwX1_ticks_V S.2.2.2.2 q1104 ⟨Nat.le_of_ble_eq_true rfl, Nat.le_of_ble_eq_true rfl⟩) k_41 rfl rfl hl.1 rfl (Nat.le_of_ble_eq_true rfl) dX0_off_90 ⟨(show _ ≤ 80 from by omega), (show _ ≤ 958 from by omega)⟩ rfl (fun H locs hW => ?_)
        refine lv_aload_n hx hb dX0_off_93 rfl (lv_at hl 0 rfl) ?_
        refine zw_getA S hW zC_X0 (i := 2) (by decide) (Or.inl q757) (fun _ h => h) dX0_off_94 h (fun a_45 h => ?_)
        obtain ⟨⟨_, k_46⟩, h⟩ := zK_some h
        obtain ⟨x_49, Z_50, h_47, h⟩ := bnd2_some h
        refine d_callV (As := []) (rest := []) S hW (metX1_isShut h_47) (cwX1_isShut_V S.2.2.2.2 q1231 ⟨Nat.le_of_ble_eq_true rfl, Nat.le_of_ble_eq_true rfl⟩) k_46 rfl rfl hl.1 rfl (Nat.le_of_ble_eq_true rfl) dX0_off_97 ⟨(show _ ≤ 80 from by omega), (show _ ≤ 958 from by omega)⟩ rfl (fun H locs hW => ?_)
        refine lv_if_ne (tgt := 105) hx hb dX0_off_100 (by decide) (fun c_51 => ?_) (fun c_51 => ?_)
        · have h := if_f h c_51
          obtain ⟨x_52, e_53, h⟩ := nmI_some h
          refine lv_iinc (v := x_52) (lv' := [(1, .int x_52), (0, .ref x0)]) hx hb dX0_off_105 hl (k := 1) rfl (by rw [e_53]; rfl) (by decide) rfl (fun ls hl => ?_)
          refine lv_goto (tgt := 80) hx hb dX0_off_108 (by decide) ?_
          exact ih x_52 Z_50 out cells slots _ _ _ h hW (lv_sub hl [1, 0] rfl) (by omega) (by omega) hE hG k1 k2
        · have h := if_t h c_51
          exact W.widen (by omega) (by omega) (k2 _ _ (Option.some.inj h).symm _ _ _ hW (lv_sub hl [1] rfl))
  unfold cm_X0_off at h
  refine lv_aload_n hx hb dX0_off_0 rfl (lv_at hl 0 rfl) ?_
  obtain ⟨⟨_, k_1⟩, h⟩ := zK_some h
  obtain ⟨x_4, h_2, h⟩ := bnd_some h
  refine d_callV (As := []) (rest := []) S hW (metX0_hasShaft h_2) (cwX0_hasShaft_V S.2.2.2.2 q1226 ⟨Nat.le_of_ble_eq_true rfl, Nat.le_of_ble_eq_true rfl⟩) k_1 rfl rfl hl.1 rfl (Nat.le_of_ble_eq_true rfl) dX0_off_1 ⟨(Nat.le_of_ble_eq_true rfl), (Nat.le_of_ble_eq_true rfl)⟩ rfl (fun H locs hW => ?_)
  refine lv_if_ne (tgt := 10) hx hb dX0_off_4 (by decide) (fun c_5 => ?_) (fun c_5 => ?_)
  · have h := if_f h c_5
    refine lv_aload_n hx hb dX0_off_10 rfl (lv_at hl 0 rfl) ?_
    refine zw_getA S hW zC_X0 (i := 1) (by decide) (Or.inl q756) (fun _ h => h) dX0_off_11 h (fun a_6 h => ?_)
    obtain ⟨⟨_, k_7⟩, h⟩ := zK_some h
    obtain ⟨x_10, Z_11, h_8, h⟩ := bnd2_some h
    refine d_callV (As := []) (rest := []) S hW (metX1_isShut h_8) (cwX1_isShut_V S.2.2.2.2 q1231 ⟨Nat.le_of_ble_eq_true rfl, Nat.le_of_ble_eq_true rfl⟩) k_7 rfl rfl hl.1 rfl (Nat.le_of_ble_eq_true rfl) dX0_off_14 ⟨(Nat.le_of_ble_eq_true rfl), (Nat.le_of_ble_eq_true rfl)⟩ rfl (fun H locs hW => ?_)
    refine lv_if_ne (tgt := 23) hx hb dX0_off_17 (by decide) (fun c_12 => ?_) (fun c_12 => ?_)
    · have h := if_f h c_12
      refine lv_aload_n hx hb dX0_off_23 rfl (lv_at hl 0 rfl) ?_
      refine zw_getA S hW zC_X0 (i := 2) (by decide) (Or.inl q757) (fun _ h => h) dX0_off_24 h (fun a_13 h => ?_)
      refine lv_aload_n hx hb dX0_off_27 rfl (lv_at hl 0 rfl) ?_
      refine zw_getA S hW zC_X0 (i := 1) (by decide) (Or.inl q756) (fun _ h => h) dX0_off_28 h (fun a_14 h => ?_)
      obtain ⟨⟨_, k_15⟩, h⟩ := zK_some h
      obtain ⟨Z_18, h_16, h⟩ := bnd_some h
      refine d_callV (As := [.ref a_14]) (rest := []) S hW (metX1_becomes h_16) (cwX1_becomes_V S.2.2.2.2 q1398 ⟨Nat.le_of_ble_eq_true rfl, Nat.le_of_ble_eq_true rfl⟩) k_15 rfl rfl hl.1 rfl (Nat.le_of_ble_eq_true rfl) dX0_off_31 ⟨(Nat.le_of_ble_eq_true rfl), (Nat.le_of_ble_eq_true rfl)⟩ rfl (fun H locs hW => ?_)
      refine lv_iconst (v := 0) hx hb dX0_off_34 (by decide) ?_
      refine lv_istore_n (lv' := [(1, .int 0), (0, .ref a0)]) hx hb dX0_off_35 rfl hl (by decide) rfl (fun ls hl => ?_)
      obtain ⟨Z_38, h_37, h⟩ := bnd_some h
      refine Lp36 a0 80 958 1000 0 Z_18  _ 80 958 _ _ _ h_37 hW (lv_sub hl [1, 0] rfl) (by omega) (by omega) (by omega) (by omega) ?_
      intro w0 eo H locs ls hW hl
      subst eo
      refine lv_iconst (v := 1) hx hb dX0_off_78 (by decide) ?_
      refine lv_istore_n (lv' := [(1, .int 1), (0, .ref a0)]) hx hb dX0_off_79 rfl hl (by decide) rfl (fun ls hl => ?_)
      obtain ⟨o_54, h_55, h⟩ := bnd_some h
      have h9 := cs2_some h
      clear h
      rcases h9 with ⟨q, rfl, h⟩ | ⟨q, rfl, h⟩
      · obtain ⟨Z_56, rfl⟩ : ∃ z, z = q := ⟨q, rfl⟩
        refine Lp80 a0 80 958 1000 1 Z_38  _ 80 958 _ _ _ h_55 hW (lv_sub hl [1, 0] rfl) (by omega) (by omega) (by omega) (by omega) ?_ (fun _ _ eo => by cases eo)
        intro w0 eo H locs ls hW hl
        cases eo
        refine lv_iconst (v := (-1)) hx hb dX0_off_111 (by decide) ?_
        cases h
        exact d_iret S hr hlk hW (Nat.le_of_ble_eq_true rfl) (Nat.le_of_ble_eq_true rfl) dX0_off_112
      · have h9 := un2_some h
        clear h
        obtain ⟨x_57, Z_58, rfl, h⟩ := h9
        refine Lp80 a0 80 958 1000 1 Z_38  _ 80 958 _ _ _ h_55 hW (lv_sub hl [1, 0] rfl) (by omega) (by omega) (by omega) (by omega) (fun _ eo => by cases eo) ?_
        intro w0 w1 eo H locs ls hW hl
        cases eo
        refine lv_iload_n hx hb dX0_off_103 rfl (lv_at hl 0 rfl) ?_
        cases h
        exact d_iret S hr hlk hW (Nat.le_of_ble_eq_true rfl) (Nat.le_of_ble_eq_true rfl) dX0_off_104
    · have h := if_t h c_12
      refine lv_bipush (v := (-5)) hx hb dX0_off_20 (by decide) ?_
      cases h
      exact d_iret S hr hlk hW (Nat.le_of_ble_eq_true rfl) (Nat.le_of_ble_eq_true rfl) dX0_off_22
  · have h := if_t h c_5
    refine lv_bipush (v := (-6)) hx hb dX0_off_7 (by decide) ?_
    cases h
    exact d_iret S hr hlk hW (Nat.le_of_ble_eq_true rfl) (Nat.le_of_ble_eq_true rfl) dX0_off_9
def cm_X0_shutsBy_B32 (gp : Nat → Nat) (x0 : Nat) (x1 : Nat) (x2 : Int32) (x3 : Int32) (x4 : Nat) (rec : Int32 → c_S → Option (c_S)) (x5 : Int32) (Z : c_S) : Option (c_S) :=
  zK Z x1 7 1 <| bnd (cm_X7_many Z x1) (fun x_17 => if x_17 ≤ x5 then (some Z) else (if ((x2 >>> (x5 &&& 31)) &&& 1) = 1 then (cA Z.Sh x0 0 11 2 fun a_22 => cA Z.Sh a_22 1 20 5 fun a_23 => zNew Z 5 6 tyX5 fun Z_24 a_25 => zK Z_24 x1 7 1 <| bnd (cm_X7_number Z_24 x1 x5) (fun x_29 => cI Z_24.Sh Z_24.V x4 5 6 1 fun x_30 => cI Z_24.Sh Z_24.V x4 5 6 2 fun x_31 => bnd (cm_X5_init Z_24 a_25 x_29.toInt32 x_30 x_31) (fun Z_34 => zK Z_34 a_23 14 3 <| bnd (cm_J2_add gp Z_34 a_23 a_25) (un2 fun x_38 Z_39 => nmI (x5 + 1) fun x_40 => rec x_40 Z_39)))) else (nmI (x5 + 1) fun x_20 => rec x_20 Z)))
abbrev cm_X0_shutsBy_F32 (gp : Nat → Nat) (x0 : Nat) (x1 : Nat) (x2 : Int32) (x3 : Int32) (x4 : Nat) : (((Int32) × (c_S)) → Option (c_S)) → ((Int32) × (c_S)) → Option (c_S) := fun rec s => cm_X0_shutsBy_B32 gp x0 x1 x2 x3 x4 (fun x5 Z => rec (x5, Z)) s.1 s.2
def cm_X0_shutsBy_L32 (gp : Nat → Nat) (x0 : Nat) (x1 : Nat) (x2 : Int32) (x3 : Int32) (x4 : Nat) (n : Nat) (x5 : Int32) (Z : c_S) : Option (c_S) := lp (cm_X0_shutsBy_F32 gp x0 x1 x2 x3 x4) n (x5, Z)
theorem cm_X0_shutsBy_L32_s (gp : Nat → Nat) (x0 : Nat) (x1 : Nat) (x2 : Int32) (x3 : Int32) (x4 : Nat) (n : Nat) (x5 : Int32) (Z : c_S) : cm_X0_shutsBy_L32 gp x0 x1 x2 x3 x4 (n + 1) x5 Z = cm_X0_shutsBy_B32 gp x0 x1 x2 x3 x4 (fun x5 Z => cm_X0_shutsBy_L32 gp x0 x1 x2 x3 x4 n x5 Z) x5 Z := lp_s (cm_X0_shutsBy_F32 gp x0 x1 x2 x3 x4) n (x5, Z)
def cm_X0_shutsBy_B97 (gp : Nat → Nat) (x0 : Nat) (x3 : Int32) (rec : Int32 → c_S → Option (c_S)) (x5 : Int32) (Z : c_S) : Option (c_S) :=
  if x3 ≤ x5 then (some Z) else (cA Z.Sh x0 0 11 2 fun a_46 => zK Z a_46 1 20 <| bnd (cm_X1_ticks Z a_46) (fun Z_50 => nmI (x5 + 1) fun x_51 => rec x_51 Z_50))
abbrev cm_X0_shutsBy_F97 (gp : Nat → Nat) (x0 : Nat) (x3 : Int32) : (((Int32) × (c_S)) → Option (c_S)) → ((Int32) × (c_S)) → Option (c_S) := fun rec s => cm_X0_shutsBy_B97 gp x0 x3 (fun x5 Z => rec (x5, Z)) s.1 s.2
def cm_X0_shutsBy_L97 (gp : Nat → Nat) (x0 : Nat) (x3 : Int32) (n : Nat) (x5 : Int32) (Z : c_S) : Option (c_S) := lp (cm_X0_shutsBy_F97 gp x0 x3) n (x5, Z)
theorem cm_X0_shutsBy_L97_s (gp : Nat → Nat) (x0 : Nat) (x3 : Int32) (n : Nat) (x5 : Int32) (Z : c_S) : cm_X0_shutsBy_L97 gp x0 x3 (n + 1) x5 Z = cm_X0_shutsBy_B97 gp x0 x3 (fun x5 Z => cm_X0_shutsBy_L97 gp x0 x3 n x5 Z) x5 Z := lp_s (cm_X0_shutsBy_F97 gp x0 x3) n (x5, Z)
def cm_X0_shutsBy (gp : Nat → Nat) (Z0 : c_S) (a0 : Nat) (a1 : Nat) (a2 : Int32) (a3 : Int32) : Option (Int32 × c_S) :=
  cA Z0.Sh a0 0 11 2 fun a_1 => cA Z0.Sh a0 0 11 1 fun a_2 => zK Z0 a_1 1 20 <| bnd (cm_X1_becomes gp Z0 a_1 a_2) (fun Z_6 => cA Z_6.Sh a0 0 11 1 fun a_7 => cA Z_6.Sh a_7 1 20 5 fun a_8 => zK Z_6 a_8 14 3 <| bnd (cm_J2_get Z_6 a_8 0) (fun o_12 => zCk Z_6 o_12 5 6 <| nn o_12 fun a_13 => bnd (cm_X0_shutsBy_L32 gp a0 a1 a2 a3 a_13 7 0 Z_6) (fun Z_44 => bnd (cm_X0_shutsBy_L97 gp a0 a3 31 0 Z_44) (fun Z_55 => cA Z_55.Sh a0 0 11 2 fun a_56 => zK Z_55 a_56 1 20 <| bnd (cm_X1_isShut Z_55 a_56) (un2 fun x_60 Z_61 => okI (isB x_60) <| some (x_60, Z_61))))))
abbrev rmX0_shutsBy : Room := rmD 9 235 94 1133
set_option maxHeartbeats 4000000 in
theorem metX0_shutsBy {l : Launch} {gp : Nat → Nat} {D : va_G} {K : Nat → ClassId} {Z0 : c_S} {a0 : Nat} {a1 : Nat} {a2 : Int32} {a3 : Int32} {r : Int32} {Z' : c_S} (h : cm_X0_shutsBy gp Z0 a0 a1 a2 a3 = some (r, Z')) : Met l yX0_shutsBy (ws_ yX0_shutsBy cX0_shutsBy 6 (some .boolean)) rmX0_shutsBy (z_Pc gp [.ref a0, .ref a1, .int a2, .int a3] D K Z0) (z_Q (.returned (some (.int r))) D K (z_A Z0) Z') 94 1133 (z_A Z0) := by
  refine d_met rfl (Nat.le_of_ble_eq_true rfl) ?_
  intro p e s m below meth c ls S hr hlk hnm hl hW hsz
  have S : CallFix p m c cX0_shutsBy 6 s ([.ref a0, .ref a1, .int a2, .int a3] : List Value).toArray lw_all RX0 := S
  have hx := S.1
  have hb := S.2.1
  have hl : lv_has ls 6 [(0, .ref a0), (1, .ref a1), (2, .int a2), (3, .int a3)] := hl
  have hnm : meth.name = "shutsBy" := hnm
  have Lp32 : ∀ (x0 : Nat) (x1 : Nat) (x2 : Int32) (x3 : Int32) (x4 : Nat) (E G : Nat) (n : Nat) (x5 : Int32) (Z : c_S) (out : (c_S)) (cells slots : Nat) (H : Heap) (locs : List Loc) (ls : Array Slot), cm_X0_shutsBy_L32 gp x0 x1 x2 x3 x4 n x5 Z = some out → z_W gp D K (z_A Z0) s Z H locs → lv_has ls 6 [(0, .ref x0), (1, .ref x1), (2, .int x2), (3, .int x3), (4, .ref x4), (5, .int x5)] → cells + n * 2 ≤ E → slots + n * 25 ≤ G → E ≤ 94 → G ≤ 1133 → (∀ (oZ : c_S), out = oZ → ∀ (H : Heap) (locs : List Loc) (ls : Array Slot), z_W gp D K (z_A Z0) s oZ H locs → lv_has ls 6 [(0, .ref x0), (3, .int x3)] → W p l e rmX0_shutsBy s m ([.ref a0, .ref a1, .int a2, .int a3] : List Value).toArray below meth c H locs E G (MQ below (z_Q (.returned (some (.int r))) D K (z_A Z0) Z') ([.ref a0, .ref a1, .int a2, .int a3] : List Value).toArray s 94 1133 (z_A Z0)) (F0 m 94 ls [])) → W p l e rmX0_shutsBy s m ([.ref a0, .ref a1, .int a2, .int a3] : List Value).toArray below meth c H locs cells slots (MQ below (z_Q (.returned (some (.int r))) D K (z_A Z0) Z') ([.ref a0, .ref a1, .int a2, .int a3] : List Value).toArray s 94 1133 (z_A Z0)) (F0 m 32 ls []) := by
    intro x0 x1 x2 x3 x4 E G n
    induction n with
    | zero =>
      intro x5 Z out cells slots H locs ls h
      exact (lp_0 h).elim
    | succ n ih =>
      intro x5 Z out cells slots H locs ls h hW hl hcl hsl hE hG k1
      have hcl := nsucc hcl
      have hsl := nsucc hsl
      rw [cm_X0_shutsBy_L32_s] at h
      unfold cm_X0_shutsBy_B32 at h
      refine lv_iload hx hb dX0_shutsBy_32 (lv_at hl 5 rfl) ?_
      refine lv_aload_n hx hb dX0_shutsBy_34 rfl (lv_at hl 1 rfl) ?_
      obtain ⟨⟨_, k_14⟩, h⟩ := zK_some h
      obtain ⟨x_17, h_15, h⟩ := bnd_some h
      refine d_callV (As := []) (rest := [.int x5]) S hW (metX7_many h_15) (cwX7_many_V S.2.2.2.2 q1412 ⟨Nat.le_of_ble_eq_true rfl, Nat.le_of_ble_eq_true rfl⟩) k_14 rfl rfl hl.1 rfl (Nat.le_of_ble_eq_true rfl) dX0_shutsBy_35 ⟨(show _ ≤ 94 from by omega), (show _ ≤ 1133 from by omega)⟩ rfl (fun H locs hW => ?_)
      refine lv_icmp_ge (tgt := 94) hx hb dX0_shutsBy_38 (by decide) (fun c_18 => ?_) (fun c_18 => ?_)
      · have h := if_t h c_18
        exact W.widen (by omega) (by omega) (k1 _ (Option.some.inj h).symm _ _ _ hW (lv_sub hl [0, 3] rfl))
      · have h := if_f h c_18
        refine lv_iload_n hx hb dX0_shutsBy_41 rfl (lv_at hl 2 rfl) ?_
        refine lv_iload hx hb dX0_shutsBy_42 (lv_at hl 5 rfl) ?_
        refine lv_ishr hx hb dX0_shutsBy_44 ?_
        refine lv_iconst (v := 1) hx hb dX0_shutsBy_45 (by decide) ?_
        refine lv_iand hx hb dX0_shutsBy_46 ?_
        refine lv_iconst (v := 1) hx hb dX0_shutsBy_47 (by decide) ?_
        refine lv_icmp_ne (tgt := 88) hx hb dX0_shutsBy_48 (by decide) (fun c_19 => ?_) (fun c_19 => ?_)
        · have h := if_f h c_19
          obtain ⟨x_20, e_21, h⟩ := nmI_some h
          refine lv_iinc (v := x_20) (lv' := [(5, .int x_20), (0, .ref x0), (1, .ref x1), (2, .int x2), (3, .int x3), (4, .ref x4)]) hx hb dX0_shutsBy_88 hl (k := 5) rfl (by rw [e_21]; rfl) (by decide) rfl (fun ls hl => ?_)
          refine lv_goto (tgt := 32) hx hb dX0_shutsBy_91 (by decide) ?_
          exact ih x_20 Z out cells slots _ _ _ h hW (lv_sub hl [1, 2, 3, 4, 5, 0] rfl) (by omega) (by omega) hE hG k1
        · have h := if_t h c_19
          refine lv_aload_n hx hb dX0_shutsBy_51 rfl (lv_at hl 0 rfl) ?_
          refine zw_getA S hW zC_X0 (i := 2) (by decide) (Or.inl q757) (fun _ h => h) dX0_shutsBy_52 h (fun a_22 h => ?_)
          refine zw_getA S hW zC_X1 (i := 5) (by decide) (Or.inr ⟨_, nestW_in q676 rfl⟩) (fun _ h => h) dX0_shutsBy_55 h (fun a_23 h => ?_)
          refine zw_new S hW zC_X5 q1195 q530 q115 (show _ ≤ 94 from by omega) (show _ ≤ 1133 from by omega) dX0_shutsBy_58 h (fun Z_24 a_25 h H hW => ?_)
          refine lv_dup hx hb dX0_shutsBy_61 rfl ?_
          refine lv_aload_n hx hb dX0_shutsBy_62 rfl (lv_at hl 1 rfl) ?_
          refine lv_iload hx hb dX0_shutsBy_63 (lv_at hl 5 rfl) ?_
          obtain ⟨⟨_, k_26⟩, h⟩ := zK_some h
          obtain ⟨x_29, h_27, h⟩ := bnd_some h
          refine d_callV (As := [.int x5]) (rest := [.ref a_25, .ref a_25, .ref a_23]) S hW (metX7_number h_27) (cwX7_number_V S.2.2.2.2 q1420 ⟨Nat.le_of_ble_eq_true rfl, Nat.le_of_ble_eq_true rfl⟩) k_26 rfl rfl hl.1 rfl (Nat.le_of_ble_eq_true rfl) dX0_shutsBy_65 ⟨(show _ ≤ 94 from by omega), (show _ ≤ 1133 from by omega)⟩ rfl (fun H locs hW => ?_)
          refine lv_l2i (v := x_29.toInt32) hx hb dX0_shutsBy_68 rfl ?_
          refine lv_aload hx hb dX0_shutsBy_69 (lv_at hl 4 rfl) ?_
          refine zw_getI S hW zC_X5 (i := 1) (by decide) (Or.inr ⟨_, nestW_in q541 rfl⟩) (fun _ h => h) dX0_shutsBy_71 h (fun x_30 h => ?_)
          refine lv_aload hx hb dX0_shutsBy_74 (lv_at hl 4 rfl) ?_
          refine zw_getI S hW zC_X5 (i := 2) (by decide) (Or.inr ⟨_, nestW_in q544 rfl⟩) (fun _ h => h) dX0_shutsBy_76 h (fun x_31 h => ?_)
          obtain ⟨Z_34, h_32, h⟩ := bnd_some h
          refine d_callI (As := [.int x_29.toInt32, .int x_30, .int x_31]) (rest := [.ref a_25, .ref a_23]) S hW (metX5_init h_32) (cwX5_init_I S.2.2.2.2 q1438 ⟨Nat.le_of_ble_eq_true rfl, Nat.le_of_ble_eq_true rfl⟩) rfl hl.1 rfl (Nat.le_of_ble_eq_true rfl) dX0_shutsBy_79 ⟨(show _ ≤ 94 from by omega), (show _ ≤ 1133 from by omega)⟩ rfl (fun H locs hW => ?_)
          obtain ⟨⟨_, k_35⟩, h⟩ := zK_some h
          obtain ⟨x_38, Z_39, h_36, h⟩ := bnd2_some h
          refine d_callF (As := [.ref a_25]) (rest := []) S hW (metJ2_add h_36) (cwJ2_add_F S.2.2.2.2 q1440 (hW.1.2.2.2.2.1.2.2.2.2.2.2.1 _ (List.mem_of_getElem? (i := 3) rfl)) ⟨Nat.le_of_ble_eq_true rfl, Nat.le_of_ble_eq_true rfl⟩) k_35 rfl rfl hl.1 rfl (Nat.le_of_ble_eq_true rfl) dX0_shutsBy_82 ⟨(show _ ≤ 94 from by omega), (show _ ≤ 1133 from by omega)⟩ rfl (fun H locs hW => ?_)
          refine lv_pop hx hb dX0_shutsBy_87 rfl ?_
          obtain ⟨x_40, e_41, h⟩ := nmI_some h
          refine lv_iinc (v := x_40) (lv' := [(5, .int x_40), (0, .ref x0), (1, .ref x1), (2, .int x2), (3, .int x3), (4, .ref x4)]) hx hb dX0_shutsBy_88 hl (k := 5) rfl (by rw [e_41]; rfl) (by decide) rfl (fun ls hl => ?_)
          refine lv_goto (tgt := 32) hx hb dX0_shutsBy_91 (by decide) ?_
          exact ih x_40 Z_39 out (cells + 2) (slots + 25) _ _ _ h hW (lv_sub hl [1, 2, 3, 4, 5, 0] rfl) (by omega) (by omega) hE hG k1
  have Lp97 : ∀ (x0 : Nat) (x3 : Int32) (E G : Nat) (n : Nat) (x5 : Int32) (Z : c_S) (out : (c_S)) (cells slots : Nat) (H : Heap) (locs : List Loc) (ls : Array Slot), cm_X0_shutsBy_L97 gp x0 x3 n x5 Z = some out → z_W gp D K (z_A Z0) s Z H locs → lv_has ls 6 [(0, .ref x0), (3, .int x3), (5, .int x5)] → cells + n * 0 ≤ E → slots + n * 0 ≤ G → E ≤ 94 → G ≤ 1133 → (∀ (oZ : c_S), out = oZ → ∀ (H : Heap) (locs : List Loc) (ls : Array Slot), z_W gp D K (z_A Z0) s oZ H locs → lv_has ls 6 [(0, .ref x0)] → W p l e rmX0_shutsBy s m ([.ref a0, .ref a1, .int a2, .int a3] : List Value).toArray below meth c H locs E G (MQ below (z_Q (.returned (some (.int r))) D K (z_A Z0) Z') ([.ref a0, .ref a1, .int a2, .int a3] : List Value).toArray s 94 1133 (z_A Z0)) (F0 m 116 ls [])) → W p l e rmX0_shutsBy s m ([.ref a0, .ref a1, .int a2, .int a3] : List Value).toArray below meth c H locs cells slots (MQ below (z_Q (.returned (some (.int r))) D K (z_A Z0) Z') ([.ref a0, .ref a1, .int a2, .int a3] : List Value).toArray s 94 1133 (z_A Z0)) (F0 m 97 ls []) := by
    intro x0 x3 E G n
    induction n with
    | zero =>
      intro x5 Z out cells slots H locs ls h
      exact (lp_0 h).elim
    | succ n ih =>
      intro x5 Z out cells slots H locs ls h hW hl hcl hsl hE hG k1
      rw [cm_X0_shutsBy_L97_s] at h
      unfold cm_X0_shutsBy_B97 at h
      refine lv_iload hx hb dX0_shutsBy_97 (lv_at hl 2 rfl) ?_
      refine lv_iload_n hx hb dX0_shutsBy_99 rfl (lv_at hl 1 rfl) ?_
      refine lv_icmp_ge (tgt := 116) hx hb dX0_shutsBy_100 (by decide) (fun c_45 => ?_) (fun c_45 => ?_)
      · have h := if_t h c_45
        exact W.widen (by omega) (by omega) (k1 _ (Option.some.inj h).symm _ _ _ hW (lv_sub hl [0] rfl))
      · have h := if_f h c_45
        refine lv_aload_n hx hb dX0_shutsBy_103 rfl (lv_at hl 0 rfl) ?_
        refine zw_getA S hW zC_X0 (i := 2) (by decide) (Or.inl q757) (fun _ h => h) dX0_shutsBy_104 h (fun a_46 h => ?_)
        obtain ⟨⟨_, k_47⟩, h⟩ := zK_some h
        obtain ⟨Z_50, h_48, h⟩ := bnd_some h
        refine d_callV (As := []) (rest := []) S hW (metX1_ticks h_48) (cwX1_ticks_V S.2.2.2.2 q1104 ⟨Nat.le_of_ble_eq_true rfl, Nat.le_of_ble_eq_true rfl⟩) k_47 rfl rfl hl.1 rfl (Nat.le_of_ble_eq_true rfl) dX0_shutsBy_107 ⟨(show _ ≤ 94 from by omega), (show _ ≤ 1133 from by omega)⟩ rfl (fun H locs hW => ?_)
        obtain ⟨x_51, e_52, h⟩ := nmI_some h
        refine lv_iinc (v := x_51) (lv' := [(5, .int x_51), (0, .ref x0), (3, .int x3)]) hx hb dX0_shutsBy_110 hl (k := 2) rfl (by rw [e_52]; rfl) (by decide) rfl (fun ls hl => ?_)
        refine lv_goto (tgt := 97) hx hb dX0_shutsBy_113 (by decide) ?_
        exact ih x_51 Z_50 out cells slots _ _ _ h hW (lv_sub hl [1, 2, 0] rfl) (by omega) (by omega) hE hG k1
  unfold cm_X0_shutsBy at h
  refine lv_aload_n hx hb dX0_shutsBy_0 rfl (lv_at hl 0 rfl) ?_
  refine zw_getA S hW zC_X0 (i := 2) (by decide) (Or.inl q757) (fun _ h => h) dX0_shutsBy_1 h (fun a_1 h => ?_)
  refine lv_aload_n hx hb dX0_shutsBy_4 rfl (lv_at hl 0 rfl) ?_
  refine zw_getA S hW zC_X0 (i := 1) (by decide) (Or.inl q756) (fun _ h => h) dX0_shutsBy_5 h (fun a_2 h => ?_)
  obtain ⟨⟨_, k_3⟩, h⟩ := zK_some h
  obtain ⟨Z_6, h_4, h⟩ := bnd_some h
  refine d_callV (As := [.ref a_2]) (rest := []) S hW (metX1_becomes h_4) (cwX1_becomes_V S.2.2.2.2 q1398 ⟨Nat.le_of_ble_eq_true rfl, Nat.le_of_ble_eq_true rfl⟩) k_3 rfl rfl hl.1 rfl (Nat.le_of_ble_eq_true rfl) dX0_shutsBy_8 ⟨(Nat.le_of_ble_eq_true rfl), (Nat.le_of_ble_eq_true rfl)⟩ rfl (fun H locs hW => ?_)
  refine lv_aload_n hx hb dX0_shutsBy_11 rfl (lv_at hl 0 rfl) ?_
  refine zw_getA S hW zC_X0 (i := 1) (by decide) (Or.inl q756) (fun _ h => h) dX0_shutsBy_12 h (fun a_7 h => ?_)
  refine zw_getA S hW zC_X1 (i := 5) (by decide) (Or.inr ⟨_, nestW_in q676 rfl⟩) (fun _ h => h) dX0_shutsBy_15 h (fun a_8 h => ?_)
  refine lv_iconst (v := 0) hx hb dX0_shutsBy_18 (by decide) ?_
  obtain ⟨⟨_, k_9⟩, h⟩ := zK_some h
  obtain ⟨o_12, h_10, h⟩ := bnd_some h
  refine d_callF (As := [.int 0]) (rest := []) S hW (metJ2_get h_10) (cwJ2_get_F S.2.2.2.2 q1194 (hW.1.2.2.2.2.1.2.2.2.2.2.2.1 _ (List.mem_of_getElem? (i := 2) rfl)) ⟨Nat.le_of_ble_eq_true rfl, Nat.le_of_ble_eq_true rfl⟩) k_9 rfl rfl hl.1 rfl (Nat.le_of_ble_eq_true rfl) dX0_shutsBy_19 ⟨(Nat.le_of_ble_eq_true rfl), (Nat.le_of_ble_eq_true rfl)⟩ rfl (fun H locs hW => ?_)
  refine zw_ck (o := o_12) S hW zC_X5 q1195 dX0_shutsBy_24 h (fun h => ?_)
  have h9 := nn_some h
  clear h
  obtain ⟨a_13, rfl, h8⟩ := h9
  have h := h8
  clear h8
  refine lv_astore (lv' := [(4, .ref a_13), (0, .ref a0), (1, .ref a1), (2, .int a2), (3, .int a3)]) hx hb dX0_shutsBy_27 hl (by decide) rfl (fun ls hl => ?_)
  refine lv_iconst (v := 0) hx hb dX0_shutsBy_29 (by decide) ?_
  refine lv_istore (lv' := [(5, .int 0), (4, .ref a_13), (0, .ref a0), (1, .ref a1), (2, .int a2), (3, .int a3)]) hx hb dX0_shutsBy_30 hl (by decide) rfl (fun ls hl => ?_)
  obtain ⟨Z_44, h_43, h⟩ := bnd_some h
  refine Lp32 a0 a1 a2 a3 a_13 94 1133 7 0 Z_6  _ 80 958 _ _ _ h_43 hW (lv_sub hl [2, 3, 4, 5, 1, 0] rfl) (by omega) (by omega) (by omega) (by omega) ?_
  intro w0 eo H locs ls hW hl
  subst eo
  refine lv_iconst (v := 0) hx hb dX0_shutsBy_94 (by decide) ?_
  refine lv_istore (lv' := [(5, .int 0), (0, .ref a0), (3, .int a3)]) hx hb dX0_shutsBy_95 hl (by decide) rfl (fun ls hl => ?_)
  obtain ⟨Z_55, h_54, h⟩ := bnd_some h
  refine Lp97 a0 a3 94 1133 31 0 Z_44  _ 94 1133 _ _ _ h_54 hW (lv_sub hl [1, 2, 0] rfl) (by omega) (by omega) (by omega) (by omega) ?_
  intro w0 eo H locs ls hW hl
  subst eo
  refine lv_aload_n hx hb dX0_shutsBy_116 rfl (lv_at hl 0 rfl) ?_
  refine zw_getA S hW zC_X0 (i := 2) (by decide) (Or.inl q757) (fun _ h => h) dX0_shutsBy_117 h (fun a_56 h => ?_)
  obtain ⟨⟨_, k_57⟩, h⟩ := zK_some h
  obtain ⟨x_60, Z_61, h_58, h⟩ := bnd2_some h
  refine d_callV (As := []) (rest := []) S hW (metX1_isShut h_58) (cwX1_isShut_V S.2.2.2.2 q1231 ⟨Nat.le_of_ble_eq_true rfl, Nat.le_of_ble_eq_true rfl⟩) k_57 rfl rfl hl.1 rfl (Nat.le_of_ble_eq_true rfl) dX0_shutsBy_120 ⟨(Nat.le_of_ble_eq_true rfl), (Nat.le_of_ble_eq_true rfl)⟩ rfl (fun H locs hW => ?_)
  obtain ⟨h_62, h⟩ := okI_some h
  cases h
  exact d_zret S hr hlk (isB_narrow h_62) hW (Nat.le_of_ble_eq_true rfl) (Nat.le_of_ble_eq_true rfl) dX0_shutsBy_123
def cm_X0_back (gp : Nat → Nat) (Z0 : c_S) (a0 : Nat) (a1 : Int32) : Option (Int32 × c_S) :=
  bnd (cm_X0_in a1.toInt64 0 2) (fun x_3 => if x_3 = 0 then (some ((-2), Z0)) else (cA Z0.Sh a0 0 11 3 fun a_5 => caR Z0.Sh 9 a_5 a1 fun o_6 => zNl o_6 (some ((-6), Z0)) (fun a_7 => cA Z0.Sh a0 0 11 1 fun a_8 => cA Z0.Sh a0 0 11 3 fun a_9 => caR Z0.Sh 9 a_9 a1 fun o_10 => nn o_10 fun a_11 => zK Z0 a_8 1 20 <| bnd (cm_X1_becomes gp Z0 a_8 a_11) (fun Z_15 => some (0, Z_15)))))
abbrev rmX0_back : Room := rmD 9 235 80 958
set_option maxHeartbeats 4000000 in
theorem metX0_back {l : Launch} {gp : Nat → Nat} {D : va_G} {K : Nat → ClassId} {Z0 : c_S} {a0 : Nat} {a1 : Int32} {r : Int32} {Z' : c_S} (h : cm_X0_back gp Z0 a0 a1 = some (r, Z')) : Met l yX0_back (ws_ yX0_back cX0_back 2 (some .int)) rmX0_back (z_Pc gp [.ref a0, .int a1] D K Z0) (z_Q (.returned (some (.int r))) D K (z_A Z0) Z') 80 958 (z_A Z0) := by
  refine d_met rfl (Nat.le_of_ble_eq_true rfl) ?_
  intro p e s m below meth c ls S hr hlk hnm hl hW hsz
  have S : CallFix p m c cX0_back 2 s ([.ref a0, .int a1] : List Value).toArray lw_all RX0 := S
  have hx := S.1
  have hb := S.2.1
  have hl : lv_has ls 2 [(0, .ref a0), (1, .int a1)] := hl
  have hnm : meth.name = "back" := hnm
  unfold cm_X0_back at h
  refine lv_iload_n hx hb dX0_back_0 rfl (lv_at hl 1 rfl) ?_
  refine lv_i2l (v := a1.toInt64) hx hb dX0_back_1 rfl ?_
  refine lv_lconst (v := 0) hx hb dX0_back_2 (by decide) ?_
  refine lv_ldc2 (v := 2) hx hb S.2.2.2.1 (S.2.2.2.2 _ q1474) dX0_back_3 ?_
  obtain ⟨x_3, h_1, h⟩ := bnd_some h
  refine d_callS (As := [.long a1.toInt64, .long 0, .long 2]) (rest := []) S hW (metX0_in h_1) (cwX0_in_S S.2.2.2.2 q149 ⟨Nat.le_of_ble_eq_true rfl, Nat.le_of_ble_eq_true rfl⟩) rfl hl.1 rfl (Nat.le_of_ble_eq_true rfl) dX0_back_6 ⟨(Nat.le_of_ble_eq_true rfl), (Nat.le_of_ble_eq_true rfl)⟩ rfl (fun H locs hW => ?_)
  refine lv_if_ne (tgt := 15) hx hb dX0_back_9 (by decide) (fun c_4 => ?_) (fun c_4 => ?_)
  · have h := if_f h c_4
    refine lv_aload_n hx hb dX0_back_15 rfl (lv_at hl 0 rfl) ?_
    refine zw_getA S hW zC_X0 (i := 3) (by decide) (Or.inl q758) (fun _ h => h) dX0_back_16 h (fun a_5 h => ?_)
    refine lv_iload_n hx hb dX0_back_19 rfl (lv_at hl 1 rfl) ?_
    refine zw_aald (t := 9) S hW rfl dX0_back_20 h (fun o_6 h => ?_)
    refine z_ifnonnull (tgt := 27) hx hb dX0_back_21 (by decide) h (fun a_7 eo h9 => ?_) (fun eo h9 => ?_)
    · subst eo; have h := h9; clear h9
      refine lv_aload_n hx hb dX0_back_27 rfl (lv_at hl 0 rfl) ?_
      refine zw_getA S hW zC_X0 (i := 1) (by decide) (Or.inl q756) (fun _ h => h) dX0_back_28 h (fun a_8 h => ?_)
      refine lv_aload_n hx hb dX0_back_31 rfl (lv_at hl 0 rfl) ?_
      refine zw_getA S hW zC_X0 (i := 3) (by decide) (Or.inl q758) (fun _ h => h) dX0_back_32 h (fun a_9 h => ?_)
      refine lv_iload_n hx hb dX0_back_35 rfl (lv_at hl 1 rfl) ?_
      refine zw_aald (t := 9) S hW rfl dX0_back_36 h (fun o_10 h => ?_)
      have h9 := nn_some h
      clear h
      obtain ⟨a_11, rfl, h8⟩ := h9
      have h := h8
      clear h8
      obtain ⟨⟨_, k_12⟩, h⟩ := zK_some h
      obtain ⟨Z_15, h_13, h⟩ := bnd_some h
      refine d_callV (As := [.ref a_11]) (rest := []) S hW (metX1_becomes h_13) (cwX1_becomes_V S.2.2.2.2 q1398 ⟨Nat.le_of_ble_eq_true rfl, Nat.le_of_ble_eq_true rfl⟩) k_12 rfl rfl hl.1 rfl (Nat.le_of_ble_eq_true rfl) dX0_back_37 ⟨(Nat.le_of_ble_eq_true rfl), (Nat.le_of_ble_eq_true rfl)⟩ rfl (fun H locs hW => ?_)
      refine lv_iconst (v := 0) hx hb dX0_back_40 (by decide) ?_
      cases h
      exact d_iret S hr hlk hW (Nat.le_of_ble_eq_true rfl) (Nat.le_of_ble_eq_true rfl) dX0_back_41
    · subst eo; have h := h9; clear h9
      refine lv_bipush (v := (-6)) hx hb dX0_back_24 (by decide) ?_
      cases h
      exact d_iret S hr hlk hW (Nat.le_of_ble_eq_true rfl) (Nat.le_of_ble_eq_true rfl) dX0_back_26
  · have h := if_t h c_4
    refine lv_bipush (v := (-2)) hx hb dX0_back_12 (by decide) ?_
    cases h
    exact d_iret S hr hlk hW (Nat.le_of_ble_eq_true rfl) (Nat.le_of_ble_eq_true rfl) dX0_back_14
def cm_X1_init (gp : Nat → Nat) (Z0 : c_S) (a0 : Nat) (a1 : Nat) : Option (c_S) :=
  zNewI Z0 0 144 fun Z_1 a_2 => zPR Z_1 a0 1 20 1 (some a_2) fun Z_3 => zNewI Z_3 0 144 fun Z_4 a_5 => zPR Z_4 a0 1 20 2 (some a_5) fun Z_6 => zNewI Z_6 0 144 fun Z_7 a_8 => zPR Z_7 a0 1 20 3 (some a_8) fun Z_9 => zNewI Z_9 2 144 fun Z_10 a_11 => zPR Z_10 a0 1 20 4 (some a_11) fun Z_12 => zNew Z_12 14 3 tyJ2 fun Z_13 a_14 => bnd (cm_J2_init Z_13 a_14 4) (fun Z_17 => zPR Z_17 a0 1 20 5 (some a_14) fun Z_18 => zNew Z_18 14 3 tyJ2 fun Z_19 a_20 => bnd (cm_J2_init Z_19 a_20 4) (fun Z_23 => zPR Z_23 a0 1 20 6 (some a_20) fun Z_24 => zNewI Z_24 0 10 fun Z_25 a_26 => zPR Z_25 a0 1 20 7 (some a_26) fun Z_27 => zNewI Z_27 0 10 fun Z_28 a_29 => zPR Z_28 a0 1 20 8 (some a_29) fun Z_30 => zNewI Z_30 0 144 fun Z_31 a_32 => zPR Z_31 a0 1 20 18 (some a_32) fun Z_33 => zNewI Z_33 0 580 fun Z_34 a_35 => zPR Z_34 a0 1 20 19 (some a_35) fun Z_36 => zK Z_36 a0 1 20 <| bnd (cm_X1_begins gp Z_36 a0 a1) (fun Z_40 => some Z_40)))
abbrev rmX1_init : Room := rmD 8 213 52 1813
set_option maxHeartbeats 4000000 in
theorem metX1_init {l : Launch} {gp : Nat → Nat} {D : va_G} {K : Nat → ClassId} {Z0 : c_S} {a0 : Nat} {a1 : Nat} {Z' : c_S} (h : cm_X1_init gp Z0 a0 a1 = some Z') : Met l yX1_init (ws_ yX1_init cX1_init 2 (none)) rmX1_init (z_Pc gp [.ref a0, .ref a1] D K Z0) (z_Q (.returned (none)) D K (z_A Z0) Z') 52 1813 (z_A Z0) := by
  refine d_met rfl (Nat.le_of_ble_eq_true rfl) ?_
  intro p e s m below meth c ls S hr hlk hnm hl hW hsz
  have S : CallFix p m c cX1_init 2 s ([.ref a0, .ref a1] : List Value).toArray lw_all RX1 := S
  have hx := S.1
  have hb := S.2.1
  have hl : lv_has ls 2 [(0, .ref a0), (1, .ref a1)] := hl
  have hnm : meth.name = "<init>" := hnm
  unfold cm_X1_init at h
  refine lv_aload_n hx hb dX1_init_0 rfl (lv_at hl 0 rfl) ?_
  refine zw_oinit S q479 hl.1 (Nat.le_of_ble_eq_true rfl) (z_ro (Nat.le_of_ble_eq_true rfl)) (Nat.le_of_ble_eq_true rfl) dX1_init_1 ?_
  refine lv_aload_n hx hb dX1_init_4 rfl (lv_at hl 0 rfl) ?_
  refine lv_sipush (v := 144) hx hb dX1_init_5 (by decide) ?_
  refine zw_newi (atype := .int) (t := 0) (N := 144) S hW q245 rfl rfl (fun h => h) (by decide) rfl (by decide) (Nat.le_of_ble_eq_true rfl) (Nat.le_of_ble_eq_true rfl) dX1_init_8 h (fun Z_1 a_2 h H hW => ?_)
  refine zw_putR (o := some a_2) S hW zC_X1 (i := 1) (by decide) (Or.inr ⟨rfl, hnm, rfl, q668⟩) rfl (Or.inl q668) (fun _ h => h) dX1_init_10 h (fun Z_3 h H locs hW => ?_)
  refine lv_aload_n hx hb dX1_init_13 rfl (lv_at hl 0 rfl) ?_
  refine lv_sipush (v := 144) hx hb dX1_init_14 (by decide) ?_
  refine zw_newi (atype := .int) (t := 0) (N := 144) S hW q245 rfl rfl (fun h => h) (by decide) rfl (by decide) (Nat.le_of_ble_eq_true rfl) (Nat.le_of_ble_eq_true rfl) dX1_init_17 h (fun Z_4 a_5 h H hW => ?_)
  refine zw_putR (o := some a_5) S hW zC_X1 (i := 2) (by decide) (Or.inr ⟨rfl, hnm, rfl, q670⟩) rfl (Or.inl q670) (fun _ h => h) dX1_init_19 h (fun Z_6 h H locs hW => ?_)
  refine lv_aload_n hx hb dX1_init_22 rfl (lv_at hl 0 rfl) ?_
  refine lv_sipush (v := 144) hx hb dX1_init_23 (by decide) ?_
  refine zw_newi (atype := .int) (t := 0) (N := 144) S hW q245 rfl rfl (fun h => h) (by decide) rfl (by decide) (Nat.le_of_ble_eq_true rfl) (Nat.le_of_ble_eq_true rfl) dX1_init_26 h (fun Z_7 a_8 h H hW => ?_)
  refine zw_putR (o := some a_8) S hW zC_X1 (i := 3) (by decide) (Or.inr ⟨rfl, hnm, rfl, q672⟩) rfl (Or.inl q672) (fun _ h => h) dX1_init_28 h (fun Z_9 h H locs hW => ?_)
  refine lv_aload_n hx hb dX1_init_31 rfl (lv_at hl 0 rfl) ?_
  refine lv_sipush (v := 144) hx hb dX1_init_32 (by decide) ?_
  refine zw_newi (atype := .boolean) (t := 2) (N := 144) S hW q567 rfl rfl (fun h => h) (by decide) rfl (by decide) (Nat.le_of_ble_eq_true rfl) (Nat.le_of_ble_eq_true rfl) dX1_init_35 h (fun Z_10 a_11 h H hW => ?_)
  refine zw_putR (o := some a_11) S hW zC_X1 (i := 4) (by decide) (Or.inr ⟨rfl, hnm, rfl, q673⟩) rfl (Or.inl q673) (fun _ h => h) dX1_init_37 h (fun Z_12 h H locs hW => ?_)
  refine lv_aload_n hx hb dX1_init_40 rfl (lv_at hl 0 rfl) ?_
  refine zw_new S hW zC_J2 q480 q361 q110 (Nat.le_of_ble_eq_true rfl) (Nat.le_of_ble_eq_true rfl) dX1_init_41 h (fun Z_13 a_14 h H hW => ?_)
  refine lv_dup hx hb dX1_init_44 rfl ?_
  refine lv_iconst (v := 4) hx hb dX1_init_45 (by decide) ?_
  obtain ⟨Z_17, h_15, h⟩ := bnd_some h
  refine d_callI (As := [.int 4]) (rest := [.ref a_14, .ref a0]) S hW (metJ2_init h_15) (cwJ2_init_I S.2.2.2.2 q481 ⟨Nat.le_of_ble_eq_true rfl, Nat.le_of_ble_eq_true rfl⟩) rfl hl.1 rfl (Nat.le_of_ble_eq_true rfl) dX1_init_46 ⟨(Nat.le_of_ble_eq_true rfl), (Nat.le_of_ble_eq_true rfl)⟩ rfl (fun H locs hW => ?_)
  refine zw_putR (o := some a_14) S hW zC_X1 (i := 5) (by decide) (Or.inr ⟨rfl, hnm, rfl, q675⟩) rfl (Or.inl q675) (fun _ h => h) dX1_init_49 h (fun Z_18 h H locs hW => ?_)
  refine lv_aload_n hx hb dX1_init_52 rfl (lv_at hl 0 rfl) ?_
  refine zw_new S hW zC_J2 q480 q361 q110 (Nat.le_of_ble_eq_true rfl) (Nat.le_of_ble_eq_true rfl) dX1_init_53 h (fun Z_19 a_20 h H hW => ?_)
  refine lv_dup hx hb dX1_init_56 rfl ?_
  refine lv_iconst (v := 4) hx hb dX1_init_57 (by decide) ?_
  obtain ⟨Z_23, h_21, h⟩ := bnd_some h
  refine d_callI (As := [.int 4]) (rest := [.ref a_20, .ref a0]) S hW (metJ2_init h_21) (cwJ2_init_I S.2.2.2.2 q481 ⟨Nat.le_of_ble_eq_true rfl, Nat.le_of_ble_eq_true rfl⟩) rfl hl.1 rfl (Nat.le_of_ble_eq_true rfl) dX1_init_58 ⟨(Nat.le_of_ble_eq_true rfl), (Nat.le_of_ble_eq_true rfl)⟩ rfl (fun H locs hW => ?_)
  refine zw_putR (o := some a_20) S hW zC_X1 (i := 6) (by decide) (Or.inr ⟨rfl, hnm, rfl, q677⟩) rfl (Or.inl q677) (fun _ h => h) dX1_init_61 h (fun Z_24 h H locs hW => ?_)
  refine lv_aload_n hx hb dX1_init_64 rfl (lv_at hl 0 rfl) ?_
  refine lv_bipush (v := 10) hx hb dX1_init_65 (by decide) ?_
  refine zw_newi (atype := .int) (t := 0) (N := 10) S hW q245 rfl rfl (fun h => h) (by decide) rfl (by decide) (Nat.le_of_ble_eq_true rfl) (Nat.le_of_ble_eq_true rfl) dX1_init_67 h (fun Z_25 a_26 h H hW => ?_)
  refine zw_putR (o := some a_26) S hW zC_X1 (i := 7) (by decide) (Or.inr ⟨rfl, hnm, rfl, q679⟩) rfl (Or.inl q679) (fun _ h => h) dX1_init_69 h (fun Z_27 h H locs hW => ?_)
  refine lv_aload_n hx hb dX1_init_72 rfl (lv_at hl 0 rfl) ?_
  refine lv_bipush (v := 10) hx hb dX1_init_73 (by decide) ?_
  refine zw_newi (atype := .int) (t := 0) (N := 10) S hW q245 rfl rfl (fun h => h) (by decide) rfl (by decide) (Nat.le_of_ble_eq_true rfl) (Nat.le_of_ble_eq_true rfl) dX1_init_75 h (fun Z_28 a_29 h H hW => ?_)
  refine zw_putR (o := some a_29) S hW zC_X1 (i := 8) (by decide) (Or.inr ⟨rfl, hnm, rfl, q681⟩) rfl (Or.inl q681) (fun _ h => h) dX1_init_77 h (fun Z_30 h H locs hW => ?_)
  refine lv_aload_n hx hb dX1_init_80 rfl (lv_at hl 0 rfl) ?_
  refine lv_sipush (v := 144) hx hb dX1_init_81 (by decide) ?_
  refine zw_newi (atype := .int) (t := 0) (N := 144) S hW q245 rfl rfl (fun h => h) (by decide) rfl (by decide) (Nat.le_of_ble_eq_true rfl) (Nat.le_of_ble_eq_true rfl) dX1_init_84 h (fun Z_31 a_32 h H hW => ?_)
  refine zw_putR (o := some a_32) S hW zC_X1 (i := 18) (by decide) (Or.inr ⟨rfl, hnm, rfl, q701⟩) rfl (Or.inl q701) (fun _ h => h) dX1_init_86 h (fun Z_33 h H locs hW => ?_)
  refine lv_aload_n hx hb dX1_init_89 rfl (lv_at hl 0 rfl) ?_
  refine lv_sipush (v := 580) hx hb dX1_init_90 (by decide) ?_
  refine zw_newi (atype := .int) (t := 0) (N := 580) S hW q245 rfl rfl (fun h => h) (by decide) rfl (by decide) (Nat.le_of_ble_eq_true rfl) (Nat.le_of_ble_eq_true rfl) dX1_init_93 h (fun Z_34 a_35 h H hW => ?_)
  refine zw_putR (o := some a_35) S hW zC_X1 (i := 19) (by decide) (Or.inr ⟨rfl, hnm, rfl, q702⟩) rfl (Or.inl q702) (fun _ h => h) dX1_init_95 h (fun Z_36 h H locs hW => ?_)
  refine lv_aload_n hx hb dX1_init_98 rfl (lv_at hl 0 rfl) ?_
  refine lv_aload_n hx hb dX1_init_99 rfl (lv_at hl 1 rfl) ?_
  obtain ⟨⟨_, k_37⟩, h⟩ := zK_some h
  obtain ⟨Z_40, h_38, h⟩ := bnd_some h
  refine d_callV (As := [.ref a1]) (rest := []) S hW (metX1_begins h_38) (cwX1_begins_V S.2.2.2.2 q482 ⟨Nat.le_of_ble_eq_true rfl, Nat.le_of_ble_eq_true rfl⟩) k_37 rfl rfl hl.1 rfl (Nat.le_of_ble_eq_true rfl) dX1_init_100 ⟨(Nat.le_of_ble_eq_true rfl), (Nat.le_of_ble_eq_true rfl)⟩ rfl (fun H locs hW => ?_)
  cases h
  exact d_vret S hr hlk hW (Nat.le_of_ble_eq_true rfl) (Nat.le_of_ble_eq_true rfl) dX1_init_103
