/-! walks of the component: X3_oneOf X3_fails X3_number X3_takes X3_measure X5_copy X6_copy J2_get J2_grow_2 X0_pipeAt X0_run -/
set_option maxRecDepth 100000
def cm_X3_oneOf_B2 (gp : Nat → Nat) (x0 : Nat) (x1 : Nat) (Z : c_S) (rec : Int32 → Option (Int32)) (x2 : Int32) : Option (Int32) :=
  zLen Z x1 fun x_1 => if x_1 ≤ x2 then (some x2) else (caR Z.Sh 6 x1 x2 fun o_3 => nn o_3 fun a_4 => zK Z x0 3 11 <| bnd (cm_X3_is gp Z x0 a_4) (fun x_8 => if x_8 = 0 then (nmI (x2 + 1) fun x_10 => rec x_10) else (some x2)))
abbrev cm_X3_oneOf_F2 (gp : Nat → Nat) (x0 : Nat) (x1 : Nat) (Z : c_S) : (((Int32)) → Option (Int32)) → ((Int32)) → Option (Int32) := fun rec s => cm_X3_oneOf_B2 gp x0 x1 Z (fun x2 => rec x2) s
def cm_X3_oneOf_L2 (gp : Nat → Nat) (x0 : Nat) (x1 : Nat) (Z : c_S) (n : Nat) (x2 : Int32) : Option (Int32) := lp (cm_X3_oneOf_F2 gp x0 x1 Z) n x2
theorem cm_X3_oneOf_L2_s (gp : Nat → Nat) (x0 : Nat) (x1 : Nat) (Z : c_S) (n : Nat) (x2 : Int32) : cm_X3_oneOf_L2 gp x0 x1 Z (n + 1) x2 = cm_X3_oneOf_B2 gp x0 x1 Z (fun x2 => cm_X3_oneOf_L2 gp x0 x1 Z n x2) x2 := lp_s (cm_X3_oneOf_F2 gp x0 x1 Z) n x2
def cm_X3_oneOf (gp : Nat → Nat) (Z0 : c_S) (a0 : Nat) (a1 : Nat) : Option (Int32) :=
  bnd (cm_X3_oneOf_L2 gp a0 a1 Z0 1000 0) (fun x_14 => zLen Z0 a1 fun x_15 => if x_15 ≤ x_14 then (some (-1)) else (some x_14))
abbrev rmX3_oneOf : Room := rmD 5 143 0 0
theorem cwX3_is_V {own : String} {R : Room} {s : State} {args : Array Value} {index : Nat} (hts : ∀ w ∈ lw_all, w.before args s = true) (hl : Cond.methodLink own index yX3_is ∈ lw_all) (hR : rmX3_is.frames + 1 ≤ R.frames ∧ 8 + (4 + 11) + rmX3_is.locals ≤ R.locals) : CallW R s args own RX3 index yX3_is cX3_is 4 (some .boolean) (ws_ yX3_is cX3_is 4 (some .boolean)) rmX3_is 0 0 1 := cwV 1 hts (lw_V hl q883 qs12 q111 q884) rfl rfl rfl (by decide +kernel) hR
set_option maxHeartbeats 4000000 in
theorem metX3_oneOf {l : Launch} {gp : Nat → Nat} {D : va_G} {K : Nat → ClassId} {Z0 : c_S} {a0 : Nat} {a1 : Nat} {r : Int32} (h : cm_X3_oneOf gp Z0 a0 a1 = some r) : Met l yX3_oneOf (ws_ yX3_oneOf cX3_oneOf 3 (some .int)) rmX3_oneOf (z_Pc gp [.ref a0, .ref a1] D K Z0) (z_Q (.returned (some (.int r))) D K (z_A Z0) Z0) 0 0 (z_A Z0) := by
  refine d_met rfl (Nat.le_of_ble_eq_true rfl) ?_
  intro p e s m below meth c ls S hr hlk hnm hl hW hsz
  have S : CallFix p m c cX3_oneOf 3 s ([.ref a0, .ref a1] : List Value).toArray lw_all RX3 := S
  have hx := S.1
  have hb := S.2.1
  have hl : lv_has ls 3 [(0, .ref a0), (1, .ref a1)] := hl
  have hnm : meth.name = "oneOf" := hnm
  have Lp2 : ∀ (x0 : Nat) (x1 : Nat) (Z : c_S) (n : Nat) (x2 : Int32) (out : (Int32)) (H : Heap) (locs : List Loc) (ls : Array Slot), cm_X3_oneOf_L2 gp x0 x1 Z n x2 = some out → z_W gp D K (z_A Z0) s Z H locs → lv_has ls 3 [(0, .ref x0), (1, .ref x1), (2, .int x2)] → (∀ (o2 : Int32), out = o2 → ∀ (H : Heap) (locs : List Loc) (ls : Array Slot), z_W gp D K (z_A Z0) s Z H locs → lv_has ls 3 [(1, .ref x1), (2, .int o2)] → W p l e rmX3_oneOf s m ([.ref a0, .ref a1] : List Value).toArray below meth c H locs 0 0 (MQ below (z_Q (.returned (some (.int r))) D K (z_A Z0) Z0) ([.ref a0, .ref a1] : List Value).toArray s 0 0 (z_A Z0)) (F0 m 24 ls [])) → W p l e rmX3_oneOf s m ([.ref a0, .ref a1] : List Value).toArray below meth c H locs 0 0 (MQ below (z_Q (.returned (some (.int r))) D K (z_A Z0) Z0) ([.ref a0, .ref a1] : List Value).toArray s 0 0 (z_A Z0)) (F0 m 2 ls []) := by
    intro x0 x1 Z n
    induction n with
    | zero =>
      intro x2 out H locs ls h
      exact (lp_0 h).elim
    | succ n ih =>
      intro x2 out H locs ls h hW hl k1
      rw [cm_X3_oneOf_L2_s] at h
      unfold cm_X3_oneOf_B2 at h
      refine lv_iload_n hx hb dX3_oneOf_2 rfl (lv_at hl 2 rfl) ?_
      refine lv_aload_n hx hb dX3_oneOf_3 rfl (lv_at hl 1 rfl) ?_
      refine zw_len S hW dX3_oneOf_4 h (fun x_1 h => ?_)
      refine lv_icmp_ge (tgt := 24) hx hb dX3_oneOf_5 (by decide) (fun c_2 => ?_) (fun c_2 => ?_)
      · have h := if_t h c_2
        exact k1 _ (Option.some.inj h).symm _ _ _ hW (lv_sub hl [1, 2] rfl)
      · have h := if_f h c_2
        refine lv_aload_n hx hb dX3_oneOf_8 rfl (lv_at hl 0 rfl) ?_
        refine lv_aload_n hx hb dX3_oneOf_9 rfl (lv_at hl 1 rfl) ?_
        refine lv_iload_n hx hb dX3_oneOf_10 rfl (lv_at hl 2 rfl) ?_
        refine zw_aald (t := 6) S hW rfl dX3_oneOf_11 h (fun o_3 h => ?_)
        have h9 := nn_some h
        clear h
        obtain ⟨a_4, rfl, h8⟩ := h9
        have h := h8
        clear h8
        obtain ⟨⟨_, k_5⟩, h⟩ := zK_some h
        obtain ⟨x_8, h_6, h⟩ := bnd_some h
        refine d_callV (As := [.ref a_4]) (rest := []) S hW (metX3_is h_6) (cwX3_is_V S.2.2.2.2 q881 ⟨Nat.le_of_ble_eq_true rfl, Nat.le_of_ble_eq_true rfl⟩) k_5 rfl rfl hl.1 rfl (Nat.le_of_ble_eq_true rfl) dX3_oneOf_12 ⟨(Nat.le_of_ble_eq_true rfl), (Nat.le_of_ble_eq_true rfl)⟩ rfl (fun H locs hW => ?_)
        refine lv_if_ne (tgt := 24) hx hb dX3_oneOf_15 (by decide) (fun c_9 => ?_) (fun c_9 => ?_)
        · have h := if_f h c_9
          exact k1 _ (Option.some.inj h).symm _ _ _ hW (lv_sub hl [1, 2] rfl)
        · have h := if_t h c_9
          obtain ⟨x_10, e_11, h⟩ := nmI_some h
          refine lv_iinc (v := x_10) (lv' := [(2, .int x_10), (0, .ref x0), (1, .ref x1)]) hx hb dX3_oneOf_18 hl (k := 2) rfl (by rw [e_11]; rfl) (by decide) rfl (fun ls hl => ?_)
          refine lv_goto (tgt := 2) hx hb dX3_oneOf_21 (by decide) ?_
          exact ih x_10 out _ _ _ h hW (lv_sub hl [1, 2, 0] rfl) k1
  unfold cm_X3_oneOf at h
  refine lv_iconst (v := 0) hx hb dX3_oneOf_0 (by decide) ?_
  refine lv_istore_n (lv' := [(2, .int 0), (0, .ref a0), (1, .ref a1)]) hx hb dX3_oneOf_1 rfl hl (by decide) rfl (fun ls hl => ?_)
  obtain ⟨x_14, h_13, h⟩ := bnd_some h
  refine Lp2 a0 a1 Z0 1000 0  _ _ _ _ h_13 hW (lv_sub hl [1, 2, 0] rfl) ?_
  intro w0 eo H locs ls hW hl
  subst eo
  refine lv_iload_n hx hb dX3_oneOf_24 rfl (lv_at hl 1 rfl) ?_
  refine lv_aload_n hx hb dX3_oneOf_25 rfl (lv_at hl 0 rfl) ?_
  refine zw_len S hW dX3_oneOf_26 h (fun x_15 h => ?_)
  refine lv_icmp_ge (tgt := 34) hx hb dX3_oneOf_27 (by decide) (fun c_16 => ?_) (fun c_16 => ?_)
  · have h := if_t h c_16
    refine lv_iconst (v := (-1)) hx hb dX3_oneOf_34 (by decide) ?_
    cases h
    exact d_iret S hr hlk hW (Nat.le_of_ble_eq_true rfl) (Nat.le_of_ble_eq_true rfl) dX3_oneOf_35
  · have h := if_f h c_16
    refine lv_iload_n hx hb dX3_oneOf_30 rfl (lv_at hl 1 rfl) ?_
    refine lv_goto (tgt := 35) hx hb dX3_oneOf_31 (by decide) ?_
    cases h
    exact d_iret S hr hlk hW (Nat.le_of_ble_eq_true rfl) (Nat.le_of_ble_eq_true rfl) dX3_oneOf_35
def cm_X3_fails (gp : Nat → Nat) (Z0 : c_S) (a0 : Nat) (a1 : Int32) : Option ((c_S) ⊕ (Nat × c_S)) :=
  zNew Z0 9 8 tyX9 fun Z_1 a_2 => cI Z_1.Sh Z_1.V a0 3 11 7 fun x_3 => bnd (cm_X9_init gp Z_1 a_2 a1 x_3) (fun Z_6 => some (.inr (a_2, Z_6)))
abbrev rmX3_fails : Room := rmD 4 90 1 8
theorem cwX9_init_I {own : String} {R : Room} {s : State} {args : Array Value} {index : Nat} (hts : ∀ w ∈ lw_all, w.before args s = true) (hl : Cond.methodLink own index yX9_init ∈ lw_all) (hR : rmX9_init.frames + 1 ≤ R.frames ∧ 8 + (3 + 11) + rmX9_init.locals ≤ R.locals) : CallB R s args own index yX9_init cX9_init 3 (none) (ws_ yX9_init cX9_init 3 (none)) rmX9_init 0 0 2 ∧ yX9_init.name = "<init>" ∧ (Cond.instanceMethod yX9_init).before args s = true := cwI 2 hts (lw_meth q946) rfl rfl rfl (hts _ q128) (hts _ hl) (hts _ q945) rfl ⟨by decide, by decide, by decide +kernel⟩ hR
set_option maxHeartbeats 4000000 in
theorem metX3_fails {l : Launch} {gp : Nat → Nat} {D : va_G} {K : Nat → ClassId} {Z0 : c_S} {a0 : Nat} {a1 : Int32} {Out : ((c_S) ⊕ (Nat × c_S))} (h : cm_X3_fails gp Z0 a0 a1 = some Out) : MetT l yX3_fails (ws_ yX3_fails cX3_fails 2 (none)) rmX3_fails (z_Pc gp [.ref a0, .int a1] D K Z0) (z_Q (oV Out) D K (z_A Z0) (oVs Out)) 1 8 (z_A Z0) := by
  refine d_metT rfl (Nat.le_of_ble_eq_true rfl) ?_
  intro p e s m below meth c ls S hr hlk hnm hne hl hW hsz
  have S : CallFix p m c cX3_fails 2 s ([.ref a0, .int a1] : List Value).toArray lw_all RX3 := S
  have hx := S.1
  have hb := S.2.1
  have hl : lv_has ls 2 [(0, .ref a0), (1, .int a1)] := hl
  have hnm : meth.name = "fails" := hnm
  unfold cm_X3_fails at h
  refine zw_new S hW zC_X9 q935 q936 q128 (Nat.le_of_ble_eq_true rfl) (Nat.le_of_ble_eq_true rfl) dX3_fails_0 h (fun Z_1 a_2 h H hW => ?_)
  refine lv_dup hx hb dX3_fails_3 rfl ?_
  refine lv_iload_n hx hb dX3_fails_4 rfl (lv_at hl 1 rfl) ?_
  refine lv_aload_n hx hb dX3_fails_5 rfl (lv_at hl 0 rfl) ?_
  refine zw_getI S hW zC_X3 (i := 7) (by decide) (Or.inl q834) (fun _ h => h) dX3_fails_6 h (fun x_3 h => ?_)
  obtain ⟨Z_6, h_4, h⟩ := bnd_some h
  refine d_callI (As := [.int a1, .int x_3]) (rest := [.ref a_2]) S hW (metX9_init h_4) (cwX9_init_I S.2.2.2.2 q944 ⟨Nat.le_of_ble_eq_true rfl, Nat.le_of_ble_eq_true rfl⟩) rfl hl.1 rfl (Nat.le_of_ble_eq_true rfl) dX3_fails_9 ⟨(Nat.le_of_ble_eq_true rfl), (Nat.le_of_ble_eq_true rfl)⟩ rfl (fun H locs hW => ?_)
  refine W.athrow hx hb dX3_fails_12 ?_
  cases h
  exact d_leave hlk hne hW (Nat.le_of_ble_eq_true rfl) (Nat.le_of_ble_eq_true rfl)
def cm_X3_number_J13 (gp : Nat → Nat) (y0 : Nat) (y1 : Int32) (y2 : Int32) (Z : c_S) : Option ((Int32 × c_S) ⊕ (Nat × c_S)) :=
  cI Z.Sh Z.V y0 3 11 8 fun x_3 => bnd (cm_X0_in x_3.toInt64 y1.toInt64 y2.toInt64) (fun x_6 => if x_6 = 0 then (zK Z y0 3 11 <| bnd (cm_X3_fails gp Z y0 2) (cs2 (fun Z_16 => cI Z_16.Sh Z_16.V y0 3 11 8 fun x_20 => zK Z_16 y0 3 11 <| bnd (cm_X3_next Z_16 y0) (fun Z_24 => some (.inl (x_20, Z_24)))) (un2 fun x_17 Z_18 => some (.inr (x_17, Z_18))))) else (cI Z.Sh Z.V y0 3 11 8 fun x_8 => zK Z y0 3 11 <| bnd (cm_X3_next Z y0) (fun Z_12 => some (.inl (x_8, Z_12)))))
def cm_X3_number (gp : Nat → Nat) (Z0 : c_S) (a0 : Nat) (a1 : Int32) (a2 : Int32) : Option ((Int32 × c_S) ⊕ (Nat × c_S)) :=
  cI Z0.Sh Z0.V a0 3 11 6 fun x_1 => if x_1 = 2 then (cm_X3_number_J13 gp a0 a1 a2 Z0) else (zK Z0 a0 3 11 <| bnd (cm_X3_fails gp Z0 a0 1) (cs2 (fun Z_28 => cm_X3_number_J13 gp a0 a1 a2 Z_28) (un2 fun x_29 Z_30 => some (.inr (x_29, Z_30)))))
abbrev rmX3_number : Room := rmD 5 111 2 16
theorem cwX3_next_V {own : String} {R : Room} {s : State} {args : Array Value} {index : Nat} (hts : ∀ w ∈ lw_all, w.before args s = true) (hl : Cond.methodLink own index yX3_next ∈ lw_all) (hR : rmX3_next.frames + 1 ≤ R.frames ∧ 8 + (1 + 11) + rmX3_next.locals ≤ R.locals) : CallW R s args own RX3 index yX3_next cX3_next 1 (none) (ws_ yX3_next cX3_next 1 (none)) rmX3_next 0 0 0 := cwV 0 hts (lw_V hl q869 qs9 q111 q870) rfl rfl rfl (by decide +kernel) hR
theorem cwX3_fails_V {own : String} {R : Room} {s : State} {args : Array Value} {index : Nat} (hts : ∀ w ∈ lw_all, w.before args s = true) (hl : Cond.methodLink own index yX3_fails ∈ lw_all) (hR : rmX3_fails.frames + 1 ≤ R.frames ∧ 8 + (2 + 11) + rmX3_fails.locals ≤ R.locals) : CallW R s args own RX3 index yX3_fails cX3_fails 2 (none) (ws_ yX3_fails cX3_fails 2 (none)) rmX3_fails 1 8 1 := cwV 1 hts (lw_V hl q933 qs13 q111 q934) rfl rfl rfl (by decide +kernel) hR
set_option maxHeartbeats 4000000 in
theorem metX3_number {l : Launch} {gp : Nat → Nat} {D : va_G} {K : Nat → ClassId} {Z0 : c_S} {a0 : Nat} {a1 : Int32} {a2 : Int32} {Out : ((Int32 × c_S) ⊕ (Nat × c_S))} (h : cm_X3_number gp Z0 a0 a1 a2 = some Out) : MetT l yX3_number (ws_ yX3_number cX3_number 4 (some .int)) rmX3_number (z_Pc gp [.ref a0, .int a1, .int a2] D K Z0) (z_Q (oI Out) D K (z_A Z0) (oIs Out)) 2 16 (z_A Z0) := by
  refine d_metT rfl (Nat.le_of_ble_eq_true rfl) ?_
  intro p e s m below meth c ls S hr hlk hnm hne hl hW hsz
  have S : CallFix p m c cX3_number 4 s ([.ref a0, .int a1, .int a2] : List Value).toArray lw_all RX3 := S
  have hx := S.1
  have hb := S.2.1
  have hl : lv_has ls 4 [(0, .ref a0), (1, .int a1), (2, .int a2)] := hl
  have hnm : meth.name = "number" := hnm
  have J13 : ∀ (y0 : Nat) (y1 : Int32) (y2 : Int32) (Z : c_S) (cells slots : Nat) (H : Heap) (locs : List Loc) (ls : Array Slot), cm_X3_number_J13 gp y0 y1 y2 Z = some Out → z_W gp D K (z_A Z0) s Z H locs → lv_has ls 4 [(0, .ref y0), (1, .int y1), (2, .int y2)] → cells + 1 ≤ 2 → slots + 8 ≤ 16 → W p l e rmX3_number s m ([.ref a0, .int a1, .int a2] : List Value).toArray below meth c H locs cells slots (MQT below (z_Q (oI Out) D K (z_A Z0) (oIs Out)) ([.ref a0, .int a1, .int a2] : List Value).toArray s 2 16 (z_A Z0)) (F0 m 13 ls []) := by
    intro y0 y1 y2 Z cells slots H locs ls h hW hl hcl hsl
    unfold cm_X3_number_J13 at h
    refine lv_aload_n hx hb dX3_number_13 rfl (lv_at hl 0 rfl) ?_
    refine zw_getI S hW zC_X3 (i := 8) (by decide) (Or.inl q835) (fun _ h => h) dX3_number_14 h (fun x_3 h => ?_)
    refine lv_i2l (v := x_3.toInt64) hx hb dX3_number_17 rfl ?_
    refine lv_iload_n hx hb dX3_number_18 rfl (lv_at hl 1 rfl) ?_
    refine lv_i2l (v := y1.toInt64) hx hb dX3_number_19 rfl ?_
    refine lv_iload_n hx hb dX3_number_20 rfl (lv_at hl 2 rfl) ?_
    refine lv_i2l (v := y2.toInt64) hx hb dX3_number_21 rfl ?_
    obtain ⟨x_6, h_4, h⟩ := bnd_some h
    refine d_callSN (As := [.long x_3.toInt64, .long y1.toInt64, .long y2.toInt64]) (rest := []) S hW (metX0_in h_4) (cwX0_in_SN S.2.2.2.2 (hW.1.2.2.2.2.1.2.2.2.2.1 _ (nestW_in q985 rfl)) ⟨Nat.le_of_ble_eq_true rfl, Nat.le_of_ble_eq_true rfl⟩) rfl hl.1 rfl (Nat.le_of_ble_eq_true rfl) dX3_number_22 ⟨(show _ ≤ 2 from by omega), (show _ ≤ 16 from by omega)⟩ rfl (fun H locs hW => ?_)
    refine lv_if_ne (tgt := 33) hx hb dX3_number_25 (by decide) (fun c_7 => ?_) (fun c_7 => ?_)
    · have h := if_f h c_7
      refine lv_aload_n hx hb dX3_number_33 rfl (lv_at hl 0 rfl) ?_
      refine zw_getI S hW zC_X3 (i := 8) (by decide) (Or.inl q835) (fun _ h => h) dX3_number_34 h (fun x_8 h => ?_)
      refine lv_istore_n (lv' := [(3, .int x_8), (0, .ref y0), (1, .int y1), (2, .int y2)]) hx hb dX3_number_37 rfl hl (by decide) rfl (fun ls hl => ?_)
      refine lv_aload_n hx hb dX3_number_38 rfl (lv_at hl 1 rfl) ?_
      obtain ⟨⟨_, k_9⟩, h⟩ := zK_some h
      obtain ⟨Z_12, h_10, h⟩ := bnd_some h
      refine d_callV (As := []) (rest := []) S hW (metX3_next h_10) (cwX3_next_V S.2.2.2.2 q867 ⟨Nat.le_of_ble_eq_true rfl, Nat.le_of_ble_eq_true rfl⟩) k_9 rfl rfl hl.1 rfl (Nat.le_of_ble_eq_true rfl) dX3_number_39 ⟨(show _ ≤ 2 from by omega), (show _ ≤ 16 from by omega)⟩ rfl (fun H locs hW => ?_)
      refine lv_iload_n hx hb dX3_number_42 rfl (lv_at hl 0 rfl) ?_
      cases h
      exact W.toT (d_iret S hr hlk hW (show _ ≤ 2 from by omega) (show _ ≤ 16 from by omega) dX3_number_43)
    · have h := if_t h c_7
      refine lv_aload_n hx hb dX3_number_28 rfl (lv_at hl 0 rfl) ?_
      refine lv_iconst (v := 2) hx hb dX3_number_29 (by decide) ?_
      obtain ⟨⟨_, k_13⟩, h⟩ := zK_some h
      obtain ⟨q_19, h_14, h⟩ := bnd_some h
      have h9 := cs2_some h
      clear h
      rcases h9 with ⟨_, rfl, h⟩ | ⟨_, rfl, h⟩
      · rename_i Z_16
        refine d_callVTr (As := [.int 2]) (rest := []) S hW (metX3_fails h_14) (cwX3_fails_V S.2.2.2.2 q931 ⟨Nat.le_of_ble_eq_true rfl, Nat.le_of_ble_eq_true rfl⟩) k_13 rfl rfl hl.1 rfl (Nat.le_of_ble_eq_true rfl) dX3_number_30 ⟨(show _ ≤ 2 from by omega), (show _ ≤ 16 from by omega)⟩ rfl (fun H locs hW => ?_)
        refine lv_aload_n hx hb dX3_number_33 rfl (lv_at hl 0 rfl) ?_
        refine zw_getI S hW zC_X3 (i := 8) (by decide) (Or.inl q835) (fun _ h => h) dX3_number_34 h (fun x_20 h => ?_)
        refine lv_istore_n (lv' := [(3, .int x_20), (0, .ref y0), (1, .int y1), (2, .int y2)]) hx hb dX3_number_37 rfl hl (by decide) rfl (fun ls hl => ?_)
        refine lv_aload_n hx hb dX3_number_38 rfl (lv_at hl 1 rfl) ?_
        obtain ⟨⟨_, k_21⟩, h⟩ := zK_some h
        obtain ⟨Z_24, h_22, h⟩ := bnd_some h
        refine d_callV (As := []) (rest := []) S hW (metX3_next h_22) (cwX3_next_V S.2.2.2.2 q867 ⟨Nat.le_of_ble_eq_true rfl, Nat.le_of_ble_eq_true rfl⟩) k_21 rfl rfl hl.1 rfl (Nat.le_of_ble_eq_true rfl) dX3_number_39 ⟨(show _ ≤ 2 from by omega), (show _ ≤ 16 from by omega)⟩ rfl (fun H locs hW => ?_)
        refine lv_iload_n hx hb dX3_number_42 rfl (lv_at hl 0 rfl) ?_
        cases h
        exact W.toT (d_iret S hr hlk hW (show _ ≤ 2 from by omega) (show _ ≤ 16 from by omega) dX3_number_43)
      · have h9 := un2_some h
        clear h
        obtain ⟨x_17, Z_18, rfl, h⟩ := h9
        refine d_callVTt (As := [.int 2]) (rest := []) S hW (metX3_fails h_14) (cwX3_fails_V S.2.2.2.2 q931 ⟨Nat.le_of_ble_eq_true rfl, Nat.le_of_ble_eq_true rfl⟩) k_13 rfl rfl hl.1 rfl (Nat.le_of_ble_eq_true rfl) dX3_number_30 ⟨(show _ ≤ 2 from by omega), (show _ ≤ 16 from by omega)⟩ (fun H locs hW => ?_)
        cases h
        exact d_leave hlk hne hW (show _ ≤ 2 from by omega) (show _ ≤ 16 from by omega)
  unfold cm_X3_number at h
  refine lv_aload_n hx hb dX3_number_0 rfl (lv_at hl 0 rfl) ?_
  refine zw_getI S hW zC_X3 (i := 6) (by decide) (Or.inl q833) (fun _ h => h) dX3_number_1 h (fun x_1 h => ?_)
  refine lv_iconst (v := 2) hx hb dX3_number_4 (by decide) ?_
  refine lv_icmp_eq (tgt := 13) hx hb dX3_number_5 (by decide) (fun c_2 => ?_) (fun c_2 => ?_)
  · have h := if_t h c_2
    exact J13 a0 a1 a2 Z0 0 0 _ _ _ h hW hl (by omega) (by omega)
  · have h := if_f h c_2
    refine lv_aload_n hx hb dX3_number_8 rfl (lv_at hl 0 rfl) ?_
    refine lv_iconst (v := 1) hx hb dX3_number_9 (by decide) ?_
    obtain ⟨⟨_, k_25⟩, h⟩ := zK_some h
    obtain ⟨q_31, h_26, h⟩ := bnd_some h
    have h9 := cs2_some h
    clear h
    rcases h9 with ⟨_, rfl, h⟩ | ⟨_, rfl, h⟩
    · rename_i Z_28
      refine d_callVTr (As := [.int 1]) (rest := []) S hW (metX3_fails h_26) (cwX3_fails_V S.2.2.2.2 q931 ⟨Nat.le_of_ble_eq_true rfl, Nat.le_of_ble_eq_true rfl⟩) k_25 rfl rfl hl.1 rfl (Nat.le_of_ble_eq_true rfl) dX3_number_10 ⟨(Nat.le_of_ble_eq_true rfl), (Nat.le_of_ble_eq_true rfl)⟩ rfl (fun H locs hW => ?_)
      exact J13 a0 a1 a2 Z_28 1 8 _ _ _ h hW hl (by omega) (by omega)
    · have h9 := un2_some h
      clear h
      obtain ⟨x_29, Z_30, rfl, h⟩ := h9
      refine d_callVTt (As := [.int 1]) (rest := []) S hW (metX3_fails h_26) (cwX3_fails_V S.2.2.2.2 q931 ⟨Nat.le_of_ble_eq_true rfl, Nat.le_of_ble_eq_true rfl⟩) k_25 rfl rfl hl.1 rfl (Nat.le_of_ble_eq_true rfl) dX3_number_10 ⟨(Nat.le_of_ble_eq_true rfl), (Nat.le_of_ble_eq_true rfl)⟩ (fun H locs hW => ?_)
      cases h
      exact d_leave hlk hne hW (Nat.le_of_ble_eq_true rfl) (Nat.le_of_ble_eq_true rfl)
def cm_X3_takes (gp : Nat → Nat) (Z0 : c_S) (a0 : Nat) (a1 : Nat) : Option (Int32 × c_S) :=
  zK Z0 a0 3 11 <| bnd (cm_X3_is gp Z0 a0 a1) (fun x_4 => if x_4 = 0 then (okI (isB x_4) <| some (x_4, Z0)) else (zK Z0 a0 3 11 <| bnd (cm_X3_next Z0 a0) (fun Z_10 => okI (isB x_4) <| some (x_4, Z_10))))
abbrev rmX3_takes : Room := rmD 5 143 0 0
set_option maxHeartbeats 4000000 in
theorem metX3_takes {l : Launch} {gp : Nat → Nat} {D : va_G} {K : Nat → ClassId} {Z0 : c_S} {a0 : Nat} {a1 : Nat} {r : Int32} {Z' : c_S} (h : cm_X3_takes gp Z0 a0 a1 = some (r, Z')) : Met l yX3_takes (ws_ yX3_takes cX3_takes 3 (some .boolean)) rmX3_takes (z_Pc gp [.ref a0, .ref a1] D K Z0) (z_Q (.returned (some (.int r))) D K (z_A Z0) Z') 0 0 (z_A Z0) := by
  refine d_met rfl (Nat.le_of_ble_eq_true rfl) ?_
  intro p e s m below meth c ls S hr hlk hnm hl hW hsz
  have S : CallFix p m c cX3_takes 3 s ([.ref a0, .ref a1] : List Value).toArray lw_all RX3 := S
  have hx := S.1
  have hb := S.2.1
  have hl : lv_has ls 3 [(0, .ref a0), (1, .ref a1)] := hl
  have hnm : meth.name = "takes" := hnm
  unfold cm_X3_takes at h
  refine lv_aload_n hx hb dX3_takes_0 rfl (lv_at hl 0 rfl) ?_
  refine lv_aload_n hx hb dX3_takes_1 rfl (lv_at hl 1 rfl) ?_
  obtain ⟨⟨_, k_1⟩, h⟩ := zK_some h
  obtain ⟨x_4, h_2, h⟩ := bnd_some h
  refine d_callV (As := [.ref a1]) (rest := []) S hW (metX3_is h_2) (cwX3_is_V S.2.2.2.2 q881 ⟨Nat.le_of_ble_eq_true rfl, Nat.le_of_ble_eq_true rfl⟩) k_1 rfl rfl hl.1 rfl (Nat.le_of_ble_eq_true rfl) dX3_takes_2 ⟨(Nat.le_of_ble_eq_true rfl), (Nat.le_of_ble_eq_true rfl)⟩ rfl (fun H locs hW => ?_)
  refine lv_istore_n (lv' := [(2, .int x_4), (0, .ref a0), (1, .ref a1)]) hx hb dX3_takes_5 rfl hl (by decide) rfl (fun ls hl => ?_)
  refine lv_iload_n hx hb dX3_takes_6 rfl (lv_at hl 0 rfl) ?_
  refine lv_if_eq (tgt := 14) hx hb dX3_takes_7 (by decide) (fun c_5 => ?_) (fun c_5 => ?_)
  · have h := if_t h c_5
    refine lv_iload_n hx hb dX3_takes_14 rfl (lv_at hl 0 rfl) ?_
    obtain ⟨h_6, h⟩ := okI_some h
    cases h
    exact d_zret S hr hlk (isB_narrow h_6) hW (Nat.le_of_ble_eq_true rfl) (Nat.le_of_ble_eq_true rfl) dX3_takes_15
  · have h := if_f h c_5
    refine lv_aload_n hx hb dX3_takes_10 rfl (lv_at hl 1 rfl) ?_
    obtain ⟨⟨_, k_7⟩, h⟩ := zK_some h
    obtain ⟨Z_10, h_8, h⟩ := bnd_some h
    refine d_callV (As := []) (rest := []) S hW (metX3_next h_8) (cwX3_next_V S.2.2.2.2 q867 ⟨Nat.le_of_ble_eq_true rfl, Nat.le_of_ble_eq_true rfl⟩) k_7 rfl rfl hl.1 rfl (Nat.le_of_ble_eq_true rfl) dX3_takes_11 ⟨(Nat.le_of_ble_eq_true rfl), (Nat.le_of_ble_eq_true rfl)⟩ rfl (fun H locs hW => ?_)
    refine lv_iload_n hx hb dX3_takes_14 rfl (lv_at hl 0 rfl) ?_
    obtain ⟨h_11, h⟩ := okI_some h
    cases h
    exact d_zret S hr hlk (isB_narrow h_11) hW (Nat.le_of_ble_eq_true rfl) (Nat.le_of_ble_eq_true rfl) dX3_takes_15
def cm_X3_measure_J37 (gp : Nat → Nat) (y0 : Nat) (y1 : Int32) (z0 : Int32) (Z : c_S) : Option (((Option Nat) × c_S) ⊕ (Nat × c_S)) :=
  zK Z y0 3 11 <| bnd (cm_X3_next Z y0) (fun Z_11 => zNew Z_11 12 3 tyX13 fun Z_12 a_13 => zK Z_12 y0 3 11 <| bnd (cm_X3_number gp Z_12 y0 0 99999) (cs2 (un2 fun x_17 Z_18 => bnd (cm_X13_init Z_18 a_13 y1 z0 x_17) (fun Z_24 => some (.inl (some a_13, Z_24)))) (un2 fun x_19 Z_20 => some (.inr (x_19, Z_20)))))
def cm_X3_measure_J23 (gp : Nat → Nat) (y0 : Nat) (y1 : Int32) (Z : c_S) : Option (((Option Nat) × c_S) ⊕ (Nat × c_S)) :=
  cI Z.Sh Z.V y0 3 11 8 fun x_6 => if x_6 = 60 then (cm_X3_measure_J37 gp y0 y1 1 Z) else (cm_X3_measure_J37 gp y0 y1 0 Z)
def cm_X3_measure (gp : Nat → Nat) (Z0 : c_S) (a0 : Nat) (a1 : Int32) : Option (((Option Nat) × c_S) ⊕ (Nat × c_S)) :=
  zK Z0 a0 3 11 <| bnd (cm_X3_isSign Z0 a0 60) (fun x_4 => if x_4 = 0 then (zK Z0 a0 3 11 <| bnd (cm_X3_isSign Z0 a0 62) (fun x_28 => if x_28 = 0 then (zK Z0 a0 3 11 <| bnd (cm_X3_fails gp Z0 a0 1) (cs2 (fun Z_33 => cm_X3_measure_J23 gp a0 a1 Z_33) (un2 fun x_34 Z_35 => some (.inr (x_34, Z_35))))) else (cm_X3_measure_J23 gp a0 a1 Z0))) else (cm_X3_measure_J23 gp a0 a1 Z0))
abbrev rmX3_measure : Room := rmD 6 134 4 27
theorem cwX3_isSign_V {own : String} {R : Room} {s : State} {args : Array Value} {index : Nat} (hts : ∀ w ∈ lw_all, w.before args s = true) (hl : Cond.methodLink own index yX3_isSign ∈ lw_all) (hR : rmX3_isSign.frames + 1 ≤ R.frames ∧ 8 + (2 + 11) + rmX3_isSign.locals ≤ R.locals) : CallW R s args own RX3 index yX3_isSign cX3_isSign 2 (some .boolean) (ws_ yX3_isSign cX3_isSign 2 (some .boolean)) rmX3_isSign 0 0 1 := cwV 1 hts (lw_V hl q1008 qs22 q111 q1009) rfl rfl rfl (by decide +kernel) hR
theorem cwX3_number_V {own : String} {R : Room} {s : State} {args : Array Value} {index : Nat} (hts : ∀ w ∈ lw_all, w.before args s = true) (hl : Cond.methodLink own index yX3_number ∈ lw_all) (hR : rmX3_number.frames + 1 ≤ R.frames ∧ 8 + (4 + 11) + rmX3_number.locals ≤ R.locals) : CallW R s args own RX3 index yX3_number cX3_number 4 (some .int) (ws_ yX3_number cX3_number 4 (some .int)) rmX3_number 2 16 2 := cwV 2 hts (lw_V hl q983 qs17 q111 q984) rfl rfl rfl (by decide +kernel) hR
theorem cwX13_init_I {own : String} {R : Room} {s : State} {args : Array Value} {index : Nat} (hts : ∀ w ∈ lw_all, w.before args s = true) (hl : Cond.methodLink own index yX13_init ∈ lw_all) (hR : rmX13_init.frames + 1 ≤ R.frames ∧ 8 + (4 + 11) + rmX13_init.locals ≤ R.locals) : CallB R s args own index yX13_init cX13_init 4 (none) (ws_ yX13_init cX13_init 4 (none)) rmX13_init 0 0 3 ∧ yX13_init.name = "<init>" ∧ (Cond.instanceMethod yX13_init).before args s = true := cwI 3 hts (lw_meth q1080) rfl rfl rfl (hts _ q132) (hts _ hl) (hts _ q1079) rfl ⟨by decide, by decide, by decide +kernel⟩ hR
set_option maxHeartbeats 4000000 in
theorem metX3_measure {l : Launch} {gp : Nat → Nat} {D : va_G} {K : Nat → ClassId} {Z0 : c_S} {a0 : Nat} {a1 : Int32} {Out : (((Option Nat) × c_S) ⊕ (Nat × c_S))} (h : cm_X3_measure gp Z0 a0 a1 = some Out) : MetT l yX3_measure (ws_ yX3_measure cX3_measure 3 (some (.object "FrostRing$Cond"))) rmX3_measure (z_Pc gp [.ref a0, .int a1] D K Z0) (z_Q (oR Out) D K (z_A Z0) (oRs Out)) 4 27 (z_A Z0) := by
  refine d_metT rfl (Nat.le_of_ble_eq_true rfl) ?_
  intro p e s m below meth c ls S hr hlk hnm hne hl hW hsz
  have S : CallFix p m c cX3_measure 3 s ([.ref a0, .int a1] : List Value).toArray lw_all RX3 := S
  have hx := S.1
  have hb := S.2.1
  have hl : lv_has ls 3 [(0, .ref a0), (1, .int a1)] := hl
  have hnm : meth.name = "measure" := hnm
  have J37 : ∀ (y0 : Nat) (y1 : Int32) (z0 : Int32) (Z : c_S) (cells slots : Nat) (H : Heap) (locs : List Loc) (ls : Array Slot), cm_X3_measure_J37 gp y0 y1 z0 Z = some Out → z_W gp D K (z_A Z0) s Z H locs → lv_has ls 3 [(0, .ref y0), (1, .int y1)] → cells + 3 ≤ 4 → slots + 19 ≤ 27 → W p l e rmX3_measure s m ([.ref a0, .int a1] : List Value).toArray below meth c H locs cells slots (MQT below (z_Q (oR Out) D K (z_A Z0) (oRs Out)) ([.ref a0, .int a1] : List Value).toArray s 4 27 (z_A Z0)) (F0 m 37 ls [.int z0]) := by
    intro y0 y1 z0 Z cells slots H locs ls h hW hl hcl hsl
    unfold cm_X3_measure_J37 at h
    refine lv_istore_n (lv' := [(2, .int z0), (0, .ref y0), (1, .int y1)]) hx hb dX3_measure_37 rfl hl (by decide) rfl (fun ls hl => ?_)
    refine lv_aload_n hx hb dX3_measure_38 rfl (lv_at hl 1 rfl) ?_
    obtain ⟨⟨_, k_8⟩, h⟩ := zK_some h
    obtain ⟨Z_11, h_9, h⟩ := bnd_some h
    refine d_callV (As := []) (rest := []) S hW (metX3_next h_9) (cwX3_next_V S.2.2.2.2 q867 ⟨Nat.le_of_ble_eq_true rfl, Nat.le_of_ble_eq_true rfl⟩) k_8 rfl rfl hl.1 rfl (Nat.le_of_ble_eq_true rfl) dX3_measure_39 ⟨(show _ ≤ 4 from by omega), (show _ ≤ 27 from by omega)⟩ rfl (fun H locs hW => ?_)
    refine zw_new S hW zC_X13 q1076 q1077 q132 (show _ ≤ 4 from by omega) (show _ ≤ 27 from by omega) dX3_measure_42 h (fun Z_12 a_13 h H hW => ?_)
    refine lv_dup hx hb dX3_measure_45 rfl ?_
    refine lv_iload_n hx hb dX3_measure_46 rfl (lv_at hl 2 rfl) ?_
    refine lv_iload_n hx hb dX3_measure_47 rfl (lv_at hl 0 rfl) ?_
    refine lv_aload_n hx hb dX3_measure_48 rfl (lv_at hl 1 rfl) ?_
    refine lv_iconst (v := 0) hx hb dX3_measure_49 (by decide) ?_
    refine lv_ldc (v := 99999) hx hb S.2.2.2.1 (S.2.2.2.2 _ q1035) dX3_measure_50 ?_
    obtain ⟨⟨_, k_14⟩, h⟩ := zK_some h
    obtain ⟨q_21, h_15, h⟩ := bnd_some h
    have h9 := cs2_some h
    clear h
    rcases h9 with ⟨_, rfl, h⟩ | ⟨_, rfl, h⟩
    · have h9 := un2_some h
      clear h
      obtain ⟨x_17, Z_18, rfl, h⟩ := h9
      refine d_callVTr (As := [.int 0, .int 99999]) (rest := [.int z0, .int y1, .ref a_13, .ref a_13]) S hW (metX3_number h_15) (cwX3_number_V S.2.2.2.2 q981 ⟨Nat.le_of_ble_eq_true rfl, Nat.le_of_ble_eq_true rfl⟩) k_14 rfl rfl hl.1 rfl (Nat.le_of_ble_eq_true rfl) dX3_measure_52 ⟨(show _ ≤ 4 from by omega), (show _ ≤ 27 from by omega)⟩ rfl (fun H locs hW => ?_)
      obtain ⟨Z_24, h_22, h⟩ := bnd_some h
      refine d_callI (As := [.int y1, .int z0, .int x_17]) (rest := [.ref a_13]) S hW (metX13_init h_22) (cwX13_init_I S.2.2.2.2 q1078 ⟨Nat.le_of_ble_eq_true rfl, Nat.le_of_ble_eq_true rfl⟩) rfl hl.1 rfl (Nat.le_of_ble_eq_true rfl) dX3_measure_55 ⟨(show _ ≤ 4 from by omega), (show _ ≤ 27 from by omega)⟩ rfl (fun H locs hW => ?_)
      cases h
      exact W.toT (d_aret (o := some a_13) S hr (Or.inl ⟨_, rfl⟩) hlk hW (show _ ≤ 4 from by omega) (show _ ≤ 27 from by omega) dX3_measure_58)
    · have h9 := un2_some h
      clear h
      obtain ⟨x_19, Z_20, rfl, h⟩ := h9
      refine d_callVTt (As := [.int 0, .int 99999]) (rest := [.int z0, .int y1, .ref a_13, .ref a_13]) S hW (metX3_number h_15) (cwX3_number_V S.2.2.2.2 q981 ⟨Nat.le_of_ble_eq_true rfl, Nat.le_of_ble_eq_true rfl⟩) k_14 rfl rfl hl.1 rfl (Nat.le_of_ble_eq_true rfl) dX3_measure_52 ⟨(show _ ≤ 4 from by omega), (show _ ≤ 27 from by omega)⟩ (fun H locs hW => ?_)
      cases h
      exact d_leave hlk hne hW (show _ ≤ 4 from by omega) (show _ ≤ 27 from by omega)
  have J23 : ∀ (y0 : Nat) (y1 : Int32) (Z : c_S) (cells slots : Nat) (H : Heap) (locs : List Loc) (ls : Array Slot), cm_X3_measure_J23 gp y0 y1 Z = some Out → z_W gp D K (z_A Z0) s Z H locs → lv_has ls 3 [(0, .ref y0), (1, .int y1)] → cells + 3 ≤ 4 → slots + 19 ≤ 27 → W p l e rmX3_measure s m ([.ref a0, .int a1] : List Value).toArray below meth c H locs cells slots (MQT below (z_Q (oR Out) D K (z_A Z0) (oRs Out)) ([.ref a0, .int a1] : List Value).toArray s 4 27 (z_A Z0)) (F0 m 23 ls []) := by
    intro y0 y1 Z cells slots H locs ls h hW hl hcl hsl
    unfold cm_X3_measure_J23 at h
    refine lv_aload_n hx hb dX3_measure_23 rfl (lv_at hl 0 rfl) ?_
    refine zw_getI S hW zC_X3 (i := 8) (by decide) (Or.inl q835) (fun _ h => h) dX3_measure_24 h (fun x_6 h => ?_)
    refine lv_bipush (v := 60) hx hb dX3_measure_27 (by decide) ?_
    refine lv_icmp_ne (tgt := 36) hx hb dX3_measure_29 (by decide) (fun c_7 => ?_) (fun c_7 => ?_)
    · have h := if_f h c_7
      refine lv_iconst (v := 0) hx hb dX3_measure_36 (by decide) ?_
      exact J37 y0 y1 0 Z cells slots _ _ _ h hW hl (by omega) (by omega)
    · have h := if_t h c_7
      refine lv_iconst (v := 1) hx hb dX3_measure_32 (by decide) ?_
      refine lv_goto (tgt := 37) hx hb dX3_measure_33 (by decide) ?_
      exact J37 y0 y1 1 Z cells slots _ _ _ h hW hl (by omega) (by omega)
  unfold cm_X3_measure at h
  refine lv_aload_n hx hb dX3_measure_0 rfl (lv_at hl 0 rfl) ?_
  refine lv_bipush (v := 60) hx hb dX3_measure_1 (by decide) ?_
  obtain ⟨⟨_, k_1⟩, h⟩ := zK_some h
  obtain ⟨x_4, h_2, h⟩ := bnd_some h
  refine d_callV (As := [.int 60]) (rest := []) S hW (metX3_isSign h_2) (cwX3_isSign_V S.2.2.2.2 q1006 ⟨Nat.le_of_ble_eq_true rfl, Nat.le_of_ble_eq_true rfl⟩) k_1 rfl rfl hl.1 rfl (Nat.le_of_ble_eq_true rfl) dX3_measure_3 ⟨(Nat.le_of_ble_eq_true rfl), (Nat.le_of_ble_eq_true rfl)⟩ rfl (fun H locs hW => ?_)
  refine lv_if_ne (tgt := 23) hx hb dX3_measure_6 (by decide) (fun c_5 => ?_) (fun c_5 => ?_)
  · have h := if_f h c_5
    exact J23 a0 a1 Z0 0 0 _ _ _ h hW hl (by omega) (by omega)
  · have h := if_t h c_5
    refine lv_aload_n hx hb dX3_measure_9 rfl (lv_at hl 0 rfl) ?_
    refine lv_bipush (v := 62) hx hb dX3_measure_10 (by decide) ?_
    obtain ⟨⟨_, k_25⟩, h⟩ := zK_some h
    obtain ⟨x_28, h_26, h⟩ := bnd_some h
    refine d_callV (As := [.int 62]) (rest := []) S hW (metX3_isSign h_26) (cwX3_isSign_V S.2.2.2.2 q1006 ⟨Nat.le_of_ble_eq_true rfl, Nat.le_of_ble_eq_true rfl⟩) k_25 rfl rfl hl.1 rfl (Nat.le_of_ble_eq_true rfl) dX3_measure_12 ⟨(Nat.le_of_ble_eq_true rfl), (Nat.le_of_ble_eq_true rfl)⟩ rfl (fun H locs hW => ?_)
    refine lv_if_ne (tgt := 23) hx hb dX3_measure_15 (by decide) (fun c_29 => ?_) (fun c_29 => ?_)
    · have h := if_f h c_29
      exact J23 a0 a1 Z0 0 0 _ _ _ h hW hl (by omega) (by omega)
    · have h := if_t h c_29
      refine lv_aload_n hx hb dX3_measure_18 rfl (lv_at hl 0 rfl) ?_
      refine lv_iconst (v := 1) hx hb dX3_measure_19 (by decide) ?_
      obtain ⟨⟨_, k_30⟩, h⟩ := zK_some h
      obtain ⟨q_36, h_31, h⟩ := bnd_some h
      have h9 := cs2_some h
      clear h
      rcases h9 with ⟨_, rfl, h⟩ | ⟨_, rfl, h⟩
      · rename_i Z_33
        refine d_callVTr (As := [.int 1]) (rest := []) S hW (metX3_fails h_31) (cwX3_fails_V S.2.2.2.2 q931 ⟨Nat.le_of_ble_eq_true rfl, Nat.le_of_ble_eq_true rfl⟩) k_30 rfl rfl hl.1 rfl (Nat.le_of_ble_eq_true rfl) dX3_measure_20 ⟨(Nat.le_of_ble_eq_true rfl), (Nat.le_of_ble_eq_true rfl)⟩ rfl (fun H locs hW => ?_)
        exact J23 a0 a1 Z_33 1 8 _ _ _ h hW hl (by omega) (by omega)
      · have h9 := un2_some h
        clear h
        obtain ⟨x_34, Z_35, rfl, h⟩ := h9
        refine d_callVTt (As := [.int 1]) (rest := []) S hW (metX3_fails h_31) (cwX3_fails_V S.2.2.2.2 q931 ⟨Nat.le_of_ble_eq_true rfl, Nat.le_of_ble_eq_true rfl⟩) k_30 rfl rfl hl.1 rfl (Nat.le_of_ble_eq_true rfl) dX3_measure_20 ⟨(Nat.le_of_ble_eq_true rfl), (Nat.le_of_ble_eq_true rfl)⟩ (fun H locs hW => ?_)
        cases h
        exact d_leave hlk hne hW (Nat.le_of_ble_eq_true rfl) (Nat.le_of_ble_eq_true rfl)
def cm_X5_copy (Z0 : c_S) (a0 : Nat) : Option ((Option Nat) × c_S) :=
  zNew Z0 5 6 tyX5 fun Z_1 a_2 => cI Z_1.Sh Z_1.V a0 5 6 0 fun x_3 => cI Z_1.Sh Z_1.V a0 5 6 1 fun x_4 => cI Z_1.Sh Z_1.V a0 5 6 2 fun x_5 => bnd (cm_X5_init Z_1 a_2 x_3 x_4 x_5) (fun Z_8 => cI Z_8.Sh Z_8.V a0 5 6 3 fun x_9 => okI (isB x_9) <| zPI Z_8 a_2 5 6 3 x_9 fun Z_10 => cI Z_10.Sh Z_10.V a0 5 6 4 fun x_12 => zPI Z_10 a_2 5 6 4 x_12 fun Z_13 => cI Z_13.Sh Z_13.V a0 5 6 5 fun x_14 => zPI Z_13 a_2 5 6 5 x_14 fun Z_15 => some (some a_2, Z_15))
abbrev rmX5_copy : Room := rmD 2 43 1 6
theorem cwX5_init_I {own : String} {R : Room} {s : State} {args : Array Value} {index : Nat} (hts : ∀ w ∈ lw_all, w.before args s = true) (hl : Cond.methodLink own index yX5_init ∈ lw_all) (hR : rmX5_init.frames + 1 ≤ R.frames ∧ 8 + (4 + 11) + rmX5_init.locals ≤ R.locals) : CallB R s args own index yX5_init cX5_init 4 (none) (ws_ yX5_init cX5_init 4 (none)) rmX5_init 0 0 3 ∧ yX5_init.name = "<init>" ∧ (Cond.instanceMethod yX5_init).before args s = true := cwI 3 hts (lw_meth q533) rfl rfl rfl (hts _ q115) (hts _ hl) (hts _ q532) rfl ⟨by decide, by decide, by decide +kernel⟩ hR
set_option maxHeartbeats 4000000 in
theorem metX5_copy {l : Launch} {gp : Nat → Nat} {D : va_G} {K : Nat → ClassId} {Z0 : c_S} {a0 : Nat} {r : Option Nat} {Z' : c_S} (h : cm_X5_copy Z0 a0 = some (r, Z')) : Met l yX5_copy (ws_ yX5_copy cX5_copy 2 (some (.object "FrostRing$Pipe"))) rmX5_copy (z_Pc gp [.ref a0] D K Z0) (z_Q (.returned (some (va_rf r))) D K (z_A Z0) Z') 1 6 (z_A Z0) := by
  refine d_met rfl (Nat.le_of_ble_eq_true rfl) ?_
  intro p e s m below meth c ls S hr hlk hnm hl hW hsz
  have S : CallFix p m c cX5_copy 2 s ([.ref a0] : List Value).toArray lw_all RX5 := S
  have hx := S.1
  have hb := S.2.1
  have hl : lv_has ls 2 [(0, .ref a0)] := hl
  have hnm : meth.name = "copy" := hnm
  unfold cm_X5_copy at h
  refine zw_new S hW zC_X5 q529 q530 q115 (Nat.le_of_ble_eq_true rfl) (Nat.le_of_ble_eq_true rfl) dX5_copy_0 h (fun Z_1 a_2 h H hW => ?_)
  refine lv_dup hx hb dX5_copy_3 rfl ?_
  refine lv_aload_n hx hb dX5_copy_4 rfl (lv_at hl 0 rfl) ?_
  refine zw_getI S hW zC_X5 (i := 0) (by decide) (Or.inl q535) (fun _ h => h) dX5_copy_5 h (fun x_3 h => ?_)
  refine lv_aload_n hx hb dX5_copy_8 rfl (lv_at hl 0 rfl) ?_
  refine zw_getI S hW zC_X5 (i := 1) (by decide) (Or.inl q539) (fun _ h => h) dX5_copy_9 h (fun x_4 h => ?_)
  refine lv_aload_n hx hb dX5_copy_12 rfl (lv_at hl 0 rfl) ?_
  refine zw_getI S hW zC_X5 (i := 2) (by decide) (Or.inl q542) (fun _ h => h) dX5_copy_13 h (fun x_5 h => ?_)
  obtain ⟨Z_8, h_6, h⟩ := bnd_some h
  refine d_callI (As := [.int x_3, .int x_4, .int x_5]) (rest := [.ref a_2]) S hW (metX5_init h_6) (cwX5_init_I S.2.2.2.2 q531 ⟨Nat.le_of_ble_eq_true rfl, Nat.le_of_ble_eq_true rfl⟩) rfl hl.1 rfl (Nat.le_of_ble_eq_true rfl) dX5_copy_16 ⟨(Nat.le_of_ble_eq_true rfl), (Nat.le_of_ble_eq_true rfl)⟩ rfl (fun H locs hW => ?_)
  refine lv_astore_n (lv' := [(1, .ref a_2), (0, .ref a0)]) hx hb dX5_copy_19 rfl hl (by decide) rfl (fun ls hl => ?_)
  refine lv_aload_n hx hb dX5_copy_20 rfl (lv_at hl 0 rfl) ?_
  refine lv_aload_n hx hb dX5_copy_21 rfl (lv_at hl 1 rfl) ?_
  refine zw_getI S hW zC_X5 (i := 3) (by decide) (Or.inl q545) (fun _ h => h) dX5_copy_22 h (fun x_9 h => ?_)
  obtain ⟨h_11, h⟩ := okI_some h
  refine zw_putI S hW zC_X5 (i := 3) (by decide) (Or.inl rfl) rfl (isB_narrow h_11) (isB_fits h_11) (Or.inl q545) (fun _ h => h) dX5_copy_25 h (fun Z_10 h H locs hW => ?_)
  refine lv_aload_n hx hb dX5_copy_28 rfl (lv_at hl 0 rfl) ?_
  refine lv_aload_n hx hb dX5_copy_29 rfl (lv_at hl 1 rfl) ?_
  refine zw_getI S hW zC_X5 (i := 4) (by decide) (Or.inl q548) (fun _ h => h) dX5_copy_30 h (fun x_12 h => ?_)
  refine zw_putI S hW zC_X5 (i := 4) (by decide) (Or.inl rfl) rfl rfl rfl (Or.inl q548) (fun _ h => h) dX5_copy_33 h (fun Z_13 h H locs hW => ?_)
  refine lv_aload_n hx hb dX5_copy_36 rfl (lv_at hl 0 rfl) ?_
  refine lv_aload_n hx hb dX5_copy_37 rfl (lv_at hl 1 rfl) ?_
  refine zw_getI S hW zC_X5 (i := 5) (by decide) (Or.inl q551) (fun _ h => h) dX5_copy_38 h (fun x_14 h => ?_)
  refine zw_putI S hW zC_X5 (i := 5) (by decide) (Or.inl rfl) rfl rfl rfl (Or.inl q551) (fun _ h => h) dX5_copy_41 h (fun Z_15 h H locs hW => ?_)
  refine lv_aload_n hx hb dX5_copy_44 rfl (lv_at hl 0 rfl) ?_
  cases h
  exact d_aret (o := some a_2) S hr (Or.inl ⟨_, rfl⟩) hlk hW (Nat.le_of_ble_eq_true rfl) (Nat.le_of_ble_eq_true rfl) dX5_copy_45
def cm_X6_copy (Z0 : c_S) (a0 : Nat) : Option ((Option Nat) × c_S) :=
  zNew Z0 6 3 tyX6 fun Z_1 a_2 => cI Z_1.Sh Z_1.V a0 6 3 0 fun x_3 => cI Z_1.Sh Z_1.V a0 6 3 1 fun x_4 => bnd (cm_X6_init Z_1 a_2 x_3 x_4) (fun Z_7 => cI Z_7.Sh Z_7.V a0 6 3 2 fun x_8 => zPI Z_7 a_2 6 3 2 x_8 fun Z_9 => some (some a_2, Z_9))
abbrev rmX6_copy : Room := rmD 2 42 1 3
theorem cwX6_init_I {own : String} {R : Room} {s : State} {args : Array Value} {index : Nat} (hts : ∀ w ∈ lw_all, w.before args s = true) (hl : Cond.methodLink own index yX6_init ∈ lw_all) (hR : rmX6_init.frames + 1 ≤ R.frames ∧ 8 + (3 + 11) + rmX6_init.locals ≤ R.locals) : CallB R s args own index yX6_init cX6_init 3 (none) (ws_ yX6_init cX6_init 3 (none)) rmX6_init 0 0 2 ∧ yX6_init.name = "<init>" ∧ (Cond.instanceMethod yX6_init).before args s = true := cwI 2 hts (lw_meth q646) rfl rfl rfl (hts _ q120) (hts _ hl) (hts _ q645) rfl ⟨by decide, by decide, by decide +kernel⟩ hR
set_option maxHeartbeats 4000000 in
theorem metX6_copy {l : Launch} {gp : Nat → Nat} {D : va_G} {K : Nat → ClassId} {Z0 : c_S} {a0 : Nat} {r : Option Nat} {Z' : c_S} (h : cm_X6_copy Z0 a0 = some (r, Z')) : Met l yX6_copy (ws_ yX6_copy cX6_copy 2 (some (.object "FrostRing$House"))) rmX6_copy (z_Pc gp [.ref a0] D K Z0) (z_Q (.returned (some (va_rf r))) D K (z_A Z0) Z') 1 3 (z_A Z0) := by
  refine d_met rfl (Nat.le_of_ble_eq_true rfl) ?_
  intro p e s m below meth c ls S hr hlk hnm hl hW hsz
  have S : CallFix p m c cX6_copy 2 s ([.ref a0] : List Value).toArray lw_all RX6 := S
  have hx := S.1
  have hb := S.2.1
  have hl : lv_has ls 2 [(0, .ref a0)] := hl
  have hnm : meth.name = "copy" := hnm
  unfold cm_X6_copy at h
  refine zw_new S hW zC_X6 q642 q643 q120 (Nat.le_of_ble_eq_true rfl) (Nat.le_of_ble_eq_true rfl) dX6_copy_0 h (fun Z_1 a_2 h H hW => ?_)
  refine lv_dup hx hb dX6_copy_3 rfl ?_
  refine lv_aload_n hx hb dX6_copy_4 rfl (lv_at hl 0 rfl) ?_
  refine zw_getI S hW zC_X6 (i := 0) (by decide) (Or.inl q648) (fun _ h => h) dX6_copy_5 h (fun x_3 h => ?_)
  refine lv_aload_n hx hb dX6_copy_8 rfl (lv_at hl 0 rfl) ?_
  refine zw_getI S hW zC_X6 (i := 1) (by decide) (Or.inl q651) (fun _ h => h) dX6_copy_9 h (fun x_4 h => ?_)
  obtain ⟨Z_7, h_5, h⟩ := bnd_some h
  refine d_callI (As := [.int x_3, .int x_4]) (rest := [.ref a_2]) S hW (metX6_init h_5) (cwX6_init_I S.2.2.2.2 q644 ⟨Nat.le_of_ble_eq_true rfl, Nat.le_of_ble_eq_true rfl⟩) rfl hl.1 rfl (Nat.le_of_ble_eq_true rfl) dX6_copy_12 ⟨(Nat.le_of_ble_eq_true rfl), (Nat.le_of_ble_eq_true rfl)⟩ rfl (fun H locs hW => ?_)
  refine lv_astore_n (lv' := [(1, .ref a_2), (0, .ref a0)]) hx hb dX6_copy_15 rfl hl (by decide) rfl (fun ls hl => ?_)
  refine lv_aload_n hx hb dX6_copy_16 rfl (lv_at hl 0 rfl) ?_
  refine lv_aload_n hx hb dX6_copy_17 rfl (lv_at hl 1 rfl) ?_
  refine zw_getI S hW zC_X6 (i := 2) (by decide) (Or.inl q654) (fun _ h => h) dX6_copy_18 h (fun x_8 h => ?_)
  refine zw_putI S hW zC_X6 (i := 2) (by decide) (Or.inl rfl) rfl rfl rfl (Or.inl q654) (fun _ h => h) dX6_copy_21 h (fun Z_9 h H locs hW => ?_)
  refine lv_aload_n hx hb dX6_copy_24 rfl (lv_at hl 0 rfl) ?_
  cases h
  exact d_aret (o := some a_2) S hr (Or.inl ⟨_, rfl⟩) hlk hW (Nat.le_of_ble_eq_true rfl) (Nat.le_of_ble_eq_true rfl) dX6_copy_25
def cm_J2_get (Z0 : c_S) (a0 : Nat) (a1 : Int32) : Option (Option Nat) :=
  cI Z0.Sh Z0.V a0 14 3 2 fun x_1 => bnd (cm_J3_checkIndex a1 x_1) (fun x_4 => zK Z0 a0 14 3 <| bnd (cm_J2_elementData Z0 a0 a1) (fun o_8 => some o_8))
abbrev rmJ2_get : Room := rmD 2 43 0 0
theorem cwJ3_checkIndex_S {own : String} {R : Room} {s : State} {args : Array Value} {index : Nat} (hts : ∀ w ∈ lw_all, w.before args s = true) (hl : Cond.methodLink own index yJ3_checkIndex ∈ lw_all) (hR : rmJ3_checkIndex.frames + 1 ≤ R.frames ∧ 8 + (2 + 11) + rmJ3_checkIndex.locals ≤ R.locals) : CallB R s args own index yJ3_checkIndex cJ3_checkIndex 2 (some .int) (ws_ yJ3_checkIndex cJ3_checkIndex 2 (some .int)) rmJ3_checkIndex 0 0 2 ∧ (Cond.static yJ3_checkIndex).before args s = true := va_cwS 2 hts (lw_S hl q515 q113 q516) rfl rfl rfl (by decide +kernel) hR
theorem cwJ2_elementData_V {own : String} {R : Room} {s : State} {args : Array Value} {index : Nat} (hts : ∀ w ∈ lw_all, w.before args s = true) (hl : Cond.methodLink own index yJ2_elementData ∈ lw_all) (hR : rmJ2_elementData.frames + 1 ≤ R.frames ∧ 8 + (2 + 11) + rmJ2_elementData.locals ≤ R.locals) : CallW R s args own RJ2 index yJ2_elementData cJ2_elementData 2 (some (.object "java/lang/Object")) (ws_ yJ2_elementData cJ2_elementData 2 (some (.object "java/lang/Object"))) rmJ2_elementData 0 0 1 := cwV 1 hts (lw_V hl q521 q522 q110 q523) rfl rfl rfl (by decide +kernel) hR
set_option maxHeartbeats 4000000 in
theorem metJ2_get {l : Launch} {gp : Nat → Nat} {D : va_G} {K : Nat → ClassId} {Z0 : c_S} {a0 : Nat} {a1 : Int32} {r : Option Nat} (h : cm_J2_get Z0 a0 a1 = some r) : Met l yJ2_get (ws_ yJ2_get cJ2_get 2 (some (.object "java/lang/Object"))) rmJ2_get (z_Pc gp [.ref a0, .int a1] D K Z0) (z_Q (.returned (some (va_rf r))) D K (z_A Z0) Z0) 0 0 (z_A Z0) := by
  refine d_met rfl (Nat.le_of_ble_eq_true rfl) ?_
  intro p e s m below meth c ls S hr hlk hnm hl hW hsz
  have S : CallFix p m c cJ2_get 2 s ([.ref a0, .int a1] : List Value).toArray lw_all RJ2 := S
  have hx := S.1
  have hb := S.2.1
  have hl : lv_has ls 2 [(0, .ref a0), (1, .int a1)] := hl
  have hnm : meth.name = "get" := hnm
  unfold cm_J2_get at h
  refine lv_iload_n hx hb dJ2_get_0 rfl (lv_at hl 1 rfl) ?_
  refine lv_aload_n hx hb dJ2_get_1 rfl (lv_at hl 0 rfl) ?_
  refine zw_getI S hW zC_J2 (i := 2) (by decide) (Or.inl q377) (fun _ h => h) dJ2_get_2 h (fun x_1 h => ?_)
  obtain ⟨x_4, h_2, h⟩ := bnd_some h
  refine d_callS (As := [.int a1, .int x_1]) (rest := []) S hW (metJ3_checkIndex h_2) (cwJ3_checkIndex_S S.2.2.2.2 q514 ⟨Nat.le_of_ble_eq_true rfl, Nat.le_of_ble_eq_true rfl⟩) rfl hl.1 rfl (Nat.le_of_ble_eq_true rfl) dJ2_get_5 ⟨(Nat.le_of_ble_eq_true rfl), (Nat.le_of_ble_eq_true rfl)⟩ rfl (fun H locs hW => ?_)
  refine lv_pop hx hb dJ2_get_8 rfl ?_
  refine lv_aload_n hx hb dJ2_get_9 rfl (lv_at hl 0 rfl) ?_
  refine lv_iload_n hx hb dJ2_get_10 rfl (lv_at hl 1 rfl) ?_
  obtain ⟨⟨_, k_5⟩, h⟩ := zK_some h
  obtain ⟨o_8, h_6, h⟩ := bnd_some h
  refine d_callV (As := [.int a1]) (rest := []) S hW (metJ2_elementData h_6) (cwJ2_elementData_V S.2.2.2.2 q520 ⟨Nat.le_of_ble_eq_true rfl, Nat.le_of_ble_eq_true rfl⟩) k_5 rfl rfl hl.1 rfl (Nat.le_of_ble_eq_true rfl) dJ2_get_11 ⟨(Nat.le_of_ble_eq_true rfl), (Nat.le_of_ble_eq_true rfl)⟩ rfl (fun H locs hW => ?_)
  cases h
  exact d_aret S hr (Or.inl ⟨_, rfl⟩) hlk hW (Nat.le_of_ble_eq_true rfl) (Nat.le_of_ble_eq_true rfl) dJ2_get_14
def cm_J2_grow_2 (gp : Nat → Nat) (Z0 : c_S) (a0 : Nat) (a1 : Int32) : Option ((Option Nat) × c_S) :=
  cA Z0.Sh a0 14 3 1 fun a_1 => zLen Z0 a_1 fun x_2 => if 0 < x_2 then (bnd (cm_J5_newLength x_2 (a1 - x_2) (x_2 >>> (1 &&& 31))) (fun x_6 => cA Z0.Sh a0 14 3 1 fun a_7 => bnd (cm_J7_copyOf gp Z0 a_7 x_6) (un2 fun o_10 Z_11 => zPR Z_11 a0 14 3 1 o_10 fun Z_12 => some (o_10, Z_12)))) else (none)
abbrev rmJ2_grow_2 : Room := rmD 3 104 1 19
theorem cwJ5_newLength_S {own : String} {R : Room} {s : State} {args : Array Value} {index : Nat} (hts : ∀ w ∈ lw_all, w.before args s = true) (hl : Cond.methodLink own index yJ5_newLength ∈ lw_all) (hR : rmJ5_newLength.frames + 1 ≤ R.frames ∧ 8 + (4 + 11) + rmJ5_newLength.locals ≤ R.locals) : CallB R s args own index yJ5_newLength cJ5_newLength 4 (some .int) (ws_ yJ5_newLength cJ5_newLength 4 (some .int)) rmJ5_newLength 0 0 3 ∧ (Cond.static yJ5_newLength).before args s = true := va_cwS 3 hts (lw_S hl q592 q116 q593) rfl rfl rfl (by decide +kernel) hR
theorem cwJ7_copyOf_S {own : String} {R : Room} {s : State} {args : Array Value} {index : Nat} (hts : ∀ w ∈ lw_all, w.before args s = true) (hl : Cond.methodLink own index yJ7_copyOf ∈ lw_all) (hR : rmJ7_copyOf.frames + 1 ≤ R.frames ∧ 8 + (2 + 11) + rmJ7_copyOf.locals ≤ R.locals) : CallB R s args own index yJ7_copyOf cJ7_copyOf 2 (some (.array (.object "java/lang/Object"))) (ws_ yJ7_copyOf cJ7_copyOf 2 (some (.array (.object "java/lang/Object")))) rmJ7_copyOf 1 19 2 ∧ (Cond.static yJ7_copyOf).before args s = true := va_cwS 2 hts (lw_S hl q602 q118 q603) rfl rfl rfl (by decide +kernel) hR
set_option maxHeartbeats 4000000 in
theorem metJ2_grow_2 {l : Launch} {gp : Nat → Nat} {D : va_G} {K : Nat → ClassId} {Z0 : c_S} {a0 : Nat} {a1 : Int32} {r : Option Nat} {Z' : c_S} (h : cm_J2_grow_2 gp Z0 a0 a1 = some (r, Z')) : Met l yJ2_grow_2 (ws_ yJ2_grow_2 cJ2_grow_2 4 (some (.array (.object "java/lang/Object")))) rmJ2_grow_2 (z_Pc gp [.ref a0, .int a1] D K Z0) (z_Q (.returned (some (va_rf r))) D K (z_A Z0) Z') 1 19 (z_A Z0) := by
  refine d_met rfl (Nat.le_of_ble_eq_true rfl) ?_
  intro p e s m below meth c ls S hr hlk hnm hl hW hsz
  have S : CallFix p m c cJ2_grow_2 4 s ([.ref a0, .int a1] : List Value).toArray lw_all RJ2 := S
  have hx := S.1
  have hb := S.2.1
  have hl : lv_has ls 4 [(0, .ref a0), (1, .int a1)] := hl
  have hnm : meth.name = "grow" := hnm
  unfold cm_J2_grow_2 at h
  refine lv_aload_n hx hb dJ2_grow_2_0 rfl (lv_at hl 0 rfl) ?_
  refine zw_getA S hW zC_J2 (i := 1) (by decide) (Or.inl q376) (fun _ h => h) dJ2_grow_2_1 h (fun a_1 h => ?_)
  refine zw_len S hW dJ2_grow_2_4 h (fun x_2 h => ?_)
  refine lv_istore_n (lv' := [(2, .int x_2), (0, .ref a0), (1, .int a1)]) hx hb dJ2_grow_2_5 rfl hl (by decide) rfl (fun ls hl => ?_)
  refine lv_iload_n hx hb dJ2_grow_2_6 rfl (lv_at hl 0 rfl) ?_
  refine lv_if_gt (tgt := 20) hx hb dJ2_grow_2_7 (by decide) (fun c_3 => ?_) (fun c_3 => ?_)
  · have h := if_t h c_3
    refine lv_iload_n hx hb dJ2_grow_2_20 rfl (lv_at hl 0 rfl) ?_
    refine lv_iload_n hx hb dJ2_grow_2_21 rfl (lv_at hl 2 rfl) ?_
    refine lv_iload_n hx hb dJ2_grow_2_22 rfl (lv_at hl 0 rfl) ?_
    refine lv_isub hx hb dJ2_grow_2_23 ?_
    refine lv_iload_n hx hb dJ2_grow_2_24 rfl (lv_at hl 0 rfl) ?_
    refine lv_iconst (v := 1) hx hb dJ2_grow_2_25 (by decide) ?_
    refine lv_ishr hx hb dJ2_grow_2_26 ?_
    obtain ⟨x_6, h_4, h⟩ := bnd_some h
    refine d_callS (As := [.int x_2, .int (a1 - x_2), .int (x_2 >>> (1 &&& 31))]) (rest := []) S hW (metJ5_newLength h_4) (cwJ5_newLength_S S.2.2.2.2 q591 ⟨Nat.le_of_ble_eq_true rfl, Nat.le_of_ble_eq_true rfl⟩) rfl hl.1 rfl (Nat.le_of_ble_eq_true rfl) dJ2_grow_2_27 ⟨(Nat.le_of_ble_eq_true rfl), (Nat.le_of_ble_eq_true rfl)⟩ rfl (fun H locs hW => ?_)
    refine lv_istore_n (lv' := [(3, .int x_6), (2, .int x_2), (0, .ref a0), (1, .int a1)]) hx hb dJ2_grow_2_30 rfl hl (by decide) rfl (fun ls hl => ?_)
    refine lv_aload_n hx hb dJ2_grow_2_31 rfl (lv_at hl 2 rfl) ?_
    refine lv_aload_n hx hb dJ2_grow_2_32 rfl (lv_at hl 2 rfl) ?_
    refine zw_getA S hW zC_J2 (i := 1) (by decide) (Or.inl q376) (fun _ h => h) dJ2_grow_2_33 h (fun a_7 h => ?_)
    refine lv_iload_n hx hb dJ2_grow_2_36 rfl (lv_at hl 0 rfl) ?_
    obtain ⟨o_10, Z_11, h_8, h⟩ := bnd2_some h
    refine d_callS (As := [.ref a_7, .int x_6]) (rest := [.ref a0]) S hW (metJ7_copyOf h_8) (cwJ7_copyOf_S S.2.2.2.2 q601 ⟨Nat.le_of_ble_eq_true rfl, Nat.le_of_ble_eq_true rfl⟩) rfl hl.1 rfl (Nat.le_of_ble_eq_true rfl) dJ2_grow_2_37 ⟨(Nat.le_of_ble_eq_true rfl), (Nat.le_of_ble_eq_true rfl)⟩ rfl (fun H locs hW => ?_)
    refine lv_dup_x1 hx hb dJ2_grow_2_40 z_cat rfl ?_
    refine zw_putR (o := o_10) S hW zC_J2 (i := 1) (by decide) (Or.inl rfl) rfl (Or.inl q376) (fun _ h => h) dJ2_grow_2_41 h (fun Z_12 h H locs hW => ?_)
    cases h
    exact d_aret S hr (Or.inr ⟨_, rfl⟩) hlk hW (Nat.le_of_ble_eq_true rfl) (Nat.le_of_ble_eq_true rfl) dJ2_grow_2_44
  · have h := if_f h c_3
    cases h
def cm_X0_pipeAt_B2 (x0 : Nat) (x1 : Int32) (Z : c_S) (rec : Int32 → Option ((Unit) ⊕ (Int32))) (x2 : Int32) : Option ((Unit) ⊕ (Int32)) :=
  cA Z.Sh x0 0 11 1 fun a_1 => cA Z.Sh a_1 1 20 5 fun a_2 => zK Z a_2 14 3 <| bnd (cm_J2_size Z a_2) (fun x_6 => if x_6 ≤ x2 then (some (.inl ())) else (cA Z.Sh x0 0 11 1 fun a_8 => cA Z.Sh a_8 1 20 5 fun a_9 => zK Z a_9 14 3 <| bnd (cm_J2_get Z a_9 x2) (fun o_13 => zCk Z o_13 5 6 <| nn o_13 fun a_14 => cI Z.Sh Z.V a_14 5 6 0 fun x_15 => if x_15 = x1 then (some (.inr x2)) else (nmI (x2 + 1) fun x_17 => rec x_17))))
abbrev cm_X0_pipeAt_F2 (x0 : Nat) (x1 : Int32) (Z : c_S) : (((Int32)) → Option ((Unit) ⊕ (Int32))) → ((Int32)) → Option ((Unit) ⊕ (Int32)) := fun rec s => cm_X0_pipeAt_B2 x0 x1 Z (fun x2 => rec x2) s
def cm_X0_pipeAt_L2 (x0 : Nat) (x1 : Int32) (Z : c_S) (n : Nat) (x2 : Int32) : Option ((Unit) ⊕ (Int32)) := lp (cm_X0_pipeAt_F2 x0 x1 Z) n x2
theorem cm_X0_pipeAt_L2_s (x0 : Nat) (x1 : Int32) (Z : c_S) (n : Nat) (x2 : Int32) : cm_X0_pipeAt_L2 x0 x1 Z (n + 1) x2 = cm_X0_pipeAt_B2 x0 x1 Z (fun x2 => cm_X0_pipeAt_L2 x0 x1 Z n x2) x2 := lp_s (cm_X0_pipeAt_F2 x0 x1 Z) n x2
def cm_X0_pipeAt (Z0 : c_S) (a0 : Nat) (a1 : Int32) : Option (Int32) :=
  bnd (cm_X0_pipeAt_L2 a0 a1 Z0 1000 0) (cs2 (fun _ => some (-1)) (fun x_21 => some x_21))
abbrev rmX0_pipeAt : Room := rmD 3 64 0 0
theorem cwJ2_get_F {own : String} {R : Room} {s : State} {args : Array Value} {index : Nat} (hts : ∀ w ∈ lw_all, w.before args s = true) (hl : Cond.methodLink own index ⟨"java/util/List", "get", "(I)Ljava/lang/Object;"⟩ ∈ lw_all) (hF : va_Fw "java/util/ArrayList" ⟨"java/util/List", "get", "(I)Ljava/lang/Object;"⟩ yJ2_get s) (hR : rmJ2_get.frames + 1 ≤ R.frames ∧ 8 + (2 + 11) + rmJ2_get.locals ≤ R.locals) : va_CI R s args own RJ2 index ⟨"java/util/List", "get", "(I)Ljava/lang/Object;"⟩ yJ2_get cJ2_get 2 (some (.object "java/lang/Object")) (ws_ yJ2_get cJ2_get 2 (some (.object "java/lang/Object"))) rmJ2_get 0 0 1 := va_cwF 1 hts (lw_app (by intro w hw; simp only [List.mem_cons, List.not_mem_nil, or_false] at hw; rcases hw with rfl | rfl | rfl | rfl; exact hl; exact q509; exact q511; exact q110) (lw_meth q513)) rfl rfl rfl hF ⟨by decide, by decide, by decide +kernel⟩ hR
set_option maxHeartbeats 4000000 in
theorem metX0_pipeAt {l : Launch} {gp : Nat → Nat} {D : va_G} {K : Nat → ClassId} {Z0 : c_S} {a0 : Nat} {a1 : Int32} {r : Int32} (h : cm_X0_pipeAt Z0 a0 a1 = some r) : Met l yX0_pipeAt (ws_ yX0_pipeAt cX0_pipeAt 3 (some .int)) rmX0_pipeAt (z_Pc gp [.ref a0, .int a1] D K Z0) (z_Q (.returned (some (.int r))) D K (z_A Z0) Z0) 0 0 (z_A Z0) := by
  refine d_met rfl (Nat.le_of_ble_eq_true rfl) ?_
  intro p e s m below meth c ls S hr hlk hnm hl hW hsz
  have S : CallFix p m c cX0_pipeAt 3 s ([.ref a0, .int a1] : List Value).toArray lw_all RX0 := S
  have hx := S.1
  have hb := S.2.1
  have hl : lv_has ls 3 [(0, .ref a0), (1, .int a1)] := hl
  have hnm : meth.name = "pipeAt" := hnm
  have Lp2 : ∀ (x0 : Nat) (x1 : Int32) (Z : c_S) (n : Nat) (x2 : Int32) (out : ((Unit) ⊕ (Int32))) (H : Heap) (locs : List Loc) (ls : Array Slot), cm_X0_pipeAt_L2 x0 x1 Z n x2 = some out → z_W gp D K (z_A Z0) s Z H locs → lv_has ls 3 [(0, .ref x0), (1, .int x1), (2, .int x2)] → (out = (.inl ()) → ∀ (H : Heap) (locs : List Loc) (ls : Array Slot), z_W gp D K (z_A Z0) s Z H locs → lv_has ls 3 [] → W p l e rmX0_pipeAt s m ([.ref a0, .int a1] : List Value).toArray below meth c H locs 0 0 (MQ below (z_Q (.returned (some (.int r))) D K (z_A Z0) Z0) ([.ref a0, .int a1] : List Value).toArray s 0 0 (z_A Z0)) (F0 m 49 ls [])) → (∀ (o2 : Int32), out = (.inr o2) → ∀ (H : Heap) (locs : List Loc) (ls : Array Slot), z_W gp D K (z_A Z0) s Z H locs → lv_has ls 3 [(2, .int o2)] → W p l e rmX0_pipeAt s m ([.ref a0, .int a1] : List Value).toArray below meth c H locs 0 0 (MQ below (z_Q (.returned (some (.int r))) D K (z_A Z0) Z0) ([.ref a0, .int a1] : List Value).toArray s 0 0 (z_A Z0)) (F0 m 41 ls [])) → W p l e rmX0_pipeAt s m ([.ref a0, .int a1] : List Value).toArray below meth c H locs 0 0 (MQ below (z_Q (.returned (some (.int r))) D K (z_A Z0) Z0) ([.ref a0, .int a1] : List Value).toArray s 0 0 (z_A Z0)) (F0 m 2 ls []) := by
    intro x0 x1 Z n
    induction n with
    | zero =>
      intro x2 out H locs ls h
      exact (lp_0 h).elim
    | succ n ih =>
      intro x2 out H locs ls h hW hl k1 k2
      rw [cm_X0_pipeAt_L2_s] at h
      unfold cm_X0_pipeAt_B2 at h
      refine lv_iload_n hx hb dX0_pipeAt_2 rfl (lv_at hl 2 rfl) ?_
      refine lv_aload_n hx hb dX0_pipeAt_3 rfl (lv_at hl 0 rfl) ?_
      refine zw_getA S hW zC_X0 (i := 1) (by decide) (Or.inl q756) (fun _ h => h) dX0_pipeAt_4 h (fun a_1 h => ?_)
      refine zw_getA S hW zC_X1 (i := 5) (by decide) (Or.inr ⟨_, nestW_in q676 rfl⟩) (fun _ h => h) dX0_pipeAt_7 h (fun a_2 h => ?_)
      obtain ⟨⟨_, k_3⟩, h⟩ := zK_some h
      obtain ⟨x_6, h_4, h⟩ := bnd_some h
      refine d_callF (As := []) (rest := [.int x2]) S hW (metJ2_size h_4) (cwJ2_size_F S.2.2.2.2 q1192 (hW.1.2.2.2.2.1.2.2.2.2.2.2.1 _ (List.mem_of_getElem? (i := 1) rfl)) ⟨Nat.le_of_ble_eq_true rfl, Nat.le_of_ble_eq_true rfl⟩) k_3 rfl rfl hl.1 rfl (Nat.le_of_ble_eq_true rfl) dX0_pipeAt_10 ⟨(Nat.le_of_ble_eq_true rfl), (Nat.le_of_ble_eq_true rfl)⟩ rfl (fun H locs hW => ?_)
      refine lv_icmp_ge (tgt := 49) hx hb dX0_pipeAt_15 (by decide) (fun c_7 => ?_) (fun c_7 => ?_)
      · have h := if_t h c_7
        exact k1  (Option.some.inj h).symm _ _ _ hW (lv_sub hl [] rfl)
      · have h := if_f h c_7
        refine lv_aload_n hx hb dX0_pipeAt_18 rfl (lv_at hl 0 rfl) ?_
        refine zw_getA S hW zC_X0 (i := 1) (by decide) (Or.inl q756) (fun _ h => h) dX0_pipeAt_19 h (fun a_8 h => ?_)
        refine zw_getA S hW zC_X1 (i := 5) (by decide) (Or.inr ⟨_, nestW_in q676 rfl⟩) (fun _ h => h) dX0_pipeAt_22 h (fun a_9 h => ?_)
        refine lv_iload_n hx hb dX0_pipeAt_25 rfl (lv_at hl 2 rfl) ?_
        obtain ⟨⟨_, k_10⟩, h⟩ := zK_some h
        obtain ⟨o_13, h_11, h⟩ := bnd_some h
        refine d_callF (As := [.int x2]) (rest := []) S hW (metJ2_get h_11) (cwJ2_get_F S.2.2.2.2 q1194 (hW.1.2.2.2.2.1.2.2.2.2.2.2.1 _ (List.mem_of_getElem? (i := 2) rfl)) ⟨Nat.le_of_ble_eq_true rfl, Nat.le_of_ble_eq_true rfl⟩) k_10 rfl rfl hl.1 rfl (Nat.le_of_ble_eq_true rfl) dX0_pipeAt_26 ⟨(Nat.le_of_ble_eq_true rfl), (Nat.le_of_ble_eq_true rfl)⟩ rfl (fun H locs hW => ?_)
        refine zw_ck (o := o_13) S hW zC_X5 q1195 dX0_pipeAt_31 h (fun h => ?_)
        have h9 := nn_some h
        clear h
        obtain ⟨a_14, rfl, h8⟩ := h9
        have h := h8
        clear h8
        refine zw_getI S hW zC_X5 (i := 0) (by decide) (Or.inr ⟨_, nestW_in q537 rfl⟩) (fun _ h => h) dX0_pipeAt_34 h (fun x_15 h => ?_)
        refine lv_iload_n hx hb dX0_pipeAt_37 rfl (lv_at hl 1 rfl) ?_
        refine lv_icmp_ne (tgt := 43) hx hb dX0_pipeAt_38 (by decide) (fun c_16 => ?_) (fun c_16 => ?_)
        · have h := if_f h c_16
          obtain ⟨x_17, e_18, h⟩ := nmI_some h
          refine lv_iinc (v := x_17) (lv' := [(2, .int x_17), (0, .ref x0), (1, .int x1)]) hx hb dX0_pipeAt_43 hl (k := 2) rfl (by rw [e_18]; rfl) (by decide) rfl (fun ls hl => ?_)
          refine lv_goto (tgt := 2) hx hb dX0_pipeAt_46 (by decide) ?_
          exact ih x_17 out _ _ _ h hW (lv_sub hl [1, 2, 0] rfl) k1 k2
        · have h := if_t h c_16
          exact k2 _ (Option.some.inj h).symm _ _ _ hW (lv_sub hl [2] rfl)
  unfold cm_X0_pipeAt at h
  refine lv_iconst (v := 0) hx hb dX0_pipeAt_0 (by decide) ?_
  refine lv_istore_n (lv' := [(2, .int 0), (0, .ref a0), (1, .int a1)]) hx hb dX0_pipeAt_1 rfl hl (by decide) rfl (fun ls hl => ?_)
  obtain ⟨o_19, h_20, h⟩ := bnd_some h
  have h9 := cs2_some h
  clear h
  rcases h9 with ⟨q, rfl, h⟩ | ⟨q, rfl, h⟩
  · refine Lp2 a0 a1 Z0 1000 0  _ _ _ _ h_20 hW (lv_sub hl [1, 2, 0] rfl) ?_ (fun _ eo => by cases eo)
    intro  eo H locs ls hW hl
    cases eo
    refine lv_iconst (v := (-1)) hx hb dX0_pipeAt_49 (by decide) ?_
    cases h
    exact d_iret S hr hlk hW (Nat.le_of_ble_eq_true rfl) (Nat.le_of_ble_eq_true rfl) dX0_pipeAt_50
  · obtain ⟨x_21, rfl⟩ : ∃ z, z = q := ⟨q, rfl⟩
    refine Lp2 a0 a1 Z0 1000 0  _ _ _ _ h_20 hW (lv_sub hl [1, 2, 0] rfl) (fun eo => by cases eo) ?_
    intro w0 eo H locs ls hW hl
    cases eo
    refine lv_iload_n hx hb dX0_pipeAt_41 rfl (lv_at hl 0 rfl) ?_
    cases h
    exact d_iret S hr hlk hW (Nat.le_of_ble_eq_true rfl) (Nat.le_of_ble_eq_true rfl) dX0_pipeAt_42
def cm_X0_run (Z0 : c_S) (a0 : Nat) (a1 : Int32) (a2 : Int32) : Option (Int32 × c_S) :=
  zK Z0 a0 0 11 <| bnd (cm_X0_isPipe Z0 a0 a1) (fun x_4 => if x_4 = 0 then (some (0, Z0)) else (cA Z0.Sh a0 0 11 1 fun a_6 => cA Z0.Sh a_6 1 20 5 fun a_7 => zK Z0 a_7 14 3 <| bnd (cm_J2_get Z0 a_7 a1) (fun o_11 => zCk Z0 o_11 5 6 <| nn o_11 fun a_12 => cI Z0.Sh Z0.V a_12 5 6 3 fun x_13 => if x_13 = a2 then (some (0, Z0)) else (cA Z0.Sh a0 0 11 1 fun a_15 => cA Z0.Sh a_15 1 20 5 fun a_16 => zK Z0 a_16 14 3 <| bnd (cm_J2_get Z0 a_16 a1) (fun o_20 => zCk Z0 o_20 5 6 <| nn o_20 fun a_21 => okI (isB a2) <| zPI Z0 a_21 5 6 3 a2 fun Z_22 => some (1, Z_22))))))
abbrev rmX0_run : Room := rmD 3 64 0 0
theorem cwX0_isPipe_V {own : String} {R : Room} {s : State} {args : Array Value} {index : Nat} (hts : ∀ w ∈ lw_all, w.before args s = true) (hl : Cond.methodLink own index yX0_isPipe ∈ lw_all) (hR : rmX0_isPipe.frames + 1 ≤ R.frames ∧ 8 + (2 + 11) + rmX0_isPipe.locals ≤ R.locals) : CallW R s args own RX0 index yX0_isPipe cX0_isPipe 2 (some .boolean) (ws_ yX0_isPipe cX0_isPipe 2 (some .boolean)) rmX0_isPipe 0 0 1 := cwV 1 hts (lw_V hl q1211 qs38 q105 q1212) rfl rfl rfl (by decide +kernel) hR
set_option maxHeartbeats 4000000 in
theorem metX0_run {l : Launch} {gp : Nat → Nat} {D : va_G} {K : Nat → ClassId} {Z0 : c_S} {a0 : Nat} {a1 : Int32} {a2 : Int32} {r : Int32} {Z' : c_S} (h : cm_X0_run Z0 a0 a1 a2 = some (r, Z')) : Met l yX0_run (ws_ yX0_run cX0_run 3 (some .boolean)) rmX0_run (z_Pc gp [.ref a0, .int a1, .int a2] D K Z0) (z_Q (.returned (some (.int r))) D K (z_A Z0) Z') 0 0 (z_A Z0) := by
  refine d_met rfl (Nat.le_of_ble_eq_true rfl) ?_
  intro p e s m below meth c ls S hr hlk hnm hl hW hsz
  have S : CallFix p m c cX0_run 3 s ([.ref a0, .int a1, .int a2] : List Value).toArray lw_all RX0 := S
  have hx := S.1
  have hb := S.2.1
  have hl : lv_has ls 3 [(0, .ref a0), (1, .int a1), (2, .int a2)] := hl
  have hnm : meth.name = "run" := hnm
  unfold cm_X0_run at h
  refine lv_aload_n hx hb dX0_run_0 rfl (lv_at hl 0 rfl) ?_
  refine lv_iload_n hx hb dX0_run_1 rfl (lv_at hl 1 rfl) ?_
  obtain ⟨⟨_, k_1⟩, h⟩ := zK_some h
  obtain ⟨x_4, h_2, h⟩ := bnd_some h
  refine d_callV (As := [.int a1]) (rest := []) S hW (metX0_isPipe h_2) (cwX0_isPipe_V S.2.2.2.2 q1209 ⟨Nat.le_of_ble_eq_true rfl, Nat.le_of_ble_eq_true rfl⟩) k_1 rfl rfl hl.1 rfl (Nat.le_of_ble_eq_true rfl) dX0_run_2 ⟨(Nat.le_of_ble_eq_true rfl), (Nat.le_of_ble_eq_true rfl)⟩ rfl (fun H locs hW => ?_)
  refine lv_if_eq (tgt := 31) hx hb dX0_run_5 (by decide) (fun c_5 => ?_) (fun c_5 => ?_)
  · have h := if_t h c_5
    refine lv_iconst (v := 0) hx hb dX0_run_31 (by decide) ?_
    cases h
    exact d_zret S hr hlk rfl hW (Nat.le_of_ble_eq_true rfl) (Nat.le_of_ble_eq_true rfl) dX0_run_32
  · have h := if_f h c_5
    refine lv_aload_n hx hb dX0_run_8 rfl (lv_at hl 0 rfl) ?_
    refine zw_getA S hW zC_X0 (i := 1) (by decide) (Or.inl q756) (fun _ h => h) dX0_run_9 h (fun a_6 h => ?_)
    refine zw_getA S hW zC_X1 (i := 5) (by decide) (Or.inr ⟨_, nestW_in q676 rfl⟩) (fun _ h => h) dX0_run_12 h (fun a_7 h => ?_)
    refine lv_iload_n hx hb dX0_run_15 rfl (lv_at hl 1 rfl) ?_
    obtain ⟨⟨_, k_8⟩, h⟩ := zK_some h
    obtain ⟨o_11, h_9, h⟩ := bnd_some h
    refine d_callF (As := [.int a1]) (rest := []) S hW (metJ2_get h_9) (cwJ2_get_F S.2.2.2.2 q1194 (hW.1.2.2.2.2.1.2.2.2.2.2.2.1 _ (List.mem_of_getElem? (i := 2) rfl)) ⟨Nat.le_of_ble_eq_true rfl, Nat.le_of_ble_eq_true rfl⟩) k_8 rfl rfl hl.1 rfl (Nat.le_of_ble_eq_true rfl) dX0_run_16 ⟨(Nat.le_of_ble_eq_true rfl), (Nat.le_of_ble_eq_true rfl)⟩ rfl (fun H locs hW => ?_)
    refine zw_ck (o := o_11) S hW zC_X5 q1195 dX0_run_21 h (fun h => ?_)
    have h9 := nn_some h
    clear h
    obtain ⟨a_12, rfl, h8⟩ := h9
    have h := h8
    clear h8
    refine zw_getI S hW zC_X5 (i := 3) (by decide) (Or.inr ⟨_, nestW_in q547 rfl⟩) (fun _ h => h) dX0_run_24 h (fun x_13 h => ?_)
    refine lv_iload_n hx hb dX0_run_27 rfl (lv_at hl 2 rfl) ?_
    refine lv_icmp_ne (tgt := 33) hx hb dX0_run_28 (by decide) (fun c_14 => ?_) (fun c_14 => ?_)
    · have h := if_f h c_14
      refine lv_aload_n hx hb dX0_run_33 rfl (lv_at hl 0 rfl) ?_
      refine zw_getA S hW zC_X0 (i := 1) (by decide) (Or.inl q756) (fun _ h => h) dX0_run_34 h (fun a_15 h => ?_)
      refine zw_getA S hW zC_X1 (i := 5) (by decide) (Or.inr ⟨_, nestW_in q676 rfl⟩) (fun _ h => h) dX0_run_37 h (fun a_16 h => ?_)
      refine lv_iload_n hx hb dX0_run_40 rfl (lv_at hl 1 rfl) ?_
      obtain ⟨⟨_, k_17⟩, h⟩ := zK_some h
      obtain ⟨o_20, h_18, h⟩ := bnd_some h
      refine d_callF (As := [.int a1]) (rest := []) S hW (metJ2_get h_18) (cwJ2_get_F S.2.2.2.2 q1194 (hW.1.2.2.2.2.1.2.2.2.2.2.2.1 _ (List.mem_of_getElem? (i := 2) rfl)) ⟨Nat.le_of_ble_eq_true rfl, Nat.le_of_ble_eq_true rfl⟩) k_17 rfl rfl hl.1 rfl (Nat.le_of_ble_eq_true rfl) dX0_run_41 ⟨(Nat.le_of_ble_eq_true rfl), (Nat.le_of_ble_eq_true rfl)⟩ rfl (fun H locs hW => ?_)
      refine zw_ck (o := o_20) S hW zC_X5 q1195 dX0_run_46 h (fun h => ?_)
      refine lv_iload_n hx hb dX0_run_49 rfl (lv_at hl 2 rfl) ?_
      have h9 := nn_some h
      clear h
      obtain ⟨a_21, rfl, h8⟩ := h9
      have h := h8
      clear h8
      obtain ⟨h_23, h⟩ := okI_some h
      refine zw_putI S hW zC_X5 (i := 3) (by decide) (Or.inl rfl) rfl (isB_narrow h_23) (isB_fits h_23) (Or.inr ⟨_, nestW_in q547 rfl⟩) (fun _ h => h) dX0_run_50 h (fun Z_22 h H locs hW => ?_)
      refine lv_iconst (v := 1) hx hb dX0_run_53 (by decide) ?_
      cases h
      exact d_zret S hr hlk rfl hW (Nat.le_of_ble_eq_true rfl) (Nat.le_of_ble_eq_true rfl) dX0_run_54
    · have h := if_t h c_14
      refine lv_iconst (v := 0) hx hb dX0_run_31 (by decide) ?_
      cases h
      exact d_zret S hr hlk rfl hW (Nat.le_of_ble_eq_true rfl) (Nat.le_of_ble_eq_true rfl) dX0_run_32
