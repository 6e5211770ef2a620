/-! walks of the reference: X8_tick X8_lacks X8_mayDig X8_more X8_dig -/
set_option maxRecDepth 100000
def tw_tick_B34 (x1 : Int32) (rec : Int32 → g_V → Option (g_V)) (x2 : Int32) (V : g_V) : Option (g_V) :=
  if x1 ≤ x2 then (some V) else (bnd (tw_ticks V) (fun V_12 => nmI (x2 + 1) fun x_13 => rec x_13 V_12))
abbrev tw_tick_F34 (x1 : Int32) : ((Int32 × g_V) → Option (g_V)) → (Int32 × g_V) → Option (g_V) := fun rec s => tw_tick_B34 x1 (fun x2 V => rec (x2, V)) s.1 s.2
def tw_tick_L34 (x1 : Int32) (n : Nat) (x2 : Int32) (V : g_V) : Option (g_V) := lp (tw_tick_F34 x1) n (x2, V)
theorem tw_tick_L34_s (x1 : Int32) (n : Nat) (x2 : Int32) (V : g_V) : tw_tick_L34 x1 (n + 1) x2 V = tw_tick_B34 x1 (fun x2 V => tw_tick_L34 x1 n x2 V) x2 V := lp_s (tw_tick_F34 x1) n (x2, V)
def tw_tick (V0 : g_V) (a1 : Int32) : Option (Int32 × g_V) :=
  bnd (tw_in a1.toInt64 1 40) (fun x_3 => if x_3 = 0 then (some ((-2), V0)) else (rdI (V0 1) 810 1 fun x_5 => if (x_5 + a1) ≤ 2000 then (bnd (tw_tick_L34 a1 1000 0 V0) (fun V_17 => rdI (V_17 1) 810 1 fun x_18 => some (x_18, V_17))) else (some ((-3), V0))))
abbrev rmX8_tick : Room := rm_ 7 162
set_option maxHeartbeats 4000000 in
theorem metX8_tick {l : Launch} {gp : Nat → Nat} {nx : Nat} {D : va_G} {K : Nat → ClassId} {al : Nat → Nat} {V0 : g_V} {L0 : g_L} {a1 : Int32} {r : Int32} {V' : g_V} (h : tw_tick V0 a1 = some (r, V')) : Met l yX8_tick (ws_ yX8_tick cX8_tick 3 (some .int)) rmX8_tick (twPc gp nx [.ref (al 0), .int a1] D K al V0 L0) (twQi r nx D K al V' L0) 0 0 (g_A al twSh) := by
  refine g_met rfl (Nat.le_of_ble_eq_true rfl) ?_
  intro p e s m below meth c ls S hr hlk hnm hl hW
  have S : CallFix p m c cX8_tick 3 s ([.ref (al 0), .int a1] : List Value).toArray lw_all RX8 := S
  have hx := S.1
  have hb := S.2.1
  have hl : lv_has ls 3 [(0, .ref (al 0)), (1, .int a1)] := hl
  have Lp34 : ∀ (x1 : Int32) (L : g_L) (n : Nat) (x2 : Int32) (V : g_V) (out : (g_V)) (H : Heap) (locs : List Loc) (ls : Array Slot), tw_tick_L34 x1 n x2 V = some out → twW gp nx D K al s V L H locs → lv_has ls 3 [(0, .ref (al 0)), (1, .int x1), (2, .int x2)] → (∀ (oV : g_V), out = oV → ∀ (H : Heap) (locs : List Loc) (ls : Array Slot), twW gp nx D K al s oV L H locs → lv_has ls 3 [(0, .ref (al 0))] → W p l e rmX8_tick s m ([.ref (al 0), .int a1] : List Value).toArray below meth c H locs 0 0 (MQ below (twQi r nx D K al V' L0) ([.ref (al 0), .int a1] : List Value).toArray s 0 0 (g_A al twSh)) (F0 m 49 ls [])) → W p l e rmX8_tick s m ([.ref (al 0), .int a1] : List Value).toArray below meth c H locs 0 0 (MQ below (twQi r nx D K al V' L0) ([.ref (al 0), .int a1] : List Value).toArray s 0 0 (g_A al twSh)) (F0 m 34 ls []) := by
    intro x1 L n
    induction n with
    | zero =>
      intro x2 V out H locs ls h
      exact (lp_0 h).elim
    | succ n ih =>
      intro x2 V out H locs ls h hW hl k1
      rw [tw_tick_L34_s] at h
      unfold tw_tick_B34 at h
      refine lv_iload_n hx hb dX8_tick_34 rfl (lv_at hl 2 rfl) ?_
      refine lv_iload_n hx hb dX8_tick_35 rfl (lv_at hl 1 rfl) ?_
      refine lv_icmp_ge (tgt := 49) hx hb dX8_tick_36 (by decide) (fun c_9 => ?_) (fun c_9 => ?_)
      · have h := if_t h c_9
        exact k1 _ (Option.some.inj h).symm _ _ _ hW (lv_sub hl [0] rfl)
      · have h := if_f h c_9
        refine lv_aload_n hx hb dX8_tick_39 rfl (lv_at hl 0 rfl) ?_
        obtain ⟨V_12, h_10, h⟩ := bnd_some h
        refine g_callVv (As := []) (rest := []) S hW (metX8_ticks h_10) (cwX8_ticks S.2.2.2.2 q1767 ⟨Nat.le_of_ble_eq_true rfl, Nat.le_of_ble_eq_true rfl⟩) (k := 0) rfl rfl rfl hl.1 rfl (Nat.le_of_ble_eq_true rfl) dX8_tick_40 ⟨Nat.le_refl _, Nat.le_refl _⟩ (fun H locs hW => ?_)
        obtain ⟨x_13, e_14, h⟩ := nmI_some h
        refine lv_iinc (v := x_13) (lv' := [(2, .int x_13), (0, .ref (al 0)), (1, .int x1)]) hx hb dX8_tick_43 hl (k := 2) rfl (by rw [e_14]; rfl) (by decide) rfl (fun ls hl => ?_)
        refine lv_goto (tgt := 34) hx hb dX8_tick_46 (by decide) ?_
        exact ih x_13 V_12 out _ _ _ h hW (lv_sub hl [1, 2, 0] rfl) k1
  unfold tw_tick at h
  refine lv_iload_n hx hb dX8_tick_0 rfl (lv_at hl 1 rfl) ?_
  refine lv_i2l (v := a1.toInt64) hx hb dX8_tick_1 rfl ?_
  refine lv_lconst (v := 1) hx hb dX8_tick_2 (by decide) ?_
  refine lv_ldc2 (v := 40) hx hb S.2.2.2.1 (S.2.2.2.2 _ q1766) dX8_tick_3 ?_
  obtain ⟨x_3, h_1, h⟩ := bnd_some h
  refine g_callSi (As := [.long a1.toInt64, .long 1, .long 40]) (rest := []) S hW (metX8_in h_1) (cwX8_in S.2.2.2.2 q1625 ⟨Nat.le_of_ble_eq_true rfl, Nat.le_of_ble_eq_true rfl⟩) rfl hl.1 rfl (Nat.le_of_ble_eq_true rfl) dX8_tick_6 ⟨Nat.le_refl _, Nat.le_refl _⟩ (fun H locs hW => ?_)
  refine lv_if_ne (tgt := 15) hx hb dX8_tick_9 (by decide) (fun c_4 => ?_) (fun c_4 => ?_)
  · have h := if_f h c_4
    refine lv_aload_n hx hb dX8_tick_15 rfl (lv_at hl 0 rfl) ?_
    refine tw_ref S hW 1 1 (by decide) rfl q1500 rfl dX8_tick_16 ?_
    refine lv_iconst (v := 1) hx hb dX8_tick_19 (by decide) ?_
    obtain ⟨h_6, x_5, e_7, h⟩ := rdI_some h
    refine g_iald S hW (k := 1) rfl rfl h_6 e_7 dX8_tick_20 ?_
    refine lv_iload_n hx hb dX8_tick_21 rfl (lv_at hl 1 rfl) ?_
    refine lv_iadd hx hb dX8_tick_22 ?_
    refine lv_sipush (v := 2000) hx hb dX8_tick_23 (by decide) ?_
    refine lv_icmp_le (tgt := 32) hx hb dX8_tick_26 (by decide) (fun c_8 => ?_) (fun c_8 => ?_)
    · have h := if_t h c_8
      refine lv_iconst (v := 0) hx hb dX8_tick_32 (by decide) ?_
      refine lv_istore_n (lv' := [(2, .int 0), (0, .ref (al 0)), (1, .int a1)]) hx hb dX8_tick_33 rfl hl (by decide) rfl (fun ls hl => ?_)
      obtain ⟨V_17, h_16, h⟩ := bnd_some h
      refine Lp34 a1 L0 1000 0 V0  _ _ _ _ h_16 hW (lv_sub hl [1, 2, 0] rfl) ?_
      intro w0 eo H locs ls hW hl
      subst eo
      refine lv_aload_n hx hb dX8_tick_49 rfl (lv_at hl 0 rfl) ?_
      refine tw_ref S hW 1 1 (by decide) rfl q1500 rfl dX8_tick_50 ?_
      refine lv_iconst (v := 1) hx hb dX8_tick_53 (by decide) ?_
      obtain ⟨h_19, x_18, e_20, h⟩ := rdI_some h
      refine g_iald S hW (k := 1) rfl rfl h_19 e_20 dX8_tick_54 ?_
      cases h
      exact g_iret S hr hlk hW dX8_tick_55
    · have h := if_f h c_8
      refine lv_bipush (v := (-3)) hx hb dX8_tick_29 (by decide) ?_
      cases h
      exact g_iret S hr hlk hW dX8_tick_31
  · have h := if_t h c_4
    refine lv_bipush (v := (-2)) hx hb dX8_tick_12 (by decide) ?_
    cases h
    exact g_iret S hr hlk hW dX8_tick_14
theorem cwX8_tick {R : Room} {s : State} {args : Array Value} {index : Nat} (hts : ∀ w ∈ lw_all, w.before args s = true) (hl : Cond.methodLink RX8 index yX8_tick ∈ lw_all) (hR : rmX8_tick.frames + 1 ≤ R.frames ∧ 8 + (3 + 11) + rmX8_tick.locals ≤ R.locals) : CallW R s args RX8 RX8 index yX8_tick cX8_tick 3 (some .int) (ws_ yX8_tick cX8_tick 3 (some .int)) rmX8_tick 0 0 1 := cwV 1 hts (lw_V hl q1763 q1764 q122 q1765) rfl rfl rfl (by decide +kernel) hR
def tw_lacks_B34 (x2 : Int32) (rec : Int32 → Int32 → g_V → Option (Int32 × g_V)) (x3 : Int32) (x4 : Int32) (V : g_V) : Option (Int32 × g_V) :=
  rdI (V 1) 810 x2 fun x_10 => if x_10 ≤ x4 then (some (x3, V)) else (bnd (tw_condHolds V ((x2 + 1) + (3 * x4))) (un2 fun x_16 V_17 => if x_16 = 0 then (nmI (x3 ||| ((1 : Int32) <<< (x4 &&& 31))) fun x_19 => nmI (x4 + 1) fun x_21 => rec x_19 x_21 V_17) else (nmI (x3 ||| 0) fun x_23 => nmI (x4 + 1) fun x_25 => rec x_23 x_25 V_17)))
abbrev tw_lacks_F34 (x2 : Int32) : ((Int32 × Int32 × g_V) → Option (Int32 × g_V)) → (Int32 × Int32 × g_V) → Option (Int32 × g_V) := fun rec s => tw_lacks_B34 x2 (fun x3 x4 V => rec (x3, x4, V)) s.1 s.2.1 s.2.2
def tw_lacks_L34 (x2 : Int32) (n : Nat) (x3 : Int32) (x4 : Int32) (V : g_V) : Option (Int32 × g_V) := lp (tw_lacks_F34 x2) n (x3, x4, V)
theorem tw_lacks_L34_s (x2 : Int32) (n : Nat) (x3 : Int32) (x4 : Int32) (V : g_V) : tw_lacks_L34 x2 (n + 1) x3 x4 V = tw_lacks_B34 x2 (fun x3 x4 V => tw_lacks_L34 x2 n x3 x4 V) x3 x4 V := lp_s (tw_lacks_F34 x2) n (x3, x4, V)
def tw_lacks (V0 : g_V) (a1 : Int32) : Option (Int32 × g_V) :=
  rdI (V0 1) 810 4 fun x_1 => bnd (tw_in a1.toInt64 0 ((x_1 - 1).toInt64)) (fun x_6 => if x_6 = 0 then (some ((-1), V0)) else (nmI (750 + (10 * a1)) fun x_8 => bnd (tw_lacks_L34 x_8 1000 0 0 V0) (un2 fun x_29 V_30 => some (x_29, V_30))))
abbrev rmX8_lacks : Room := rm_ 8 185
set_option maxHeartbeats 4000000 in
theorem metX8_lacks {l : Launch} {gp : Nat → Nat} {nx : Nat} {D : va_G} {K : Nat → ClassId} {al : Nat → Nat} {V0 : g_V} {L0 : g_L} {a1 : Int32} {r : Int32} {V' : g_V} (h : tw_lacks V0 a1 = some (r, V')) : Met l yX8_lacks (ws_ yX8_lacks cX8_lacks 5 (some .int)) rmX8_lacks (twPc gp nx [.ref (al 0), .int a1] D K al V0 L0) (twQi r nx D K al V' L0) 0 0 (g_A al twSh) := by
  refine g_met rfl (Nat.le_of_ble_eq_true rfl) ?_
  intro p e s m below meth c ls S hr hlk hnm hl hW
  have S : CallFix p m c cX8_lacks 5 s ([.ref (al 0), .int a1] : List Value).toArray lw_all RX8 := S
  have hx := S.1
  have hb := S.2.1
  have hl : lv_has ls 5 [(0, .ref (al 0)), (1, .int a1)] := hl
  have Lp34 : ∀ (x2 : Int32) (L : g_L) (n : Nat) (x3 : Int32) (x4 : Int32) (V : g_V) (out : (Int32 × g_V)) (H : Heap) (locs : List Loc) (ls : Array Slot), tw_lacks_L34 x2 n x3 x4 V = some out → twW gp nx D K al s V L H locs → lv_has ls 5 [(0, .ref (al 0)), (2, .int x2), (3, .int x3), (4, .int x4)] → (∀ (o3 : Int32) (oV : g_V), out = (o3, oV) → ∀ (H : Heap) (locs : List Loc) (ls : Array Slot), twW gp nx D K al s oV L H locs → lv_has ls 5 [(3, .int o3)] → W p l e rmX8_lacks s m ([.ref (al 0), .int a1] : List Value).toArray below meth c H locs 0 0 (MQ below (twQi r nx D K al V' L0) ([.ref (al 0), .int a1] : List Value).toArray s 0 0 (g_A al twSh)) (F0 m 77 ls [])) → W p l e rmX8_lacks s m ([.ref (al 0), .int a1] : List Value).toArray below meth c H locs 0 0 (MQ below (twQi r nx D K al V' L0) ([.ref (al 0), .int a1] : List Value).toArray s 0 0 (g_A al twSh)) (F0 m 34 ls []) := by
    intro x2 L n
    induction n with
    | zero =>
      intro x3 x4 V out H locs ls h
      exact (lp_0 h).elim
    | succ n ih =>
      intro x3 x4 V out H locs ls h hW hl k1
      rw [tw_lacks_L34_s] at h
      unfold tw_lacks_B34 at h
      refine lv_iload hx hb dX8_lacks_34 (lv_at hl 3 rfl) ?_
      refine lv_aload_n hx hb dX8_lacks_36 rfl (lv_at hl 0 rfl) ?_
      refine tw_ref S hW 1 1 (by decide) rfl q1500 rfl dX8_lacks_37 ?_
      refine lv_iload_n hx hb dX8_lacks_40 rfl (lv_at hl 1 rfl) ?_
      obtain ⟨h_11, x_10, e_12, h⟩ := rdI_some h
      refine g_iald S hW (k := 1) rfl rfl h_11 e_12 dX8_lacks_41 ?_
      refine lv_icmp_ge (tgt := 77) hx hb dX8_lacks_42 (by decide) (fun c_13 => ?_) (fun c_13 => ?_)
      · have h := if_t h c_13
        exact k1 _ _ (Option.some.inj h).symm _ _ _ hW (lv_sub hl [2] rfl)
      · have h := if_f h c_13
        refine lv_iload_n hx hb dX8_lacks_45 rfl (lv_at hl 2 rfl) ?_
        refine lv_aload_n hx hb dX8_lacks_46 rfl (lv_at hl 0 rfl) ?_
        refine lv_iload_n hx hb dX8_lacks_47 rfl (lv_at hl 1 rfl) ?_
        refine lv_iconst (v := 1) hx hb dX8_lacks_48 (by decide) ?_
        refine lv_iadd hx hb dX8_lacks_49 ?_
        refine lv_iconst (v := 3) hx hb dX8_lacks_50 (by decide) ?_
        refine lv_iload hx hb dX8_lacks_51 (lv_at hl 3 rfl) ?_
        refine lv_imul hx hb dX8_lacks_53 ?_
        refine lv_iadd hx hb dX8_lacks_54 ?_
        obtain ⟨x_16, V_17, h_14, h⟩ := bnd2_some h
        refine g_callVi (As := [.int ((x2 + 1) + (3 * x4))]) (rest := [.int x3]) S hW (metX8_condHolds h_14) (cwX8_condHolds S.2.2.2.2 q1920 ⟨Nat.le_of_ble_eq_true rfl, Nat.le_of_ble_eq_true rfl⟩) (k := 0) rfl rfl rfl hl.1 rfl (Nat.le_of_ble_eq_true rfl) dX8_lacks_55 ⟨Nat.le_refl _, Nat.le_refl _⟩ (fun H locs hW => ?_)
        refine lv_if_eq (tgt := 65) hx hb dX8_lacks_58 (by decide) (fun c_18 => ?_) (fun c_18 => ?_)
        · have h := if_t h c_18
          refine lv_iconst (v := 1) hx hb dX8_lacks_65 (by decide) ?_
          refine lv_iload hx hb dX8_lacks_66 (lv_at hl 3 rfl) ?_
          refine lv_ishl hx hb dX8_lacks_68 ?_
          refine lv_ior hx hb dX8_lacks_69 ?_
          obtain ⟨x_19, e_20, h⟩ := nmI_some h
          refine g_nmi e_20 ?_
          refine lv_istore_n (lv' := [(3, .int x_19), (0, .ref (al 0)), (2, .int x2), (4, .int x4)]) hx hb dX8_lacks_70 rfl hl (by decide) rfl (fun ls hl => ?_)
          obtain ⟨x_21, e_22, h⟩ := nmI_some h
          refine lv_iinc (v := x_21) (lv' := [(4, .int x_21), (3, .int x_19), (0, .ref (al 0)), (2, .int x2)]) hx hb dX8_lacks_71 hl (k := 3) rfl (by rw [e_22]; rfl) (by decide) rfl (fun ls hl => ?_)
          refine lv_goto (tgt := 34) hx hb dX8_lacks_74 (by decide) ?_
          exact ih x_19 x_21 V_17 out _ _ _ h hW (lv_sub hl [2, 3, 1, 0] rfl) k1
        · have h := if_f h c_18
          refine lv_iconst (v := 0) hx hb dX8_lacks_61 (by decide) ?_
          refine lv_goto (tgt := 69) hx hb dX8_lacks_62 (by decide) ?_
          refine lv_ior hx hb dX8_lacks_69 ?_
          obtain ⟨x_23, e_24, h⟩ := nmI_some h
          refine g_nmi e_24 ?_
          refine lv_istore_n (lv' := [(3, .int x_23), (0, .ref (al 0)), (2, .int x2), (4, .int x4)]) hx hb dX8_lacks_70 rfl hl (by decide) rfl (fun ls hl => ?_)
          obtain ⟨x_25, e_26, h⟩ := nmI_some h
          refine lv_iinc (v := x_25) (lv' := [(4, .int x_25), (3, .int x_23), (0, .ref (al 0)), (2, .int x2)]) hx hb dX8_lacks_71 hl (k := 3) rfl (by rw [e_26]; rfl) (by decide) rfl (fun ls hl => ?_)
          refine lv_goto (tgt := 34) hx hb dX8_lacks_74 (by decide) ?_
          exact ih x_23 x_25 V_17 out _ _ _ h hW (lv_sub hl [2, 3, 1, 0] rfl) k1
  unfold tw_lacks at h
  refine lv_iload_n hx hb dX8_lacks_0 rfl (lv_at hl 1 rfl) ?_
  refine lv_i2l (v := a1.toInt64) hx hb dX8_lacks_1 rfl ?_
  refine lv_lconst (v := 0) hx hb dX8_lacks_2 (by decide) ?_
  refine lv_aload_n hx hb dX8_lacks_3 rfl (lv_at hl 0 rfl) ?_
  refine tw_ref S hW 1 1 (by decide) rfl q1500 rfl dX8_lacks_4 ?_
  refine lv_iconst (v := 4) hx hb dX8_lacks_7 (by decide) ?_
  obtain ⟨h_2, x_1, e_3, h⟩ := rdI_some h
  refine g_iald S hW (k := 1) rfl rfl h_2 e_3 dX8_lacks_8 ?_
  refine lv_iconst (v := 1) hx hb dX8_lacks_9 (by decide) ?_
  refine lv_isub hx hb dX8_lacks_10 ?_
  refine lv_i2l (v := (x_1 - 1).toInt64) hx hb dX8_lacks_11 rfl ?_
  obtain ⟨x_6, h_4, h⟩ := bnd_some h
  refine g_callSi (As := [.long a1.toInt64, .long 0, .long ((x_1 - 1).toInt64)]) (rest := []) S hW (metX8_in h_4) (cwX8_in S.2.2.2.2 q1625 ⟨Nat.le_of_ble_eq_true rfl, Nat.le_of_ble_eq_true rfl⟩) rfl hl.1 rfl (Nat.le_of_ble_eq_true rfl) dX8_lacks_12 ⟨Nat.le_refl _, Nat.le_refl _⟩ (fun H locs hW => ?_)
  refine lv_if_ne (tgt := 20) hx hb dX8_lacks_15 (by decide) (fun c_7 => ?_) (fun c_7 => ?_)
  · have h := if_f h c_7
    refine lv_sipush (v := 750) hx hb dX8_lacks_20 (by decide) ?_
    refine lv_bipush (v := 10) hx hb dX8_lacks_23 (by decide) ?_
    refine lv_iload_n hx hb dX8_lacks_25 rfl (lv_at hl 1 rfl) ?_
    refine lv_imul hx hb dX8_lacks_26 ?_
    refine lv_iadd hx hb dX8_lacks_27 ?_
    obtain ⟨x_8, e_9, h⟩ := nmI_some h
    refine g_nmi e_9 ?_
    refine lv_istore_n (lv' := [(2, .int x_8), (0, .ref (al 0)), (1, .int a1)]) hx hb dX8_lacks_28 rfl hl (by decide) rfl (fun ls hl => ?_)
    refine lv_iconst (v := 0) hx hb dX8_lacks_29 (by decide) ?_
    refine lv_istore_n (lv' := [(3, .int 0), (2, .int x_8), (0, .ref (al 0)), (1, .int a1)]) hx hb dX8_lacks_30 rfl hl (by decide) rfl (fun ls hl => ?_)
    refine lv_iconst (v := 0) hx hb dX8_lacks_31 (by decide) ?_
    refine lv_istore (lv' := [(4, .int 0), (3, .int 0), (2, .int x_8), (0, .ref (al 0)), (1, .int a1)]) hx hb dX8_lacks_32 hl (by decide) rfl (fun ls hl => ?_)
    obtain ⟨x_29, V_30, h_28, h⟩ := bnd2_some h
    refine Lp34 x_8 L0 1000 0 0 V0  _ _ _ _ h_28 hW (lv_sub hl [3, 2, 1, 0] rfl) ?_
    intro w0 w1 eo H locs ls hW hl
    cases eo
    refine lv_iload_n hx hb dX8_lacks_77 rfl (lv_at hl 0 rfl) ?_
    cases h
    exact g_iret S hr hlk hW dX8_lacks_78
  · have h := if_t h c_7
    refine lv_iconst (v := (-1)) hx hb dX8_lacks_18 (by decide) ?_
    cases h
    exact g_iret S hr hlk hW dX8_lacks_19
theorem cwX8_lacks {R : Room} {s : State} {args : Array Value} {index : Nat} (hts : ∀ w ∈ lw_all, w.before args s = true) (hl : Cond.methodLink RX8 index yX8_lacks ∈ lw_all) (hR : rmX8_lacks.frames + 1 ≤ R.frames ∧ 8 + (5 + 11) + rmX8_lacks.locals ≤ R.locals) : CallW R s args RX8 RX8 index yX8_lacks cX8_lacks 5 (some .int) (ws_ yX8_lacks cX8_lacks 5 (some .int)) rmX8_lacks 0 0 1 := cwV 1 hts (lw_V hl q1917 q1918 q122 q1919) rfl rfl rfl (by decide +kernel) hR
def tw_mayDig_B17 (rec : Int32 → Int32 → g_V → Option (Int32 × g_V)) (x1 : Int32) (x2 : Int32) (V : g_V) : Option (Int32 × g_V) :=
  rdI (V 1) 810 4 fun x_5 => if x_5 ≤ x2 then (some (x1, V)) else (if x1 = 0 then (bnd (tw_lacks V x2) (un2 fun x_14 V_15 => if x_14 = 0 then (nmI (x2 + 1) fun x_19 => rec 1 x_19 V_15) else (nmI (x2 + 1) fun x_17 => rec 0 x_17 V_15))) else (nmI (x2 + 1) fun x_10 => rec 1 x_10 V))
abbrev tw_mayDig_F17 : ((Int32 × Int32 × g_V) → Option (Int32 × g_V)) → (Int32 × Int32 × g_V) → Option (Int32 × g_V) := fun rec s => tw_mayDig_B17 (fun x1 x2 V => rec (x1, x2, V)) s.1 s.2.1 s.2.2
def tw_mayDig_L17 (n : Nat) (x1 : Int32) (x2 : Int32) (V : g_V) : Option (Int32 × g_V) := lp (tw_mayDig_F17) n (x1, x2, V)
theorem tw_mayDig_L17_s (n : Nat) (x1 : Int32) (x2 : Int32) (V : g_V) : tw_mayDig_L17 (n + 1) x1 x2 V = tw_mayDig_B17 (fun x1 x2 V => tw_mayDig_L17 n x1 x2 V) x1 x2 V := lp_s (tw_mayDig_F17) n (x1, x2, V)
def tw_mayDig_J14 (z0 : Int32) (V : g_V) : Option (Int32 × g_V) :=
  bnd (tw_mayDig_L17 1000 z0 0 V) (un2 fun x_23 V_24 => okI (isB x_23) <| some (x_23, V_24))
def tw_mayDig (V0 : g_V) : Option (Int32 × g_V) :=
  rdI (V0 1) 810 4 fun x_1 => if x_1 = 0 then (tw_mayDig_J14 1 V0) else (tw_mayDig_J14 0 V0)
abbrev rmX8_mayDig : Room := rm_ 9 209
set_option maxHeartbeats 4000000 in
theorem metX8_mayDig {l : Launch} {gp : Nat → Nat} {nx : Nat} {D : va_G} {K : Nat → ClassId} {al : Nat → Nat} {V0 : g_V} {L0 : g_L} {r : Int32} {V' : g_V} (h : tw_mayDig V0 = some (r, V')) : Met l yX8_mayDig (ws_ yX8_mayDig cX8_mayDig 3 (some .boolean)) rmX8_mayDig (twPc gp nx [.ref (al 0)] D K al V0 L0) (twQi r nx D K al V' L0) 0 0 (g_A al twSh) := by
  refine g_met rfl (Nat.le_of_ble_eq_true rfl) ?_
  intro p e s m below meth c ls S hr hlk hnm hl hW
  have S : CallFix p m c cX8_mayDig 3 s ([.ref (al 0)] : List Value).toArray lw_all RX8 := S
  have hx := S.1
  have hb := S.2.1
  have hl : lv_has ls 3 [(0, .ref (al 0))] := hl
  have Lp17 : ∀ (L : g_L) (n : Nat) (x1 : Int32) (x2 : Int32) (V : g_V) (out : (Int32 × g_V)) (H : Heap) (locs : List Loc) (ls : Array Slot), tw_mayDig_L17 n x1 x2 V = some out → twW gp nx D K al s V L H locs → lv_has ls 3 [(0, .ref (al 0)), (1, .int x1), (2, .int x2)] → (∀ (o1 : Int32) (oV : g_V), out = (o1, oV) → ∀ (H : Heap) (locs : List Loc) (ls : Array Slot), twW gp nx D K al s oV L H locs → lv_has ls 3 [(1, .int o1)] → W p l e rmX8_mayDig s m ([.ref (al 0)] : List Value).toArray below meth c H locs 0 0 (MQ below (twQi r nx D K al V' L0) ([.ref (al 0)] : List Value).toArray s 0 0 (g_A al twSh)) (F0 m 51 ls [])) → W p l e rmX8_mayDig s m ([.ref (al 0)] : List Value).toArray below meth c H locs 0 0 (MQ below (twQi r nx D K al V' L0) ([.ref (al 0)] : List Value).toArray s 0 0 (g_A al twSh)) (F0 m 17 ls []) := by
    intro L n
    induction n with
    | zero =>
      intro x1 x2 V out H locs ls h
      exact (lp_0 h).elim
    | succ n ih =>
      intro x1 x2 V out H locs ls h hW hl k1
      rw [tw_mayDig_L17_s] at h
      unfold tw_mayDig_B17 at h
      refine lv_iload_n hx hb dX8_mayDig_17 rfl (lv_at hl 2 rfl) ?_
      refine lv_aload_n hx hb dX8_mayDig_18 rfl (lv_at hl 0 rfl) ?_
      refine tw_ref S hW 1 1 (by decide) rfl q1500 rfl dX8_mayDig_19 ?_
      refine lv_iconst (v := 4) hx hb dX8_mayDig_22 (by decide) ?_
      obtain ⟨h_6, x_5, e_7, h⟩ := rdI_some h
      refine g_iald S hW (k := 1) rfl rfl h_6 e_7 dX8_mayDig_23 ?_
      refine lv_icmp_ge (tgt := 51) hx hb dX8_mayDig_24 (by decide) (fun c_8 => ?_) (fun c_8 => ?_)
      · have h := if_t h c_8
        exact k1 _ _ (Option.some.inj h).symm _ _ _ hW (lv_sub hl [1] rfl)
      · have h := if_f h c_8
        refine lv_iload_n hx hb dX8_mayDig_27 rfl (lv_at hl 1 rfl) ?_
        refine lv_if_ne (tgt := 39) hx hb dX8_mayDig_28 (by decide) (fun c_9 => ?_) (fun c_9 => ?_)
        · have h := if_f h c_9
          refine lv_iconst (v := 1) hx hb dX8_mayDig_39 (by decide) ?_
          refine lv_goto (tgt := 44) hx hb dX8_mayDig_40 (by decide) ?_
          refine lv_istore_n (lv' := [(1, .int 1), (0, .ref (al 0)), (2, .int x2)]) hx hb dX8_mayDig_44 rfl hl (by decide) rfl (fun ls hl => ?_)
          obtain ⟨x_10, e_11, h⟩ := nmI_some h
          refine lv_iinc (v := x_10) (lv' := [(2, .int x_10), (1, .int 1), (0, .ref (al 0))]) hx hb dX8_mayDig_45 hl (k := 2) rfl (by rw [e_11]; rfl) (by decide) rfl (fun ls hl => ?_)
          refine lv_goto (tgt := 17) hx hb dX8_mayDig_48 (by decide) ?_
          exact ih 1 x_10 V out _ _ _ h hW (lv_sub hl [2, 1, 0] rfl) k1
        · have h := if_t h c_9
          refine lv_aload_n hx hb dX8_mayDig_31 rfl (lv_at hl 0 rfl) ?_
          refine lv_iload_n hx hb dX8_mayDig_32 rfl (lv_at hl 2 rfl) ?_
          obtain ⟨x_14, V_15, h_12, h⟩ := bnd2_some h
          refine g_callVi (As := [.int x2]) (rest := []) S hW (metX8_lacks h_12) (cwX8_lacks S.2.2.2.2 q1936 ⟨Nat.le_of_ble_eq_true rfl, Nat.le_of_ble_eq_true rfl⟩) (k := 0) rfl rfl rfl hl.1 rfl (Nat.le_of_ble_eq_true rfl) dX8_mayDig_33 ⟨Nat.le_refl _, Nat.le_refl _⟩ (fun H locs hW => ?_)
          refine lv_if_ne (tgt := 43) hx hb dX8_mayDig_36 (by decide) (fun c_16 => ?_) (fun c_16 => ?_)
          · have h := if_f h c_16
            refine lv_iconst (v := 0) hx hb dX8_mayDig_43 (by decide) ?_
            refine lv_istore_n (lv' := [(1, .int 0), (0, .ref (al 0)), (2, .int x2)]) hx hb dX8_mayDig_44 rfl hl (by decide) rfl (fun ls hl => ?_)
            obtain ⟨x_17, e_18, h⟩ := nmI_some h
            refine lv_iinc (v := x_17) (lv' := [(2, .int x_17), (1, .int 0), (0, .ref (al 0))]) hx hb dX8_mayDig_45 hl (k := 2) rfl (by rw [e_18]; rfl) (by decide) rfl (fun ls hl => ?_)
            refine lv_goto (tgt := 17) hx hb dX8_mayDig_48 (by decide) ?_
            exact ih 0 x_17 V_15 out _ _ _ h hW (lv_sub hl [2, 1, 0] rfl) k1
          · have h := if_t h c_16
            refine lv_iconst (v := 1) hx hb dX8_mayDig_39 (by decide) ?_
            refine lv_goto (tgt := 44) hx hb dX8_mayDig_40 (by decide) ?_
            refine lv_istore_n (lv' := [(1, .int 1), (0, .ref (al 0)), (2, .int x2)]) hx hb dX8_mayDig_44 rfl hl (by decide) rfl (fun ls hl => ?_)
            obtain ⟨x_19, e_20, h⟩ := nmI_some h
            refine lv_iinc (v := x_19) (lv' := [(2, .int x_19), (1, .int 1), (0, .ref (al 0))]) hx hb dX8_mayDig_45 hl (k := 2) rfl (by rw [e_20]; rfl) (by decide) rfl (fun ls hl => ?_)
            refine lv_goto (tgt := 17) hx hb dX8_mayDig_48 (by decide) ?_
            exact ih 1 x_19 V_15 out _ _ _ h hW (lv_sub hl [2, 1, 0] rfl) k1
  have J14 : ∀ (z0 : Int32) (V : g_V) (H : Heap) (locs : List Loc) (ls : Array Slot), tw_mayDig_J14 z0 V = some (r, V') → twW gp nx D K al s V L0 H locs → lv_has ls 3 [(0, .ref (al 0))] → W p l e rmX8_mayDig s m ([.ref (al 0)] : List Value).toArray below meth c H locs 0 0 (MQ below (twQi r nx D K al V' L0) ([.ref (al 0)] : List Value).toArray s 0 0 (g_A al twSh)) (F0 m 14 ls [.int z0]) := by
    intro z0 V H locs ls h hW hl
    unfold tw_mayDig_J14 at h
    refine lv_istore_n (lv' := [(1, .int z0), (0, .ref (al 0))]) hx hb dX8_mayDig_14 rfl hl (by decide) rfl (fun ls hl => ?_)
    refine lv_iconst (v := 0) hx hb dX8_mayDig_15 (by decide) ?_
    refine lv_istore_n (lv' := [(2, .int 0), (1, .int z0), (0, .ref (al 0))]) hx hb dX8_mayDig_16 rfl hl (by decide) rfl (fun ls hl => ?_)
    obtain ⟨x_23, V_24, h_22, h⟩ := bnd2_some h
    refine Lp17 L0 1000 z0 0 V  _ _ _ _ h_22 hW (lv_sub hl [2, 1, 0] rfl) ?_
    intro w0 w1 eo H locs ls hW hl
    cases eo
    refine lv_iload_n hx hb dX8_mayDig_51 rfl (lv_at hl 0 rfl) ?_
    obtain ⟨h_25, h⟩ := okI_some h
    cases h
    exact g_zret S hr hlk (isB_narrow h_25) hW dX8_mayDig_52
  unfold tw_mayDig at h
  refine lv_aload_n hx hb dX8_mayDig_0 rfl (lv_at hl 0 rfl) ?_
  refine tw_ref S hW 1 1 (by decide) rfl q1500 rfl dX8_mayDig_1 ?_
  refine lv_iconst (v := 4) hx hb dX8_mayDig_4 (by decide) ?_
  obtain ⟨h_2, x_1, e_3, h⟩ := rdI_some h
  refine g_iald S hW (k := 1) rfl rfl h_2 e_3 dX8_mayDig_5 ?_
  refine lv_if_ne (tgt := 13) hx hb dX8_mayDig_6 (by decide) (fun c_4 => ?_) (fun c_4 => ?_)
  · have h := if_f h c_4
    refine lv_iconst (v := 0) hx hb dX8_mayDig_13 (by decide) ?_
    exact J14 0 V0 _ _ _ h hW hl
  · have h := if_t h c_4
    refine lv_iconst (v := 1) hx hb dX8_mayDig_9 (by decide) ?_
    refine lv_goto (tgt := 14) hx hb dX8_mayDig_10 (by decide) ?_
    exact J14 1 V0 _ _ _ h hW hl
theorem cwX8_mayDig {R : Room} {s : State} {args : Array Value} {index : Nat} (hts : ∀ w ∈ lw_all, w.before args s = true) (hl : Cond.methodLink RX8 index yX8_mayDig ∈ lw_all) (hR : rmX8_mayDig.frames + 1 ≤ R.frames ∧ 8 + (3 + 11) + rmX8_mayDig.locals ≤ R.locals) : CallW R s args RX8 RX8 index yX8_mayDig cX8_mayDig 3 (some .boolean) (ws_ yX8_mayDig cX8_mayDig 3 (some .boolean)) rmX8_mayDig 0 0 0 := cwV 0 hts (lw_V hl q1934 qs99 q122 q1935) rfl rfl rfl (by decide +kernel) hR
def tw_more_J134 (rec : Int32 → Int32 → g_V → Option (Int32 × g_V)) (x1 : Int32) (x2 : Int32) (x3 : Int32) (x4 : Int32) (z0 : Int32) (V : g_V) (L : g_L) : Option (Int32 × g_V) :=
  if z0 = 0 then (nmI (x4 + 1) fun x_35 => rec x3 x_35 V) else (bnd (tw_shutsBy V L x1 x4 x2) (un2 fun x_39 V_40 => if x_39 = 0 then (nmI (x4 + 1) fun x_42 => rec x3 x_42 V_40) else (nmI (x4 + 1) fun x_44 => rec x4 x_44 V_40)))
def tw_more_J129 (rec : Int32 → Int32 → g_V → Option (Int32 × g_V)) (x1 : Int32) (x2 : Int32) (x3 : Int32) (x4 : Int32) (V : g_V) (L : g_L) : Option (Int32 × g_V) :=
  tw_more_J134 rec x1 x2 x3 x4 1 V L
def tw_more_J133 (rec : Int32 → Int32 → g_V → Option (Int32 × g_V)) (x1 : Int32) (x2 : Int32) (x3 : Int32) (x4 : Int32) (V : g_V) (L : g_L) : Option (Int32 × g_V) :=
  tw_more_J134 rec x1 x2 x3 x4 0 V L
def tw_more_B78 (x1 : Int32) (x2 : Int32) (L : g_L) (rec : Int32 → Int32 → g_V → Option (Int32 × g_V)) (x3 : Int32) (x4 : Int32) (V : g_V) : Option (Int32 × g_V) :=
  rdI (V 36) 4 x1 fun x_29 => if ((1 : Int32) <<< (x_29 &&& 31)) ≤ x4 then (some (x3, V)) else (if x3 = (-1) then (tw_more_J129 rec x1 x2 x3 x4 V L) else (bnd (tw_ones x4) (fun x_48 => bnd (tw_ones x3) (fun x_51 => if x_48 < x_51 then (tw_more_J129 rec x1 x2 x3 x4 V L) else (bnd (tw_ones x4) (fun x_55 => bnd (tw_ones x3) (fun x_58 => if x_55 = x_58 then (bnd (tw_isAhead x4 x3) (fun x_62 => if x_62 = 0 then (tw_more_J133 rec x1 x2 x3 x4 V L) else (tw_more_J129 rec x1 x2 x3 x4 V L))) else (tw_more_J133 rec x1 x2 x3 x4 V L))))))))
abbrev tw_more_F78 (x1 : Int32) (x2 : Int32) (L : g_L) : ((Int32 × Int32 × g_V) → Option (Int32 × g_V)) → (Int32 × Int32 × g_V) → Option (Int32 × g_V) := fun rec s => tw_more_B78 x1 x2 L (fun x3 x4 V => rec (x3, x4, V)) s.1 s.2.1 s.2.2
def tw_more_L78 (x1 : Int32) (x2 : Int32) (L : g_L) (n : Nat) (x3 : Int32) (x4 : Int32) (V : g_V) : Option (Int32 × g_V) := lp (tw_more_F78 x1 x2 L) n (x3, x4, V)
theorem tw_more_L78_s (x1 : Int32) (x2 : Int32) (L : g_L) (n : Nat) (x3 : Int32) (x4 : Int32) (V : g_V) : tw_more_L78 x1 x2 L (n + 1) x3 x4 V = tw_more_B78 x1 x2 L (fun x3 x4 V => tw_more_L78 x1 x2 L n x3 x4 V) x3 x4 V := lp_s (tw_more_F78 x1 x2 L) n (x3, x4, V)
def tw_more (V0 : g_V) (L0 : g_L) (a1 : Int32) (a2 : Int32) : Option (Int32 × g_V) :=
  bnd (tw_isSlot a1) (fun x_3 => if x_3 = 0 then (some ((-2), V0)) else (bnd (tw_in a2.toInt64 1 30) (fun x_7 => if x_7 = 0 then (some ((-2), V0)) else (rdI (V0 36) 4 a1 fun x_9 => if x_9 ≤ 6 then (rdI (V0 36) 4 a1 fun x_13 => if x_13 = (-1) then (some ((-6), V0)) else (bnd (tw_hasShaft V0) (fun x_19 => if x_19 = 0 then (some ((-6), V0)) else (rdI (V0 1) 810 2 fun x_21 => if x_21 = 0 then (some ((-6), V0)) else (bnd (tw_mayTell V0 L0 a1) (fun x_27 => if x_27 = 0 then (some ((-7), V0)) else (bnd (tw_more_L78 a1 a2 L0 1000 (-1) 0 V0) (un2 fun x_66 V_67 => if x_66 = (-1) then (some ((-1), V_67)) else (ptI V_67 0 35 x_66 fun V_69 => bnd (tw_ones x_66) (fun x_73 => some (x_73, V_69))))))))))) else (some ((-2), V0))))))
abbrev rmX8_more : Room := rm_ 8 188
set_option maxHeartbeats 4000000 in
theorem metX8_more {l : Launch} {gp : Nat → Nat} {nx : Nat} {D : va_G} {K : Nat → ClassId} {al : Nat → Nat} {V0 : g_V} {L0 : g_L} {a1 : Int32} {a2 : Int32} {r : Int32} {V' : g_V} (h : tw_more V0 L0 a1 a2 = some (r, V')) : Met l yX8_more (ws_ yX8_more cX8_more 6 (some .int)) rmX8_more (twPc gp nx [.ref (al 0), .int a1, .int a2] D K al V0 L0) (twQi r nx D K al V' L0) 0 0 (g_A al twSh) := by
  refine g_met rfl (Nat.le_of_ble_eq_true rfl) ?_
  intro p e s m below meth c ls S hr hlk hnm hl hW
  have S : CallFix p m c cX8_more 6 s ([.ref (al 0), .int a1, .int a2] : List Value).toArray lw_all RX8 := S
  have hx := S.1
  have hb := S.2.1
  have hl : lv_has ls 6 [(0, .ref (al 0)), (1, .int a1), (2, .int a2)] := hl
  have Lp78 : ∀ (x1 : Int32) (x2 : Int32) (L : g_L) (n : Nat) (x3 : Int32) (x4 : Int32) (V : g_V) (out : (Int32 × g_V)) (H : Heap) (locs : List Loc) (ls : Array Slot), tw_more_L78 x1 x2 L n x3 x4 V = some out → twW gp nx D K al s V L H locs → lv_has ls 6 [(0, .ref (al 0)), (1, .int x1), (2, .int x2), (3, .int x3), (4, .int x4)] → (∀ (o3 : Int32) (oV : g_V), out = (o3, oV) → ∀ (H : Heap) (locs : List Loc) (ls : Array Slot), twW gp nx D K al s oV L H locs → lv_has ls 6 [(0, .ref (al 0)), (3, .int o3)] → W p l e rmX8_more s m ([.ref (al 0), .int a1, .int a2] : List Value).toArray below meth c H locs 0 0 (MQ below (twQi r nx D K al V' L0) ([.ref (al 0), .int a1, .int a2] : List Value).toArray s 0 0 (g_A al twSh)) (F0 m 161 ls [])) → W p l e rmX8_more s m ([.ref (al 0), .int a1, .int a2] : List Value).toArray below meth c H locs 0 0 (MQ below (twQi r nx D K al V' L0) ([.ref (al 0), .int a1, .int a2] : List Value).toArray s 0 0 (g_A al twSh)) (F0 m 78 ls []) := by
    intro x1 x2 L n
    induction n with
    | zero =>
      intro x3 x4 V out H locs ls h
      exact (lp_0 h).elim
    | succ n ih =>
      intro x3 x4 V out H locs ls h hW hl k1
      have J134 : ∀ (x3 : Int32) (x4 : Int32) (z0 : Int32) (V : g_V) (H : Heap) (locs : List Loc) (ls : Array Slot), tw_more_J134 (fun x3 x4 V => tw_more_L78 x1 x2 L n x3 x4 V) x1 x2 x3 x4 z0 V L = some out → twW gp nx D K al s V L H locs → lv_has ls 6 [(0, .ref (al 0)), (1, .int x1), (2, .int x2), (3, .int x3), (4, .int x4)] → W p l e rmX8_more s m ([.ref (al 0), .int a1, .int a2] : List Value).toArray below meth c H locs 0 0 (MQ below (twQi r nx D K al V' L0) ([.ref (al 0), .int a1, .int a2] : List Value).toArray s 0 0 (g_A al twSh)) (F0 m 134 ls [.int z0]) := by
        intro x3 x4 z0 V H locs ls h hW hl
        unfold tw_more_J134 at h
        refine lv_istore (lv' := [(5, .int z0), (0, .ref (al 0)), (1, .int x1), (2, .int x2), (3, .int x3), (4, .int x4)]) hx hb dX8_more_134 hl (by decide) rfl (fun ls hl => ?_)
        refine lv_iload hx hb dX8_more_136 (lv_at hl 0 rfl) ?_
        refine lv_if_eq (tgt := 155) hx hb dX8_more_138 (by decide) (fun c_34 => ?_) (fun c_34 => ?_)
        · have h := if_t h c_34
          obtain ⟨x_35, e_36, h⟩ := nmI_some h
          refine lv_iinc (v := x_35) (lv' := [(4, .int x_35), (5, .int z0), (0, .ref (al 0)), (1, .int x1), (2, .int x2), (3, .int x3)]) hx hb dX8_more_155 hl (k := 5) rfl (by rw [e_36]; rfl) (by decide) rfl (fun ls hl => ?_)
          refine lv_goto (tgt := 78) hx hb dX8_more_158 (by decide) ?_
          exact ih x3 x_35 V out _ _ _ h hW (lv_sub hl [2, 3, 4, 5, 0] rfl) k1
        · have h := if_f h c_34
          refine lv_aload_n hx hb dX8_more_141 rfl (lv_at hl 1 rfl) ?_
          refine lv_iload_n hx hb dX8_more_142 rfl (lv_at hl 2 rfl) ?_
          refine lv_iload hx hb dX8_more_143 (lv_at hl 5 rfl) ?_
          refine lv_iload_n hx hb dX8_more_145 rfl (lv_at hl 3 rfl) ?_
          obtain ⟨x_39, V_40, h_37, h⟩ := bnd2_some h
          refine g_callVi (As := [.int x1, .int x4, .int x2]) (rest := []) S hW (metX8_shutsBy h_37) (cwX8_shutsBy S.2.2.2.2 q1988 ⟨Nat.le_of_ble_eq_true rfl, Nat.le_of_ble_eq_true rfl⟩) (k := 0) rfl rfl rfl hl.1 rfl (Nat.le_of_ble_eq_true rfl) dX8_more_146 ⟨Nat.le_refl _, Nat.le_refl _⟩ (fun H locs hW => ?_)
          refine lv_if_eq (tgt := 155) hx hb dX8_more_149 (by decide) (fun c_41 => ?_) (fun c_41 => ?_)
          · have h := if_t h c_41
            obtain ⟨x_42, e_43, h⟩ := nmI_some h
            refine lv_iinc (v := x_42) (lv' := [(4, .int x_42), (5, .int z0), (0, .ref (al 0)), (1, .int x1), (2, .int x2), (3, .int x3)]) hx hb dX8_more_155 hl (k := 5) rfl (by rw [e_43]; rfl) (by decide) rfl (fun ls hl => ?_)
            refine lv_goto (tgt := 78) hx hb dX8_more_158 (by decide) ?_
            exact ih x3 x_42 V_40 out _ _ _ h hW (lv_sub hl [2, 3, 4, 5, 0] rfl) k1
          · have h := if_f h c_41
            refine lv_iload hx hb dX8_more_152 (lv_at hl 5 rfl) ?_
            refine lv_istore_n (lv' := [(3, .int x4), (5, .int z0), (0, .ref (al 0)), (1, .int x1), (2, .int x2), (4, .int x4)]) hx hb dX8_more_154 rfl hl (by decide) rfl (fun ls hl => ?_)
            obtain ⟨x_44, e_45, h⟩ := nmI_some h
            refine lv_iinc (v := x_44) (lv' := [(4, .int x_44), (3, .int x4), (5, .int z0), (0, .ref (al 0)), (1, .int x1), (2, .int x2)]) hx hb dX8_more_155 hl (k := 5) rfl (by rw [e_45]; rfl) (by decide) rfl (fun ls hl => ?_)
            refine lv_goto (tgt := 78) hx hb dX8_more_158 (by decide) ?_
            exact ih x4 x_44 V_40 out _ _ _ h hW (lv_sub hl [3, 4, 5, 1, 0] rfl) k1
      have J129 : ∀ (x3 : Int32) (x4 : Int32) (V : g_V) (H : Heap) (locs : List Loc) (ls : Array Slot), tw_more_J129 (fun x3 x4 V => tw_more_L78 x1 x2 L n x3 x4 V) x1 x2 x3 x4 V L = some out → twW gp nx D K al s V L H locs → lv_has ls 6 [(0, .ref (al 0)), (1, .int x1), (2, .int x2), (3, .int x3), (4, .int x4)] → W p l e rmX8_more s m ([.ref (al 0), .int a1, .int a2] : List Value).toArray below meth c H locs 0 0 (MQ below (twQi r nx D K al V' L0) ([.ref (al 0), .int a1, .int a2] : List Value).toArray s 0 0 (g_A al twSh)) (F0 m 129 ls []) := by
        intro x3 x4 V H locs ls h hW hl
        unfold tw_more_J129 at h
        refine lv_iconst (v := 1) hx hb dX8_more_129 (by decide) ?_
        refine lv_goto (tgt := 134) hx hb dX8_more_130 (by decide) ?_
        exact J134 x3 x4 1 V _ _ _ h hW hl
      have J133 : ∀ (x3 : Int32) (x4 : Int32) (V : g_V) (H : Heap) (locs : List Loc) (ls : Array Slot), tw_more_J133 (fun x3 x4 V => tw_more_L78 x1 x2 L n x3 x4 V) x1 x2 x3 x4 V L = some out → twW gp nx D K al s V L H locs → lv_has ls 6 [(0, .ref (al 0)), (1, .int x1), (2, .int x2), (3, .int x3), (4, .int x4)] → W p l e rmX8_more s m ([.ref (al 0), .int a1, .int a2] : List Value).toArray below meth c H locs 0 0 (MQ below (twQi r nx D K al V' L0) ([.ref (al 0), .int a1, .int a2] : List Value).toArray s 0 0 (g_A al twSh)) (F0 m 133 ls []) := by
        intro x3 x4 V H locs ls h hW hl
        unfold tw_more_J133 at h
        refine lv_iconst (v := 0) hx hb dX8_more_133 (by decide) ?_
        exact J134 x3 x4 0 V _ _ _ h hW hl
      rw [tw_more_L78_s] at h
      unfold tw_more_B78 at h
      refine lv_iload hx hb dX8_more_78 (lv_at hl 4 rfl) ?_
      refine lv_iconst (v := 1) hx hb dX8_more_80 (by decide) ?_
      refine lv_aload_n hx hb dX8_more_81 rfl (lv_at hl 0 rfl) ?_
      refine tw_ref S hW 36 36 (by decide) rfl q1535 rfl dX8_more_82 ?_
      refine lv_iload_n hx hb dX8_more_85 rfl (lv_at hl 1 rfl) ?_
      obtain ⟨h_30, x_29, e_31, h⟩ := rdI_some h
      refine g_iald S hW (k := 36) rfl rfl h_30 e_31 dX8_more_86 ?_
      refine lv_ishl hx hb dX8_more_87 ?_
      refine lv_icmp_ge (tgt := 161) hx hb dX8_more_88 (by decide) (fun c_32 => ?_) (fun c_32 => ?_)
      · have h := if_t h c_32
        exact k1 _ _ (Option.some.inj h).symm _ _ _ hW (lv_sub hl [0, 3] rfl)
      · have h := if_f h c_32
        refine lv_iload_n hx hb dX8_more_91 rfl (lv_at hl 3 rfl) ?_
        refine lv_iconst (v := (-1)) hx hb dX8_more_92 (by decide) ?_
        refine lv_icmp_eq (tgt := 129) hx hb dX8_more_93 (by decide) (fun c_33 => ?_) (fun c_33 => ?_)
        · have h := if_t h c_33
          exact J129 x3 x4 V _ _ _ h hW hl
        · have h := if_f h c_33
          refine lv_iload hx hb dX8_more_96 (lv_at hl 4 rfl) ?_
          obtain ⟨x_48, h_46, h⟩ := bnd_some h
          refine g_callSi (As := [.int x4]) (rest := []) S hW (metX8_ones h_46) (cwX8_ones S.2.2.2.2 q1982 ⟨Nat.le_of_ble_eq_true rfl, Nat.le_of_ble_eq_true rfl⟩) rfl hl.1 rfl (Nat.le_of_ble_eq_true rfl) dX8_more_98 ⟨Nat.le_refl _, Nat.le_refl _⟩ (fun H locs hW => ?_)
          refine lv_iload_n hx hb dX8_more_101 rfl (lv_at hl 3 rfl) ?_
          obtain ⟨x_51, h_49, h⟩ := bnd_some h
          refine g_callSi (As := [.int x3]) (rest := [.int x_48]) S hW (metX8_ones h_49) (cwX8_ones S.2.2.2.2 q1982 ⟨Nat.le_of_ble_eq_true rfl, Nat.le_of_ble_eq_true rfl⟩) rfl hl.1 rfl (Nat.le_of_ble_eq_true rfl) dX8_more_102 ⟨Nat.le_refl _, Nat.le_refl _⟩ (fun H locs hW => ?_)
          refine lv_icmp_lt (tgt := 129) hx hb dX8_more_105 (by decide) (fun c_52 => ?_) (fun c_52 => ?_)
          · have h := if_t h c_52
            exact J129 x3 x4 V _ _ _ h hW hl
          · have h := if_f h c_52
            refine lv_iload hx hb dX8_more_108 (lv_at hl 4 rfl) ?_
            obtain ⟨x_55, h_53, h⟩ := bnd_some h
            refine g_callSi (As := [.int x4]) (rest := []) S hW (metX8_ones h_53) (cwX8_ones S.2.2.2.2 q1982 ⟨Nat.le_of_ble_eq_true rfl, Nat.le_of_ble_eq_true rfl⟩) rfl hl.1 rfl (Nat.le_of_ble_eq_true rfl) dX8_more_110 ⟨Nat.le_refl _, Nat.le_refl _⟩ (fun H locs hW => ?_)
            refine lv_iload_n hx hb dX8_more_113 rfl (lv_at hl 3 rfl) ?_
            obtain ⟨x_58, h_56, h⟩ := bnd_some h
            refine g_callSi (As := [.int x3]) (rest := [.int x_55]) S hW (metX8_ones h_56) (cwX8_ones S.2.2.2.2 q1982 ⟨Nat.le_of_ble_eq_true rfl, Nat.le_of_ble_eq_true rfl⟩) rfl hl.1 rfl (Nat.le_of_ble_eq_true rfl) dX8_more_114 ⟨Nat.le_refl _, Nat.le_refl _⟩ (fun H locs hW => ?_)
            refine lv_icmp_ne (tgt := 133) hx hb dX8_more_117 (by decide) (fun c_59 => ?_) (fun c_59 => ?_)
            · have h := if_f h c_59
              exact J133 x3 x4 V _ _ _ h hW hl
            · have h := if_t h c_59
              refine lv_iload hx hb dX8_more_120 (lv_at hl 4 rfl) ?_
              refine lv_iload_n hx hb dX8_more_122 rfl (lv_at hl 3 rfl) ?_
              obtain ⟨x_62, h_60, h⟩ := bnd_some h
              refine g_callSi (As := [.int x4, .int x3]) (rest := []) S hW (metX8_isAhead h_60) (cwX8_isAhead S.2.2.2.2 q1985 ⟨Nat.le_of_ble_eq_true rfl, Nat.le_of_ble_eq_true rfl⟩) rfl hl.1 rfl (Nat.le_of_ble_eq_true rfl) dX8_more_123 ⟨Nat.le_refl _, Nat.le_refl _⟩ (fun H locs hW => ?_)
              refine lv_if_eq (tgt := 133) hx hb dX8_more_126 (by decide) (fun c_63 => ?_) (fun c_63 => ?_)
              · have h := if_t h c_63
                exact J133 x3 x4 V _ _ _ h hW hl
              · have h := if_f h c_63
                exact J129 x3 x4 V _ _ _ h hW hl
  unfold tw_more at h
  refine lv_iload_n hx hb dX8_more_0 rfl (lv_at hl 1 rfl) ?_
  obtain ⟨x_3, h_1, h⟩ := bnd_some h
  refine g_callSi (As := [.int a1]) (rest := []) S hW (metX8_isSlot h_1) (cwX8_isSlot S.2.2.2.2 q1973 ⟨Nat.le_of_ble_eq_true rfl, Nat.le_of_ble_eq_true rfl⟩) rfl hl.1 rfl (Nat.le_of_ble_eq_true rfl) dX8_more_1 ⟨Nat.le_refl _, Nat.le_refl _⟩ (fun H locs hW => ?_)
  refine lv_if_eq (tgt := 30) hx hb dX8_more_4 (by decide) (fun c_4 => ?_) (fun c_4 => ?_)
  · have h := if_t h c_4
    refine lv_bipush (v := (-2)) hx hb dX8_more_30 (by decide) ?_
    cases h
    exact g_iret S hr hlk hW dX8_more_32
  · have h := if_f h c_4
    refine lv_iload_n hx hb dX8_more_7 rfl (lv_at hl 2 rfl) ?_
    refine lv_i2l (v := a2.toInt64) hx hb dX8_more_8 rfl ?_
    refine lv_lconst (v := 1) hx hb dX8_more_9 (by decide) ?_
    refine lv_ldc2 (v := 30) hx hb S.2.2.2.1 (S.2.2.2.2 _ q1976) dX8_more_10 ?_
    obtain ⟨x_7, h_5, h⟩ := bnd_some h
    refine g_callSi (As := [.long a2.toInt64, .long 1, .long 30]) (rest := []) S hW (metX8_in h_5) (cwX8_in S.2.2.2.2 q1625 ⟨Nat.le_of_ble_eq_true rfl, Nat.le_of_ble_eq_true rfl⟩) rfl hl.1 rfl (Nat.le_of_ble_eq_true rfl) dX8_more_13 ⟨Nat.le_refl _, Nat.le_refl _⟩ (fun H locs hW => ?_)
    refine lv_if_eq (tgt := 30) hx hb dX8_more_16 (by decide) (fun c_8 => ?_) (fun c_8 => ?_)
    · have h := if_t h c_8
      refine lv_bipush (v := (-2)) hx hb dX8_more_30 (by decide) ?_
      cases h
      exact g_iret S hr hlk hW dX8_more_32
    · have h := if_f h c_8
      refine lv_aload_n hx hb dX8_more_19 rfl (lv_at hl 0 rfl) ?_
      refine tw_ref S hW 36 36 (by decide) rfl q1535 rfl dX8_more_20 ?_
      refine lv_iload_n hx hb dX8_more_23 rfl (lv_at hl 1 rfl) ?_
      obtain ⟨h_10, x_9, e_11, h⟩ := rdI_some h
      refine g_iald S hW (k := 36) rfl rfl h_10 e_11 dX8_more_24 ?_
      refine lv_bipush (v := 6) hx hb dX8_more_25 (by decide) ?_
      refine lv_icmp_le (tgt := 33) hx hb dX8_more_27 (by decide) (fun c_12 => ?_) (fun c_12 => ?_)
      · have h := if_t h c_12
        refine lv_aload_n hx hb dX8_more_33 rfl (lv_at hl 0 rfl) ?_
        refine tw_ref S hW 36 36 (by decide) rfl q1535 rfl dX8_more_34 ?_
        refine lv_iload_n hx hb dX8_more_37 rfl (lv_at hl 1 rfl) ?_
        obtain ⟨h_14, x_13, e_15, h⟩ := rdI_some h
        refine g_iald S hW (k := 36) rfl rfl h_14 e_15 dX8_more_38 ?_
        refine lv_iconst (v := (-1)) hx hb dX8_more_39 (by decide) ?_
        refine lv_icmp_eq (tgt := 59) hx hb dX8_more_40 (by decide) (fun c_16 => ?_) (fun c_16 => ?_)
        · have h := if_t h c_16
          refine lv_bipush (v := (-6)) hx hb dX8_more_59 (by decide) ?_
          cases h
          exact g_iret S hr hlk hW dX8_more_61
        · have h := if_f h c_16
          refine lv_aload_n hx hb dX8_more_43 rfl (lv_at hl 0 rfl) ?_
          obtain ⟨x_19, h_17, h⟩ := bnd_some h
          refine g_callVi (As := []) (rest := []) S hW (metX8_hasShaft h_17) (cwX8_hasShaft S.2.2.2.2 q1873 ⟨Nat.le_of_ble_eq_true rfl, Nat.le_of_ble_eq_true rfl⟩) (k := 0) rfl rfl rfl hl.1 rfl (Nat.le_of_ble_eq_true rfl) dX8_more_44 ⟨Nat.le_refl _, Nat.le_refl _⟩ (fun H locs hW => ?_)
          refine lv_if_eq (tgt := 59) hx hb dX8_more_47 (by decide) (fun c_20 => ?_) (fun c_20 => ?_)
          · have h := if_t h c_20
            refine lv_bipush (v := (-6)) hx hb dX8_more_59 (by decide) ?_
            cases h
            exact g_iret S hr hlk hW dX8_more_61
          · have h := if_f h c_20
            refine lv_aload_n hx hb dX8_more_50 rfl (lv_at hl 0 rfl) ?_
            refine tw_ref S hW 1 1 (by decide) rfl q1500 rfl dX8_more_51 ?_
            refine lv_iconst (v := 2) hx hb dX8_more_54 (by decide) ?_
            obtain ⟨h_22, x_21, e_23, h⟩ := rdI_some h
            refine g_iald S hW (k := 1) rfl rfl h_22 e_23 dX8_more_55 ?_
            refine lv_if_ne (tgt := 62) hx hb dX8_more_56 (by decide) (fun c_24 => ?_) (fun c_24 => ?_)
            · have h := if_f h c_24
              refine lv_aload_n hx hb dX8_more_62 rfl (lv_at hl 0 rfl) ?_
              refine lv_iload_n hx hb dX8_more_63 rfl (lv_at hl 1 rfl) ?_
              obtain ⟨x_27, h_25, h⟩ := bnd_some h
              refine g_callVi (As := [.int a1]) (rest := []) S hW (metX8_mayTell h_25) (cwX8_mayTell S.2.2.2.2 q1977 ⟨Nat.le_of_ble_eq_true rfl, Nat.le_of_ble_eq_true rfl⟩) (k := 0) rfl rfl rfl hl.1 rfl (Nat.le_of_ble_eq_true rfl) dX8_more_64 ⟨Nat.le_refl _, Nat.le_refl _⟩ (fun H locs hW => ?_)
              refine lv_if_ne (tgt := 73) hx hb dX8_more_67 (by decide) (fun c_28 => ?_) (fun c_28 => ?_)
              · have h := if_f h c_28
                refine lv_iconst (v := (-1)) hx hb dX8_more_73 (by decide) ?_
                refine lv_istore_n (lv' := [(3, .int (-1)), (0, .ref (al 0)), (1, .int a1), (2, .int a2)]) hx hb dX8_more_74 rfl hl (by decide) rfl (fun ls hl => ?_)
                refine lv_iconst (v := 0) hx hb dX8_more_75 (by decide) ?_
                refine lv_istore (lv' := [(4, .int 0), (3, .int (-1)), (0, .ref (al 0)), (1, .int a1), (2, .int a2)]) hx hb dX8_more_76 hl (by decide) rfl (fun ls hl => ?_)
                obtain ⟨x_66, V_67, h_65, h⟩ := bnd2_some h
                refine Lp78 a1 a2 L0 1000 (-1) 0 V0  _ _ _ _ h_65 hW (lv_sub hl [2, 3, 4, 1, 0] rfl) ?_
                intro w0 w1 eo H locs ls hW hl
                cases eo
                refine lv_iload_n hx hb dX8_more_161 rfl (lv_at hl 1 rfl) ?_
                refine lv_iconst (v := (-1)) hx hb dX8_more_162 (by decide) ?_
                refine lv_icmp_ne (tgt := 168) hx hb dX8_more_163 (by decide) (fun c_68 => ?_) (fun c_68 => ?_)
                · have h := if_f h c_68
                  refine lv_aload_n hx hb dX8_more_168 rfl (lv_at hl 0 rfl) ?_
                  refine lv_iload_n hx hb dX8_more_169 rfl (lv_at hl 1 rfl) ?_
                  obtain ⟨V_69, e_70, h⟩ := ptI_some h
                  refine tw_puti S hW 35 (by decide) rfl rfl rfl rfl rfl q1534 e_70 dX8_more_170 (fun H locs hW => ?_)
                  refine lv_iload_n hx hb dX8_more_173 rfl (lv_at hl 1 rfl) ?_
                  obtain ⟨x_73, h_71, h⟩ := bnd_some h
                  refine g_callSi (As := [.int x_66]) (rest := []) S hW (metX8_ones h_71) (cwX8_ones S.2.2.2.2 q1982 ⟨Nat.le_of_ble_eq_true rfl, Nat.le_of_ble_eq_true rfl⟩) rfl hl.1 rfl (Nat.le_of_ble_eq_true rfl) dX8_more_174 ⟨Nat.le_refl _, Nat.le_refl _⟩ (fun H locs hW => ?_)
                  cases h
                  exact g_iret S hr hlk hW dX8_more_177
                · have h := if_t h c_68
                  refine lv_iconst (v := (-1)) hx hb dX8_more_166 (by decide) ?_
                  cases h
                  exact g_iret S hr hlk hW dX8_more_167
              · have h := if_t h c_28
                refine lv_bipush (v := (-7)) hx hb dX8_more_70 (by decide) ?_
                cases h
                exact g_iret S hr hlk hW dX8_more_72
            · have h := if_t h c_24
              refine lv_bipush (v := (-6)) hx hb dX8_more_59 (by decide) ?_
              cases h
              exact g_iret S hr hlk hW dX8_more_61
      · have h := if_f h c_12
        refine lv_bipush (v := (-2)) hx hb dX8_more_30 (by decide) ?_
        cases h
        exact g_iret S hr hlk hW dX8_more_32
theorem cwX8_more {R : Room} {s : State} {args : Array Value} {index : Nat} (hts : ∀ w ∈ lw_all, w.before args s = true) (hl : Cond.methodLink RX8 index yX8_more ∈ lw_all) (hR : rmX8_more.frames + 1 ≤ R.frames ∧ 8 + (6 + 11) + rmX8_more.locals ≤ R.locals) : CallW R s args RX8 RX8 index yX8_more cX8_more 6 (some .int) (ws_ yX8_more cX8_more 6 (some .int)) rmX8_more 0 0 2 := cwV 2 hts (lw_V hl q1970 q1971 q122 q1972) rfl rfl rfl (by decide +kernel) hR
def tw_dig_B116 (V : g_V) (rec : Int32 → Int32 → Option (Int32)) (x4 : Int32) (x5 : Int32) : Option (Int32) :=
  if 144 ≤ x5 then (some x4) else (bnd (tw_isShaft V x5) (fun x_42 => if x_42 = 0 then (nmI (x4 + 0) fun x_44 => nmI (x5 + 1) fun x_46 => rec x_44 x_46) else (bnd (tw_isDug V x5) (fun x_50 => if x_50 = 0 then (nmI (x4 + 1) fun x_56 => nmI (x5 + 1) fun x_58 => rec x_56 x_58) else (nmI (x4 + 0) fun x_52 => nmI (x5 + 1) fun x_54 => rec x_52 x_54)))))
abbrev tw_dig_F116 (V : g_V) : ((Int32 × Int32) → Option (Int32)) → (Int32 × Int32) → Option (Int32) := fun rec s => tw_dig_B116 V (fun x4 x5 => rec (x4, x5)) s.1 s.2
def tw_dig_L116 (V : g_V) (n : Nat) (x4 : Int32) (x5 : Int32) : Option (Int32) := lp (tw_dig_F116 V) n (x4, x5)
theorem tw_dig_L116_s (V : g_V) (n : Nat) (x4 : Int32) (x5 : Int32) : tw_dig_L116 V (n + 1) x4 x5 = tw_dig_B116 V (fun x4 x5 => tw_dig_L116 V n x4 x5) x4 x5 := lp_s (tw_dig_F116 V) n (x4, x5)
def tw_dig (V0 : g_V) (a1 : Int32) (a2 : Int32) : Option (Int32 × g_V) :=
  bnd (tw_isPlace a1 a2) (fun x_3 => if x_3 = 0 then (some ((-2), V0)) else (bnd (tw_isShaft V0 ((12 * a2) + a1)) (fun x_7 => if x_7 = 0 then (some ((-2), V0)) else (bnd (tw_isDug V0 ((12 * a2) + a1)) (fun x_11 => if x_11 = 0 then (bnd (tw_mayDig V0) (un2 fun x_15 V_16 => if x_15 = 0 then (some ((-5), V_16)) else (rdI (V_16 1) 810 12 fun x_18 => if x_18 = 1 then (some ((-7), V_16)) else (nmI ((12 * a2) + a1) fun x_22 => rdI (V_16 1) 810 17 fun x_24 => rdI (V_16 1) 810 (192 + x_22) fun x_27 => rdI (V_16 1) 810 (336 + x_22) fun x_30 => wrI V_16 1 810 17 (x_24 + (x_27 - x_30)) fun V_35 => wrI V_35 1 810 (480 + x_22) 1 fun V_38 => bnd (tw_dig_L116 V_38 1000 0 0) (fun x_62 => some (x_62, V_38)))))) else (some ((-2), V0)))))))
abbrev rmX8_dig : Room := rm_ 10 231
set_option maxHeartbeats 4000000 in
theorem metX8_dig {l : Launch} {gp : Nat → Nat} {nx : Nat} {D : va_G} {K : Nat → ClassId} {al : Nat → Nat} {V0 : g_V} {L0 : g_L} {a1 : Int32} {a2 : Int32} {r : Int32} {V' : g_V} (h : tw_dig V0 a1 a2 = some (r, V')) : Met l yX8_dig (ws_ yX8_dig cX8_dig 6 (some .int)) rmX8_dig (twPc gp nx [.ref (al 0), .int a1, .int a2] D K al V0 L0) (twQi r nx D K al V' L0) 0 0 (g_A al twSh) := by
  refine g_met rfl (Nat.le_of_ble_eq_true rfl) ?_
  intro p e s m below meth c ls S hr hlk hnm hl hW
  have S : CallFix p m c cX8_dig 6 s ([.ref (al 0), .int a1, .int a2] : List Value).toArray lw_all RX8 := S
  have hx := S.1
  have hb := S.2.1
  have hl : lv_has ls 6 [(0, .ref (al 0)), (1, .int a1), (2, .int a2)] := hl
  have Lp116 : ∀ (V : g_V) (L : g_L) (n : Nat) (x4 : Int32) (x5 : Int32) (out : (Int32)) (H : Heap) (locs : List Loc) (ls : Array Slot), tw_dig_L116 V n x4 x5 = some out → twW gp nx D K al s V L H locs → lv_has ls 6 [(0, .ref (al 0)), (4, .int x4), (5, .int x5)] → (∀ (o4 : Int32), out = o4 → ∀ (H : Heap) (locs : List Loc) (ls : Array Slot), twW gp nx D K al s V L H locs → lv_has ls 6 [(4, .int o4)] → W p l e rmX8_dig s m ([.ref (al 0), .int a1, .int a2] : List Value).toArray below meth c H locs 0 0 (MQ below (twQi r nx D K al V' L0) ([.ref (al 0), .int a1, .int a2] : List Value).toArray s 0 0 (g_A al twSh)) (F0 m 158 ls [])) → W p l e rmX8_dig s m ([.ref (al 0), .int a1, .int a2] : List Value).toArray below meth c H locs 0 0 (MQ below (twQi r nx D K al V' L0) ([.ref (al 0), .int a1, .int a2] : List Value).toArray s 0 0 (g_A al twSh)) (F0 m 116 ls []) := by
    intro V L n
    induction n with
    | zero =>
      intro x4 x5 out H locs ls h
      exact (lp_0 h).elim
    | succ n ih =>
      intro x4 x5 out H locs ls h hW hl k1
      rw [tw_dig_L116_s] at h
      unfold tw_dig_B116 at h
      refine lv_iload hx hb dX8_dig_116 (lv_at hl 2 rfl) ?_
      refine lv_sipush (v := 144) hx hb dX8_dig_118 (by decide) ?_
      refine lv_icmp_ge (tgt := 158) hx hb dX8_dig_121 (by decide) (fun c_39 => ?_) (fun c_39 => ?_)
      · have h := if_t h c_39
        exact k1 _ (Option.some.inj h).symm _ _ _ hW (lv_sub hl [1] rfl)
      · have h := if_f h c_39
        refine lv_iload hx hb dX8_dig_124 (lv_at hl 1 rfl) ?_
        refine lv_aload_n hx hb dX8_dig_126 rfl (lv_at hl 0 rfl) ?_
        refine lv_iload hx hb dX8_dig_127 (lv_at hl 2 rfl) ?_
        obtain ⟨x_42, h_40, h⟩ := bnd_some h
        refine g_callVi (As := [.int x5]) (rest := [.int x4]) S hW (metX8_isShaft h_40) (cwX8_isShaft S.2.2.2.2 q1827 ⟨Nat.le_of_ble_eq_true rfl, Nat.le_of_ble_eq_true rfl⟩) (k := 0) rfl rfl rfl hl.1 rfl (Nat.le_of_ble_eq_true rfl) dX8_dig_129 ⟨Nat.le_refl _, Nat.le_refl _⟩ (fun H locs hW => ?_)
        refine lv_if_eq (tgt := 148) hx hb dX8_dig_132 (by decide) (fun c_43 => ?_) (fun c_43 => ?_)
        · have h := if_t h c_43
          refine lv_iconst (v := 0) hx hb dX8_dig_148 (by decide) ?_
          refine lv_iadd hx hb dX8_dig_149 ?_
          obtain ⟨x_44, e_45, h⟩ := nmI_some h
          refine g_nmi e_45 ?_
          refine lv_istore (lv' := [(4, .int x_44), (0, .ref (al 0)), (5, .int x5)]) hx hb dX8_dig_150 hl (by decide) rfl (fun ls hl => ?_)
          obtain ⟨x_46, e_47, h⟩ := nmI_some h
          refine lv_iinc (v := x_46) (lv' := [(5, .int x_46), (4, .int x_44), (0, .ref (al 0))]) hx hb dX8_dig_152 hl (k := 2) rfl (by rw [e_47]; rfl) (by decide) rfl (fun ls hl => ?_)
          refine lv_goto (tgt := 116) hx hb dX8_dig_155 (by decide) ?_
          exact ih x_44 x_46 out _ _ _ h hW (lv_sub hl [2, 1, 0] rfl) k1
        · have h := if_f h c_43
          refine lv_aload_n hx hb dX8_dig_135 rfl (lv_at hl 0 rfl) ?_
          refine lv_iload hx hb dX8_dig_136 (lv_at hl 2 rfl) ?_
          obtain ⟨x_50, h_48, h⟩ := bnd_some h
          refine g_callVi (As := [.int x5]) (rest := [.int x4]) S hW (metX8_isDug h_48) (cwX8_isDug S.2.2.2.2 q1771 ⟨Nat.le_of_ble_eq_true rfl, Nat.le_of_ble_eq_true rfl⟩) (k := 0) rfl rfl rfl hl.1 rfl (Nat.le_of_ble_eq_true rfl) dX8_dig_138 ⟨Nat.le_refl _, Nat.le_refl _⟩ (fun H locs hW => ?_)
          refine lv_if_ne (tgt := 148) hx hb dX8_dig_141 (by decide) (fun c_51 => ?_) (fun c_51 => ?_)
          · have h := if_f h c_51
            refine lv_iconst (v := 0) hx hb dX8_dig_148 (by decide) ?_
            refine lv_iadd hx hb dX8_dig_149 ?_
            obtain ⟨x_52, e_53, h⟩ := nmI_some h
            refine g_nmi e_53 ?_
            refine lv_istore (lv' := [(4, .int x_52), (0, .ref (al 0)), (5, .int x5)]) hx hb dX8_dig_150 hl (by decide) rfl (fun ls hl => ?_)
            obtain ⟨x_54, e_55, h⟩ := nmI_some h
            refine lv_iinc (v := x_54) (lv' := [(5, .int x_54), (4, .int x_52), (0, .ref (al 0))]) hx hb dX8_dig_152 hl (k := 2) rfl (by rw [e_55]; rfl) (by decide) rfl (fun ls hl => ?_)
            refine lv_goto (tgt := 116) hx hb dX8_dig_155 (by decide) ?_
            exact ih x_52 x_54 out _ _ _ h hW (lv_sub hl [2, 1, 0] rfl) k1
          · have h := if_t h c_51
            refine lv_iconst (v := 1) hx hb dX8_dig_144 (by decide) ?_
            refine lv_goto (tgt := 149) hx hb dX8_dig_145 (by decide) ?_
            refine lv_iadd hx hb dX8_dig_149 ?_
            obtain ⟨x_56, e_57, h⟩ := nmI_some h
            refine g_nmi e_57 ?_
            refine lv_istore (lv' := [(4, .int x_56), (0, .ref (al 0)), (5, .int x5)]) hx hb dX8_dig_150 hl (by decide) rfl (fun ls hl => ?_)
            obtain ⟨x_58, e_59, h⟩ := nmI_some h
            refine lv_iinc (v := x_58) (lv' := [(5, .int x_58), (4, .int x_56), (0, .ref (al 0))]) hx hb dX8_dig_152 hl (k := 2) rfl (by rw [e_59]; rfl) (by decide) rfl (fun ls hl => ?_)
            refine lv_goto (tgt := 116) hx hb dX8_dig_155 (by decide) ?_
            exact ih x_56 x_58 out _ _ _ h hW (lv_sub hl [2, 1, 0] rfl) k1
  unfold tw_dig at h
  refine lv_iload_n hx hb dX8_dig_0 rfl (lv_at hl 1 rfl) ?_
  refine lv_iload_n hx hb dX8_dig_1 rfl (lv_at hl 2 rfl) ?_
  obtain ⟨x_3, h_1, h⟩ := bnd_some h
  refine g_callSi (As := [.int a1, .int a2]) (rest := []) S hW (metX8_isPlace h_1) (cwX8_isPlace S.2.2.2.2 q1782 ⟨Nat.le_of_ble_eq_true rfl, Nat.le_of_ble_eq_true rfl⟩) rfl hl.1 rfl (Nat.le_of_ble_eq_true rfl) dX8_dig_2 ⟨Nat.le_refl _, Nat.le_refl _⟩ (fun H locs hW => ?_)
  refine lv_if_eq (tgt := 34) hx hb dX8_dig_5 (by decide) (fun c_4 => ?_) (fun c_4 => ?_)
  · have h := if_t h c_4
    refine lv_bipush (v := (-2)) hx hb dX8_dig_34 (by decide) ?_
    cases h
    exact g_iret S hr hlk hW dX8_dig_36
  · have h := if_f h c_4
    refine lv_aload_n hx hb dX8_dig_8 rfl (lv_at hl 0 rfl) ?_
    refine lv_bipush (v := 12) hx hb dX8_dig_9 (by decide) ?_
    refine lv_iload_n hx hb dX8_dig_11 rfl (lv_at hl 2 rfl) ?_
    refine lv_imul hx hb dX8_dig_12 ?_
    refine lv_iload_n hx hb dX8_dig_13 rfl (lv_at hl 1 rfl) ?_
    refine lv_iadd hx hb dX8_dig_14 ?_
    obtain ⟨x_7, h_5, h⟩ := bnd_some h
    refine g_callVi (As := [.int ((12 * a2) + a1)]) (rest := []) S hW (metX8_isShaft h_5) (cwX8_isShaft S.2.2.2.2 q1827 ⟨Nat.le_of_ble_eq_true rfl, Nat.le_of_ble_eq_true rfl⟩) (k := 0) rfl rfl rfl hl.1 rfl (Nat.le_of_ble_eq_true rfl) dX8_dig_15 ⟨Nat.le_refl _, Nat.le_refl _⟩ (fun H locs hW => ?_)
    refine lv_if_eq (tgt := 34) hx hb dX8_dig_18 (by decide) (fun c_8 => ?_) (fun c_8 => ?_)
    · have h := if_t h c_8
      refine lv_bipush (v := (-2)) hx hb dX8_dig_34 (by decide) ?_
      cases h
      exact g_iret S hr hlk hW dX8_dig_36
    · have h := if_f h c_8
      refine lv_aload_n hx hb dX8_dig_21 rfl (lv_at hl 0 rfl) ?_
      refine lv_bipush (v := 12) hx hb dX8_dig_22 (by decide) ?_
      refine lv_iload_n hx hb dX8_dig_24 rfl (lv_at hl 2 rfl) ?_
      refine lv_imul hx hb dX8_dig_25 ?_
      refine lv_iload_n hx hb dX8_dig_26 rfl (lv_at hl 1 rfl) ?_
      refine lv_iadd hx hb dX8_dig_27 ?_
      obtain ⟨x_11, h_9, h⟩ := bnd_some h
      refine g_callVi (As := [.int ((12 * a2) + a1)]) (rest := []) S hW (metX8_isDug h_9) (cwX8_isDug S.2.2.2.2 q1771 ⟨Nat.le_of_ble_eq_true rfl, Nat.le_of_ble_eq_true rfl⟩) (k := 0) rfl rfl rfl hl.1 rfl (Nat.le_of_ble_eq_true rfl) dX8_dig_28 ⟨Nat.le_refl _, Nat.le_refl _⟩ (fun H locs hW => ?_)
      refine lv_if_eq (tgt := 37) hx hb dX8_dig_31 (by decide) (fun c_12 => ?_) (fun c_12 => ?_)
      · have h := if_t h c_12
        refine lv_aload_n hx hb dX8_dig_37 rfl (lv_at hl 0 rfl) ?_
        obtain ⟨x_15, V_16, h_13, h⟩ := bnd2_some h
        refine g_callVi (As := []) (rest := []) S hW (metX8_mayDig h_13) (cwX8_mayDig S.2.2.2.2 q1932 ⟨Nat.le_of_ble_eq_true rfl, Nat.le_of_ble_eq_true rfl⟩) (k := 0) rfl rfl rfl hl.1 rfl (Nat.le_of_ble_eq_true rfl) dX8_dig_38 ⟨Nat.le_refl _, Nat.le_refl _⟩ (fun H locs hW => ?_)
        refine lv_if_ne (tgt := 47) hx hb dX8_dig_41 (by decide) (fun c_17 => ?_) (fun c_17 => ?_)
        · have h := if_f h c_17
          refine lv_aload_n hx hb dX8_dig_47 rfl (lv_at hl 0 rfl) ?_
          refine tw_ref S hW 1 1 (by decide) rfl q1500 rfl dX8_dig_48 ?_
          refine lv_bipush (v := 12) hx hb dX8_dig_51 (by decide) ?_
          obtain ⟨h_19, x_18, e_20, h⟩ := rdI_some h
          refine g_iald S hW (k := 1) rfl rfl h_19 e_20 dX8_dig_53 ?_
          refine lv_iconst (v := 1) hx hb dX8_dig_54 (by decide) ?_
          refine lv_icmp_ne (tgt := 61) hx hb dX8_dig_55 (by decide) (fun c_21 => ?_) (fun c_21 => ?_)
          · have h := if_f h c_21
            refine lv_bipush (v := 12) hx hb dX8_dig_61 (by decide) ?_
            refine lv_iload_n hx hb dX8_dig_63 rfl (lv_at hl 2 rfl) ?_
            refine lv_imul hx hb dX8_dig_64 ?_
            refine lv_iload_n hx hb dX8_dig_65 rfl (lv_at hl 1 rfl) ?_
            refine lv_iadd hx hb dX8_dig_66 ?_
            obtain ⟨x_22, e_23, h⟩ := nmI_some h
            refine g_nmi e_23 ?_
            refine lv_istore_n (lv' := [(3, .int x_22), (0, .ref (al 0)), (1, .int a1), (2, .int a2)]) hx hb dX8_dig_67 rfl hl (by decide) rfl (fun ls hl => ?_)
            refine lv_aload_n hx hb dX8_dig_68 rfl (lv_at hl 1 rfl) ?_
            refine tw_ref S hW 1 1 (by decide) rfl q1500 rfl dX8_dig_69 ?_
            refine lv_bipush (v := 17) hx hb dX8_dig_72 (by decide) ?_
            refine lv_dup2_11 hx hb dX8_dig_74 rfl rfl ?_
            obtain ⟨h_25, x_24, e_26, h⟩ := rdI_some h
            refine g_iald S hW (k := 1) rfl rfl h_25 e_26 dX8_dig_75 ?_
            refine lv_aload_n hx hb dX8_dig_76 rfl (lv_at hl 1 rfl) ?_
            refine tw_ref S hW 1 1 (by decide) rfl q1500 rfl dX8_dig_77 ?_
            refine lv_sipush (v := 192) hx hb dX8_dig_80 (by decide) ?_
            refine lv_iload_n hx hb dX8_dig_83 rfl (lv_at hl 0 rfl) ?_
            refine lv_iadd hx hb dX8_dig_84 ?_
            obtain ⟨h_28, x_27, e_29, h⟩ := rdI_some h
            refine g_iald S hW (k := 1) rfl rfl h_28 e_29 dX8_dig_85 ?_
            refine lv_aload_n hx hb dX8_dig_86 rfl (lv_at hl 1 rfl) ?_
            refine tw_ref S hW 1 1 (by decide) rfl q1500 rfl dX8_dig_87 ?_
            refine lv_sipush (v := 336) hx hb dX8_dig_90 (by decide) ?_
            refine lv_iload_n hx hb dX8_dig_93 rfl (lv_at hl 0 rfl) ?_
            refine lv_iadd hx hb dX8_dig_94 ?_
            obtain ⟨h_31, x_30, e_32, h⟩ := rdI_some h
            refine g_iald S hW (k := 1) rfl rfl h_31 e_32 dX8_dig_95 ?_
            refine lv_isub hx hb dX8_dig_96 ?_
            refine lv_iadd hx hb dX8_dig_97 ?_
            obtain ⟨h_33, V_35, e_34, h⟩ := wrI_some h
            refine g_iast S hW (k := 1) rfl rfl h_33 e_34 dX8_dig_98 (fun H locs hW => ?_)
            refine lv_aload_n hx hb dX8_dig_99 rfl (lv_at hl 1 rfl) ?_
            refine tw_ref S hW 1 1 (by decide) rfl q1500 rfl dX8_dig_100 ?_
            refine lv_sipush (v := 480) hx hb dX8_dig_103 (by decide) ?_
            refine lv_iload_n hx hb dX8_dig_106 rfl (lv_at hl 0 rfl) ?_
            refine lv_iadd hx hb dX8_dig_107 ?_
            refine lv_iconst (v := 1) hx hb dX8_dig_108 (by decide) ?_
            obtain ⟨h_36, V_38, e_37, h⟩ := wrI_some h
            refine g_iast S hW (k := 1) rfl rfl h_36 e_37 dX8_dig_109 (fun H locs hW => ?_)
            refine lv_iconst (v := 0) hx hb dX8_dig_110 (by decide) ?_
            refine lv_istore (lv' := [(4, .int 0), (3, .int x_22), (0, .ref (al 0)), (1, .int a1), (2, .int a2)]) hx hb dX8_dig_111 hl (by decide) rfl (fun ls hl => ?_)
            refine lv_iconst (v := 0) hx hb dX8_dig_113 (by decide) ?_
            refine lv_istore (lv' := [(5, .int 0), (4, .int 0), (3, .int x_22), (0, .ref (al 0)), (1, .int a1), (2, .int a2)]) hx hb dX8_dig_114 hl (by decide) rfl (fun ls hl => ?_)
            obtain ⟨x_62, h_61, h⟩ := bnd_some h
            refine Lp116 V_38 L0 1000 0 0  _ _ _ _ h_61 hW (lv_sub hl [3, 1, 0] rfl) ?_
            intro w0 eo H locs ls hW hl
            subst eo
            refine lv_iload hx hb dX8_dig_158 (lv_at hl 0 rfl) ?_
            cases h
            exact g_iret S hr hlk hW dX8_dig_160
          · have h := if_t h c_21
            refine lv_bipush (v := (-7)) hx hb dX8_dig_58 (by decide) ?_
            cases h
            exact g_iret S hr hlk hW dX8_dig_60
        · have h := if_t h c_17
          refine lv_bipush (v := (-5)) hx hb dX8_dig_44 (by decide) ?_
          cases h
          exact g_iret S hr hlk hW dX8_dig_46
      · have h := if_f h c_12
        refine lv_bipush (v := (-2)) hx hb dX8_dig_34 (by decide) ?_
        cases h
        exact g_iret S hr hlk hW dX8_dig_36
theorem cwX8_dig {R : Room} {s : State} {args : Array Value} {index : Nat} (hts : ∀ w ∈ lw_all, w.before args s = true) (hl : Cond.methodLink RX8 index yX8_dig ∈ lw_all) (hR : rmX8_dig.frames + 1 ≤ R.frames ∧ 8 + (6 + 11) + rmX8_dig.locals ≤ R.locals) : CallW R s args RX8 RX8 index yX8_dig cX8_dig 6 (some .int) (ws_ yX8_dig cX8_dig 6 (some .int)) rmX8_dig 0 0 2 := cwV 2 hts (lw_V hl q1929 q1930 q122 q1931) rfl rfl rfl (by decide +kernel) hR
