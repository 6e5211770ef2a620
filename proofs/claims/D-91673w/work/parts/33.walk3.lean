/-! walks of the reference: X8_begins X8_keep X8_step X8_takes X8_number X8_needs X8_below X8_readBox X8_readCond X8_beside -/
set_option maxRecDepth 100000
def tw_begins_B2 (rec : Int32 → g_V → Option (g_V)) (x1 : Int32) (V : g_V) : Option (g_V) :=
  if 144 ≤ x1 then (some V) else (rdI (V 1) 810 5 fun x_2 => wrI V 1 810 (192 + x1) x_2 fun V_7 => wrI V_7 1 810 (336 + x1) 0 fun V_10 => wrI V_10 1 810 (480 + x1) 0 fun V_13 => nmI (x1 + 1) fun x_14 => rec x_14 V_13)
abbrev tw_begins_F2 : ((Int32 × g_V) → Option (g_V)) → (Int32 × g_V) → Option (g_V) := fun rec s => tw_begins_B2 (fun x1 V => rec (x1, V)) s.1 s.2
def tw_begins_L2 (n : Nat) (x1 : Int32) (V : g_V) : Option (g_V) := lp (tw_begins_F2) n (x1, V)
theorem tw_begins_L2_s (n : Nat) (x1 : Int32) (V : g_V) : tw_begins_L2 (n + 1) x1 V = tw_begins_B2 (fun x1 V => tw_begins_L2 n x1 V) x1 V := lp_s (tw_begins_F2) n (x1, V)
def tw_begins_B55 (rec : Int32 → g_V → Option (g_V)) (x1 : Int32) (V : g_V) : Option (g_V) :=
  if 10 ≤ x1 then (some V) else (wrI V 1 810 (790 + (2 * x1)) (-1) fun V_22 => nmI (x1 + 1) fun x_23 => rec x_23 V_22)
abbrev tw_begins_F55 : ((Int32 × g_V) → Option (g_V)) → (Int32 × g_V) → Option (g_V) := fun rec s => tw_begins_B55 (fun x1 V => rec (x1, V)) s.1 s.2
def tw_begins_L55 (n : Nat) (x1 : Int32) (V : g_V) : Option (g_V) := lp (tw_begins_F55) n (x1, V)
theorem tw_begins_L55_s (n : Nat) (x1 : Int32) (V : g_V) : tw_begins_L55 (n + 1) x1 V = tw_begins_B55 (fun x1 V => tw_begins_L55 n x1 V) x1 V := lp_s (tw_begins_F55) n (x1, V)
def tw_begins_B82 (rec : Int32 → g_V → Option (g_V)) (x1 : Int32) (V : g_V) : Option (g_V) :=
  if 6 ≤ x1 then (some V) else (wrI V 1 810 ((732 + (3 * x1)) + 2) (-1) fun V_31 => nmI (x1 + 1) fun x_32 => rec x_32 V_31)
abbrev tw_begins_F82 : ((Int32 × g_V) → Option (g_V)) → (Int32 × g_V) → Option (g_V) := fun rec s => tw_begins_B82 (fun x1 V => rec (x1, V)) s.1 s.2
def tw_begins_L82 (n : Nat) (x1 : Int32) (V : g_V) : Option (g_V) := lp (tw_begins_F82) n (x1, V)
theorem tw_begins_L82_s (n : Nat) (x1 : Int32) (V : g_V) : tw_begins_L82 (n + 1) x1 V = tw_begins_B82 (fun x1 V => tw_begins_L82 n x1 V) x1 V := lp_s (tw_begins_F82) n (x1, V)
def tw_begins (V0 : g_V) : Option (g_V) :=
  bnd (tw_begins_L2 1000 0 V0) (fun V_18 => bnd (tw_begins_L55 1000 0 V_18) (fun V_27 => bnd (tw_begins_L82 1000 0 V_27) (fun V_36 => bnd (tw_heatNow V_36) (fun x_39 => wrI V_36 1 810 18 x_39 fun V_42 => some V_42))))
abbrev rmX8_begins : Room := rm_ 1 22
set_option maxHeartbeats 4000000 in
theorem metX8_begins {l : Launch} {gp : Nat → Nat} {nx : Nat} {D : va_G} {K : Nat → ClassId} {al : Nat → Nat} {V0 : g_V} {L0 : g_L} {V' : g_V} (h : tw_begins V0 = some V') : Met l yX8_begins (ws_ yX8_begins cX8_begins 2 (none)) rmX8_begins (twPc gp nx [.ref (al 0)] D K al V0 L0) (twQv nx D K al V' L0) 0 0 (g_A al twSh) := by
  refine g_met rfl (Nat.le_of_ble_eq_true rfl) ?_
  intro p e s m below meth c ls S hr hlk hnm hl hW
  have S : CallFix p m c cX8_begins 2 s ([.ref (al 0)] : List Value).toArray lw_all RX8 := S
  have hx := S.1
  have hb := S.2.1
  have hl : lv_has ls 2 [(0, .ref (al 0))] := hl
  have Lp2 : ∀ (L : g_L) (n : Nat) (x1 : Int32) (V : g_V) (out : (g_V)) (H : Heap) (locs : List Loc) (ls : Array Slot), tw_begins_L2 n x1 V = some out → twW gp nx D K al s V L H locs → lv_has ls 2 [(0, .ref (al 0)), (1, .int x1)] → (∀ (oV : g_V), out = oV → ∀ (H : Heap) (locs : List Loc) (ls : Array Slot), twW gp nx D K al s oV L H locs → lv_has ls 2 [(0, .ref (al 0))] → W p l e rmX8_begins s m ([.ref (al 0)] : List Value).toArray below meth c H locs 0 0 (MQ below (twQv nx D K al V' L0) ([.ref (al 0)] : List Value).toArray s 0 0 (g_A al twSh)) (F0 m 53 ls [])) → W p l e rmX8_begins s m ([.ref (al 0)] : List Value).toArray below meth c H locs 0 0 (MQ below (twQv nx D K al V' L0) ([.ref (al 0)] : List Value).toArray s 0 0 (g_A al twSh)) (F0 m 2 ls []) := by
    intro L n
    induction n with
    | zero =>
      intro x1 V out H locs ls h
      exact (lp_0 h).elim
    | succ n ih =>
      intro x1 V out H locs ls h hW hl k1
      rw [tw_begins_L2_s] at h
      unfold tw_begins_B2 at h
      refine lv_iload_n hx hb dX8_begins_2 rfl (lv_at hl 1 rfl) ?_
      refine lv_sipush (v := 144) hx hb dX8_begins_3 (by decide) ?_
      refine lv_icmp_ge (tgt := 53) hx hb dX8_begins_6 (by decide) (fun c_1 => ?_) (fun c_1 => ?_)
      · have h := if_t h c_1
        exact k1 _ (Option.some.inj h).symm _ _ _ hW (lv_sub hl [0] rfl)
      · have h := if_f h c_1
        refine lv_aload_n hx hb dX8_begins_9 rfl (lv_at hl 0 rfl) ?_
        refine tw_ref S hW 1 1 (by decide) rfl q1500 rfl dX8_begins_10 ?_
        refine lv_sipush (v := 192) hx hb dX8_begins_13 (by decide) ?_
        refine lv_iload_n hx hb dX8_begins_16 rfl (lv_at hl 1 rfl) ?_
        refine lv_iadd hx hb dX8_begins_17 ?_
        refine lv_aload_n hx hb dX8_begins_18 rfl (lv_at hl 0 rfl) ?_
        refine tw_ref S hW 1 1 (by decide) rfl q1500 rfl dX8_begins_19 ?_
        refine lv_iconst (v := 5) hx hb dX8_begins_22 (by decide) ?_
        obtain ⟨h_3, x_2, e_4, h⟩ := rdI_some h
        refine g_iald S hW (k := 1) rfl rfl h_3 e_4 dX8_begins_23 ?_
        obtain ⟨h_5, V_7, e_6, h⟩ := wrI_some h
        refine g_iast S hW (k := 1) rfl rfl h_5 e_6 dX8_begins_24 (fun H locs hW => ?_)
        refine lv_aload_n hx hb dX8_begins_25 rfl (lv_at hl 0 rfl) ?_
        refine tw_ref S hW 1 1 (by decide) rfl q1500 rfl dX8_begins_26 ?_
        refine lv_sipush (v := 336) hx hb dX8_begins_29 (by decide) ?_
        refine lv_iload_n hx hb dX8_begins_32 rfl (lv_at hl 1 rfl) ?_
        refine lv_iadd hx hb dX8_begins_33 ?_
        refine lv_iconst (v := 0) hx hb dX8_begins_34 (by decide) ?_
        obtain ⟨h_8, V_10, e_9, h⟩ := wrI_some h
        refine g_iast S hW (k := 1) rfl rfl h_8 e_9 dX8_begins_35 (fun H locs hW => ?_)
        refine lv_aload_n hx hb dX8_begins_36 rfl (lv_at hl 0 rfl) ?_
        refine tw_ref S hW 1 1 (by decide) rfl q1500 rfl dX8_begins_37 ?_
        refine lv_sipush (v := 480) hx hb dX8_begins_40 (by decide) ?_
        refine lv_iload_n hx hb dX8_begins_43 rfl (lv_at hl 1 rfl) ?_
        refine lv_iadd hx hb dX8_begins_44 ?_
        refine lv_iconst (v := 0) hx hb dX8_begins_45 (by decide) ?_
        obtain ⟨h_11, V_13, e_12, h⟩ := wrI_some h
        refine g_iast S hW (k := 1) rfl rfl h_11 e_12 dX8_begins_46 (fun H locs hW => ?_)
        obtain ⟨x_14, e_15, h⟩ := nmI_some h
        refine lv_iinc (v := x_14) (lv' := [(1, .int x_14), (0, .ref (al 0))]) hx hb dX8_begins_47 hl (k := 1) rfl (by rw [e_15]; rfl) (by decide) rfl (fun ls hl => ?_)
        refine lv_goto (tgt := 2) hx hb dX8_begins_50 (by decide) ?_
        exact ih x_14 V_13 out _ _ _ h hW (lv_sub hl [1, 0] rfl) k1
  have Lp55 : ∀ (L : g_L) (n : Nat) (x1 : Int32) (V : g_V) (out : (g_V)) (H : Heap) (locs : List Loc) (ls : Array Slot), tw_begins_L55 n x1 V = some out → twW gp nx D K al s V L H locs → lv_has ls 2 [(0, .ref (al 0)), (1, .int x1)] → (∀ (oV : g_V), out = oV → ∀ (H : Heap) (locs : List Loc) (ls : Array Slot), twW gp nx D K al s oV L H locs → lv_has ls 2 [(0, .ref (al 0))] → W p l e rmX8_begins s m ([.ref (al 0)] : List Value).toArray below meth c H locs 0 0 (MQ below (twQv nx D K al V' L0) ([.ref (al 0)] : List Value).toArray s 0 0 (g_A al twSh)) (F0 m 80 ls [])) → W p l e rmX8_begins s m ([.ref (al 0)] : List Value).toArray below meth c H locs 0 0 (MQ below (twQv nx D K al V' L0) ([.ref (al 0)] : List Value).toArray s 0 0 (g_A al twSh)) (F0 m 55 ls []) := by
    intro L n
    induction n with
    | zero =>
      intro x1 V out H locs ls h
      exact (lp_0 h).elim
    | succ n ih =>
      intro x1 V out H locs ls h hW hl k1
      rw [tw_begins_L55_s] at h
      unfold tw_begins_B55 at h
      refine lv_iload_n hx hb dX8_begins_55 rfl (lv_at hl 1 rfl) ?_
      refine lv_bipush (v := 10) hx hb dX8_begins_56 (by decide) ?_
      refine lv_icmp_ge (tgt := 80) hx hb dX8_begins_58 (by decide) (fun c_19 => ?_) (fun c_19 => ?_)
      · have h := if_t h c_19
        exact k1 _ (Option.some.inj h).symm _ _ _ hW (lv_sub hl [0] rfl)
      · have h := if_f h c_19
        refine lv_aload_n hx hb dX8_begins_61 rfl (lv_at hl 0 rfl) ?_
        refine tw_ref S hW 1 1 (by decide) rfl q1500 rfl dX8_begins_62 ?_
        refine lv_sipush (v := 790) hx hb dX8_begins_65 (by decide) ?_
        refine lv_iconst (v := 2) hx hb dX8_begins_68 (by decide) ?_
        refine lv_iload_n hx hb dX8_begins_69 rfl (lv_at hl 1 rfl) ?_
        refine lv_imul hx hb dX8_begins_70 ?_
        refine lv_iadd hx hb dX8_begins_71 ?_
        refine lv_iconst (v := (-1)) hx hb dX8_begins_72 (by decide) ?_
        obtain ⟨h_20, V_22, e_21, h⟩ := wrI_some h
        refine g_iast S hW (k := 1) rfl rfl h_20 e_21 dX8_begins_73 (fun H locs hW => ?_)
        obtain ⟨x_23, e_24, h⟩ := nmI_some h
        refine lv_iinc (v := x_23) (lv' := [(1, .int x_23), (0, .ref (al 0))]) hx hb dX8_begins_74 hl (k := 1) rfl (by rw [e_24]; rfl) (by decide) rfl (fun ls hl => ?_)
        refine lv_goto (tgt := 55) hx hb dX8_begins_77 (by decide) ?_
        exact ih x_23 V_22 out _ _ _ h hW (lv_sub hl [1, 0] rfl) k1
  have Lp82 : ∀ (L : g_L) (n : Nat) (x1 : Int32) (V : g_V) (out : (g_V)) (H : Heap) (locs : List Loc) (ls : Array Slot), tw_begins_L82 n x1 V = some out → twW gp nx D K al s V L H locs → lv_has ls 2 [(0, .ref (al 0)), (1, .int x1)] → (∀ (oV : g_V), out = oV → ∀ (H : Heap) (locs : List Loc) (ls : Array Slot), twW gp nx D K al s oV L H locs → lv_has ls 2 [(0, .ref (al 0))] → W p l e rmX8_begins s m ([.ref (al 0)] : List Value).toArray below meth c H locs 0 0 (MQ below (twQv nx D K al V' L0) ([.ref (al 0)] : List Value).toArray s 0 0 (g_A al twSh)) (F0 m 109 ls [])) → W p l e rmX8_begins s m ([.ref (al 0)] : List Value).toArray below meth c H locs 0 0 (MQ below (twQv nx D K al V' L0) ([.ref (al 0)] : List Value).toArray s 0 0 (g_A al twSh)) (F0 m 82 ls []) := by
    intro L n
    induction n with
    | zero =>
      intro x1 V out H locs ls h
      exact (lp_0 h).elim
    | succ n ih =>
      intro x1 V out H locs ls h hW hl k1
      rw [tw_begins_L82_s] at h
      unfold tw_begins_B82 at h
      refine lv_iload_n hx hb dX8_begins_82 rfl (lv_at hl 1 rfl) ?_
      refine lv_bipush (v := 6) hx hb dX8_begins_83 (by decide) ?_
      refine lv_icmp_ge (tgt := 109) hx hb dX8_begins_85 (by decide) (fun c_28 => ?_) (fun c_28 => ?_)
      · have h := if_t h c_28
        exact k1 _ (Option.some.inj h).symm _ _ _ hW (lv_sub hl [0] rfl)
      · have h := if_f h c_28
        refine lv_aload_n hx hb dX8_begins_88 rfl (lv_at hl 0 rfl) ?_
        refine tw_ref S hW 1 1 (by decide) rfl q1500 rfl dX8_begins_89 ?_
        refine lv_sipush (v := 732) hx hb dX8_begins_92 (by decide) ?_
        refine lv_iconst (v := 3) hx hb dX8_begins_95 (by decide) ?_
        refine lv_iload_n hx hb dX8_begins_96 rfl (lv_at hl 1 rfl) ?_
        refine lv_imul hx hb dX8_begins_97 ?_
        refine lv_iadd hx hb dX8_begins_98 ?_
        refine lv_iconst (v := 2) hx hb dX8_begins_99 (by decide) ?_
        refine lv_iadd hx hb dX8_begins_100 ?_
        refine lv_iconst (v := (-1)) hx hb dX8_begins_101 (by decide) ?_
        obtain ⟨h_29, V_31, e_30, h⟩ := wrI_some h
        refine g_iast S hW (k := 1) rfl rfl h_29 e_30 dX8_begins_102 (fun H locs hW => ?_)
        obtain ⟨x_32, e_33, h⟩ := nmI_some h
        refine lv_iinc (v := x_32) (lv' := [(1, .int x_32), (0, .ref (al 0))]) hx hb dX8_begins_103 hl (k := 1) rfl (by rw [e_33]; rfl) (by decide) rfl (fun ls hl => ?_)
        refine lv_goto (tgt := 82) hx hb dX8_begins_106 (by decide) ?_
        exact ih x_32 V_31 out _ _ _ h hW (lv_sub hl [1, 0] rfl) k1
  unfold tw_begins at h
  refine lv_iconst (v := 0) hx hb dX8_begins_0 (by decide) ?_
  refine lv_istore_n (lv' := [(1, .int 0), (0, .ref (al 0))]) hx hb dX8_begins_1 rfl hl (by decide) rfl (fun ls hl => ?_)
  obtain ⟨V_18, h_17, h⟩ := bnd_some h
  refine Lp2 L0 1000 0 V0  _ _ _ _ h_17 hW (lv_sub hl [1, 0] rfl) ?_
  intro w0 eo H locs ls hW hl
  subst eo
  refine lv_iconst (v := 0) hx hb dX8_begins_53 (by decide) ?_
  refine lv_istore_n (lv' := [(1, .int 0), (0, .ref (al 0))]) hx hb dX8_begins_54 rfl hl (by decide) rfl (fun ls hl => ?_)
  obtain ⟨V_27, h_26, h⟩ := bnd_some h
  refine Lp55 L0 1000 0 V_18  _ _ _ _ h_26 hW (lv_sub hl [1, 0] rfl) ?_
  intro w0 eo H locs ls hW hl
  subst eo
  refine lv_iconst (v := 0) hx hb dX8_begins_80 (by decide) ?_
  refine lv_istore_n (lv' := [(1, .int 0), (0, .ref (al 0))]) hx hb dX8_begins_81 rfl hl (by decide) rfl (fun ls hl => ?_)
  obtain ⟨V_36, h_35, h⟩ := bnd_some h
  refine Lp82 L0 1000 0 V_27  _ _ _ _ h_35 hW (lv_sub hl [1, 0] rfl) ?_
  intro w0 eo H locs ls hW hl
  subst eo
  refine lv_aload_n hx hb dX8_begins_109 rfl (lv_at hl 0 rfl) ?_
  refine tw_ref S hW 1 1 (by decide) rfl q1500 rfl dX8_begins_110 ?_
  refine lv_bipush (v := 18) hx hb dX8_begins_113 (by decide) ?_
  refine lv_aload_n hx hb dX8_begins_115 rfl (lv_at hl 0 rfl) ?_
  obtain ⟨x_39, h_37, h⟩ := bnd_some h
  refine g_callVi (As := []) (rest := [.int 18, .ref (al 1)]) S hW (metX8_heatNow h_37) (cwX8_heatNow S.2.2.2.2 q1496 ⟨Nat.le_of_ble_eq_true rfl, Nat.le_of_ble_eq_true rfl⟩) (k := 0) rfl rfl rfl hl.1 rfl (Nat.le_of_ble_eq_true rfl) dX8_begins_116 ⟨Nat.le_refl _, Nat.le_refl _⟩ (fun H locs hW => ?_)
  obtain ⟨h_40, V_42, e_41, h⟩ := wrI_some h
  refine g_iast S hW (k := 1) rfl rfl h_40 e_41 dX8_begins_119 (fun H locs hW => ?_)
  cases h
  exact g_vret S hr hlk hW dX8_begins_120
theorem cwX8_begins {R : Room} {s : State} {args : Array Value} {index : Nat} (hts : ∀ w ∈ lw_all, w.before args s = true) (hl : Cond.methodLink RX8 index yX8_begins ∈ lw_all) (hR : rmX8_begins.frames + 1 ≤ R.frames ∧ 8 + (2 + 11) + rmX8_begins.locals ≤ R.locals) : CallW R s args RX8 RX8 index yX8_begins cX8_begins 2 (none) (ws_ yX8_begins cX8_begins 2 (none)) rmX8_begins 0 0 0 := cwV 0 hts (lw_V hl q1494 qs52 q122 q1495) rfl rfl rfl (by decide +kernel) hR
def tw_keep_B17 (x1 : Int32) (rec : Int32 → g_V → Option (g_V)) (x2 : Int32) (V : g_V) : Option (g_V) :=
  if 810 ≤ x2 then (some V) else (rdI (V 1) 810 x2 fun x_6 => wrI V 3 2430 ((810 * x1) + x2) x_6 fun V_11 => nmI (x2 + 1) fun x_12 => rec x_12 V_11)
abbrev tw_keep_F17 (x1 : Int32) : ((Int32 × g_V) → Option (g_V)) → (Int32 × g_V) → Option (g_V) := fun rec s => tw_keep_B17 x1 (fun x2 V => rec (x2, V)) s.1 s.2
def tw_keep_L17 (x1 : Int32) (n : Nat) (x2 : Int32) (V : g_V) : Option (g_V) := lp (tw_keep_F17 x1) n (x2, V)
theorem tw_keep_L17_s (x1 : Int32) (n : Nat) (x2 : Int32) (V : g_V) : tw_keep_L17 x1 (n + 1) x2 V = tw_keep_B17 x1 (fun x2 V => tw_keep_L17 x1 n x2 V) x2 V := lp_s (tw_keep_F17 x1) n (x2, V)
def tw_keep (V0 : g_V) (a1 : Int32) : Option (Int32 × g_V) :=
  bnd (tw_in a1.toInt64 0 2) (fun x_3 => if x_3 = 0 then (some ((-2), V0)) else (bnd (tw_keep_L17 a1 1000 0 V0) (fun V_16 => wrI V_16 4 3 a1 1 fun V_19 => some (0, V_19))))
abbrev rmX8_keep : Room := rm_ 1 25
set_option maxHeartbeats 4000000 in
theorem metX8_keep {l : Launch} {gp : Nat → Nat} {nx : Nat} {D : va_G} {K : Nat → ClassId} {al : Nat → Nat} {V0 : g_V} {L0 : g_L} {a1 : Int32} {r : Int32} {V' : g_V} (h : tw_keep V0 a1 = some (r, V')) : Met l yX8_keep (ws_ yX8_keep cX8_keep 3 (some .int)) rmX8_keep (twPc gp nx [.ref (al 0), .int a1] D K al V0 L0) (twQi r nx D K al V' L0) 0 0 (g_A al twSh) := by
  refine g_met rfl (Nat.le_of_ble_eq_true rfl) ?_
  intro p e s m below meth c ls S hr hlk hnm hl hW
  have S : CallFix p m c cX8_keep 3 s ([.ref (al 0), .int a1] : List Value).toArray lw_all RX8 := S
  have hx := S.1
  have hb := S.2.1
  have hl : lv_has ls 3 [(0, .ref (al 0)), (1, .int a1)] := hl
  have Lp17 : ∀ (x1 : Int32) (L : g_L) (n : Nat) (x2 : Int32) (V : g_V) (out : (g_V)) (H : Heap) (locs : List Loc) (ls : Array Slot), tw_keep_L17 x1 n x2 V = some out → twW gp nx D K al s V L H locs → lv_has ls 3 [(0, .ref (al 0)), (1, .int x1), (2, .int x2)] → (∀ (oV : g_V), out = oV → ∀ (H : Heap) (locs : List Loc) (ls : Array Slot), twW gp nx D K al s oV L H locs → lv_has ls 3 [(0, .ref (al 0)), (1, .int x1)] → W p l e rmX8_keep s m ([.ref (al 0), .int a1] : List Value).toArray below meth c H locs 0 0 (MQ below (twQi r nx D K al V' L0) ([.ref (al 0), .int a1] : List Value).toArray s 0 0 (g_A al twSh)) (F0 m 48 ls [])) → W p l e rmX8_keep s m ([.ref (al 0), .int a1] : List Value).toArray below meth c H locs 0 0 (MQ below (twQi r nx D K al V' L0) ([.ref (al 0), .int a1] : List Value).toArray s 0 0 (g_A al twSh)) (F0 m 17 ls []) := by
    intro x1 L n
    induction n with
    | zero =>
      intro x2 V out H locs ls h
      exact (lp_0 h).elim
    | succ n ih =>
      intro x2 V out H locs ls h hW hl k1
      rw [tw_keep_L17_s] at h
      unfold tw_keep_B17 at h
      refine lv_iload_n hx hb dX8_keep_17 rfl (lv_at hl 2 rfl) ?_
      refine lv_sipush (v := 810) hx hb dX8_keep_18 (by decide) ?_
      refine lv_icmp_ge (tgt := 48) hx hb dX8_keep_21 (by decide) (fun c_5 => ?_) (fun c_5 => ?_)
      · have h := if_t h c_5
        exact k1 _ (Option.some.inj h).symm _ _ _ hW (lv_sub hl [0, 1] rfl)
      · have h := if_f h c_5
        refine lv_aload_n hx hb dX8_keep_24 rfl (lv_at hl 0 rfl) ?_
        refine tw_ref S hW 3 3 (by decide) rfl q1502 rfl dX8_keep_25 ?_
        refine lv_sipush (v := 810) hx hb dX8_keep_28 (by decide) ?_
        refine lv_iload_n hx hb dX8_keep_31 rfl (lv_at hl 1 rfl) ?_
        refine lv_imul hx hb dX8_keep_32 ?_
        refine lv_iload_n hx hb dX8_keep_33 rfl (lv_at hl 2 rfl) ?_
        refine lv_iadd hx hb dX8_keep_34 ?_
        refine lv_aload_n hx hb dX8_keep_35 rfl (lv_at hl 0 rfl) ?_
        refine tw_ref S hW 1 1 (by decide) rfl q1500 rfl dX8_keep_36 ?_
        refine lv_iload_n hx hb dX8_keep_39 rfl (lv_at hl 2 rfl) ?_
        obtain ⟨h_7, x_6, e_8, h⟩ := rdI_some h
        refine g_iald S hW (k := 1) rfl rfl h_7 e_8 dX8_keep_40 ?_
        obtain ⟨h_9, V_11, e_10, h⟩ := wrI_some h
        refine g_iast S hW (k := 3) rfl rfl h_9 e_10 dX8_keep_41 (fun H locs hW => ?_)
        obtain ⟨x_12, e_13, h⟩ := nmI_some h
        refine lv_iinc (v := x_12) (lv' := [(2, .int x_12), (0, .ref (al 0)), (1, .int x1)]) hx hb dX8_keep_42 hl (k := 2) rfl (by rw [e_13]; rfl) (by decide) rfl (fun ls hl => ?_)
        refine lv_goto (tgt := 17) hx hb dX8_keep_45 (by decide) ?_
        exact ih x_12 V_11 out _ _ _ h hW (lv_sub hl [1, 2, 0] rfl) k1
  unfold tw_keep at h
  refine lv_iload_n hx hb dX8_keep_0 rfl (lv_at hl 1 rfl) ?_
  refine lv_i2l (v := a1.toInt64) hx hb dX8_keep_1 rfl ?_
  refine lv_lconst (v := 0) hx hb dX8_keep_2 (by decide) ?_
  refine lv_ldc2 (v := 2) hx hb S.2.2.2.1 (S.2.2.2.2 _ q1624) dX8_keep_3 ?_
  obtain ⟨x_3, h_1, h⟩ := bnd_some h
  refine g_callSi (As := [.long a1.toInt64, .long 0, .long 2]) (rest := []) S hW (metX8_in h_1) (cwX8_in S.2.2.2.2 q1625 ⟨Nat.le_of_ble_eq_true rfl, Nat.le_of_ble_eq_true rfl⟩) rfl hl.1 rfl (Nat.le_of_ble_eq_true rfl) dX8_keep_6 ⟨Nat.le_refl _, Nat.le_refl _⟩ (fun H locs hW => ?_)
  refine lv_if_ne (tgt := 15) hx hb dX8_keep_9 (by decide) (fun c_4 => ?_) (fun c_4 => ?_)
  · have h := if_f h c_4
    refine lv_iconst (v := 0) hx hb dX8_keep_15 (by decide) ?_
    refine lv_istore_n (lv' := [(2, .int 0), (0, .ref (al 0)), (1, .int a1)]) hx hb dX8_keep_16 rfl hl (by decide) rfl (fun ls hl => ?_)
    obtain ⟨V_16, h_15, h⟩ := bnd_some h
    refine Lp17 a1 L0 1000 0 V0  _ _ _ _ h_15 hW (lv_sub hl [1, 2, 0] rfl) ?_
    intro w0 eo H locs ls hW hl
    subst eo
    refine lv_aload_n hx hb dX8_keep_48 rfl (lv_at hl 0 rfl) ?_
    refine tw_ref S hW 4 4 (by decide) rfl q1503 rfl dX8_keep_49 ?_
    refine lv_iload_n hx hb dX8_keep_52 rfl (lv_at hl 1 rfl) ?_
    refine lv_iconst (v := 1) hx hb dX8_keep_53 (by decide) ?_
    obtain ⟨h_17, V_19, e_18, h⟩ := wrI_some h
    refine g_zast S hW (k := 4) rfl rfl h_17 e_18 (by decide) dX8_keep_54 (fun H locs hW => ?_)
    refine lv_iconst (v := 0) hx hb dX8_keep_55 (by decide) ?_
    cases h
    exact g_iret S hr hlk hW dX8_keep_56
  · have h := if_t h c_4
    refine lv_bipush (v := (-2)) hx hb dX8_keep_12 (by decide) ?_
    cases h
    exact g_iret S hr hlk hW dX8_keep_14
theorem cwX8_keep {R : Room} {s : State} {args : Array Value} {index : Nat} (hts : ∀ w ∈ lw_all, w.before args s = true) (hl : Cond.methodLink RX8 index yX8_keep ∈ lw_all) (hR : rmX8_keep.frames + 1 ≤ R.frames ∧ 8 + (3 + 11) + rmX8_keep.locals ≤ R.locals) : CallW R s args RX8 RX8 index yX8_keep cX8_keep 3 (some .int) (ws_ yX8_keep cX8_keep 3 (some .int)) rmX8_keep 0 0 1 := cwV 1 hts (lw_V hl q1621 q1622 q122 q1623) rfl rfl rfl (by decide +kernel) hR
def tw_step_B0 (rec : g_V → Option (g_V)) (V : g_V) : Option (g_V) :=
  bnd (tw_see V (V 0 9)) (fun x_3 => if x_3 = 32 then (ptI V 0 9 ((V 0 9) + 1) fun V_5 => rec V_5) else (bnd (tw_see V (V 0 9)) (fun x_9 => if x_9 = 10 then (ptI V 0 9 ((V 0 9) + 1) fun V_11 => rec V_11) else (some V))))
abbrev tw_step_F0 : ((g_V) → Option (g_V)) → (g_V) → Option (g_V) := fun rec s => tw_step_B0 (fun V => rec V) s
def tw_step_L0 (n : Nat) (V : g_V) : Option (g_V) := lp (tw_step_F0) n V
theorem tw_step_L0_s (n : Nat) (V : g_V) : tw_step_L0 (n + 1) V = tw_step_B0 (fun V => tw_step_L0 n V) V := lp_s (tw_step_F0) n V
def tw_step_B144 (rec : g_V → Option (g_V)) (V : g_V) : Option (g_V) :=
  bnd (tw_see V (V 0 9)) (fun x_60 => bnd (tw_in x_60.toInt64 48 57) (fun x_63 => if x_63 = 0 then (some V) else (bnd (tw_see V (V 0 9)) (fun x_67 => nmI (if (((10 * (V 0 12)) + x_67) - 48) < 999999 then (((10 * (V 0 12)) + x_67) - 48) else 999999) fun x_68 => ptI V 0 12 x_68 fun V_70 => ptI V_70 0 9 ((V_70 0 9) + 1) fun V_72 => rec V_72))))
abbrev tw_step_F144 : ((g_V) → Option (g_V)) → (g_V) → Option (g_V) := fun rec s => tw_step_B144 (fun V => rec V) s
def tw_step_L144 (n : Nat) (V : g_V) : Option (g_V) := lp (tw_step_F144) n V
theorem tw_step_L144_s (n : Nat) (V : g_V) : tw_step_L144 (n + 1) V = tw_step_B144 (fun V => tw_step_L144 n V) V := lp_s (tw_step_F144) n V
def tw_step_B83 (rec : g_V → Option (g_V)) (V : g_V) : Option (g_V) :=
  bnd (tw_see V (V 0 9)) (fun x_81 => bnd (tw_in x_81.toInt64 97 122) (fun x_84 => if x_84 = 0 then (some V) else (ptI V 0 9 ((V 0 9) + 1) fun V_86 => rec V_86)))
abbrev tw_step_F83 : ((g_V) → Option (g_V)) → (g_V) → Option (g_V) := fun rec s => tw_step_B83 (fun V => rec V) s
def tw_step_L83 (n : Nat) (V : g_V) : Option (g_V) := lp (tw_step_F83) n V
theorem tw_step_L83_s (n : Nat) (V : g_V) : tw_step_L83 (n + 1) V = tw_step_B83 (fun V => tw_step_L83 n V) V := lp_s (tw_step_F83) n V
def tw_step (V0 : g_V) : Option (g_V) :=
  bnd (tw_step_L0 1000 V0) (fun V_15 => ptI V_15 0 10 (V_15 0 9) fun V_16 => bnd (tw_see V_16 (V_16 0 9)) (fun x_20 => if x_20 = (-1) then (ptI V_16 0 11 0 fun V_93 => some V_93) else (bnd (tw_in x_20.toInt64 97 122) (fun x_24 => if x_24 = 0 then (bnd (tw_in x_20.toInt64 48 57) (fun x_28 => if x_28 = 0 then (ptI V_16 0 12 x_20 fun V_30 => if x_20 = 60 then (ptI V_30 0 11 3 fun V_33 => ptI V_33 0 9 ((V_33 0 9) + 1) fun V_35 => some V_35) else (if x_20 = 62 then (ptI V_30 0 11 3 fun V_38 => ptI V_38 0 9 ((V_38 0 9) + 1) fun V_40 => some V_40) else (if x_20 = 45 then (ptI V_30 0 11 3 fun V_43 => ptI V_43 0 9 ((V_43 0 9) + 1) fun V_45 => some V_45) else (if x_20 = 59 then (ptI V_30 0 11 3 fun V_52 => ptI V_52 0 9 ((V_52 0 9) + 1) fun V_54 => some V_54) else (ptI V_30 0 11 4 fun V_48 => ptI V_48 0 9 ((V_48 0 9) + 1) fun V_50 => some V_50))))) else (ptI V_16 0 12 0 fun V_56 => bnd (tw_step_L144 1000 V_56) (fun V_76 => ptI V_76 0 11 2 fun V_77 => some V_77)))) else (bnd (tw_step_L83 1000 V_16) (fun V_90 => ptI V_90 0 11 1 fun V_91 => some V_91))))))
abbrev rmX8_step : Room := rm_ 1 25
set_option maxHeartbeats 4000000 in
theorem metX8_step {l : Launch} {gp : Nat → Nat} {nx : Nat} {D : va_G} {K : Nat → ClassId} {al : Nat → Nat} {V0 : g_V} {L0 : g_L} {V' : g_V} (h : tw_step V0 = some V') : Met l yX8_step (ws_ yX8_step cX8_step 2 (none)) rmX8_step (twPc gp nx [.ref (al 0)] D K al V0 L0) (twQv nx D K al V' L0) 0 0 (g_A al twSh) := by
  refine g_met rfl (Nat.le_of_ble_eq_true rfl) ?_
  intro p e s m below meth c ls S hr hlk hnm hl hW
  have S : CallFix p m c cX8_step 2 s ([.ref (al 0)] : List Value).toArray lw_all RX8 := S
  have hx := S.1
  have hb := S.2.1
  have hl : lv_has ls 2 [(0, .ref (al 0))] := hl
  have Lp0 : ∀ (L : g_L) (n : Nat) (V : g_V) (out : (g_V)) (H : Heap) (locs : List Loc) (ls : Array Slot), tw_step_L0 n V = some out → twW gp nx D K al s V L H locs → lv_has ls 2 [(0, .ref (al 0))] → (∀ (oV : g_V), out = oV → ∀ (H : Heap) (locs : List Loc) (ls : Array Slot), twW gp nx D K al s oV L H locs → lv_has ls 2 [(0, .ref (al 0))] → W p l e rmX8_step s m ([.ref (al 0)] : List Value).toArray below meth c H locs 0 0 (MQ below (twQv nx D K al V' L0) ([.ref (al 0)] : List Value).toArray s 0 0 (g_A al twSh)) (F0 m 39 ls [])) → W p l e rmX8_step s m ([.ref (al 0)] : List Value).toArray below meth c H locs 0 0 (MQ below (twQv nx D K al V' L0) ([.ref (al 0)] : List Value).toArray s 0 0 (g_A al twSh)) (F0 m 0 ls []) := by
    intro L n
    induction n with
    | zero =>
      intro V out H locs ls h
      exact (lp_0 h).elim
    | succ n ih =>
      intro V out H locs ls h hW hl k1
      rw [tw_step_L0_s] at h
      unfold tw_step_B0 at h
      refine lv_aload_n hx hb dX8_step_0 rfl (lv_at hl 0 rfl) ?_
      refine lv_aload_n hx hb dX8_step_1 rfl (lv_at hl 0 rfl) ?_
      refine tw_int S hW 9 (by decide) rfl q1508 rfl dX8_step_2 ?_
      obtain ⟨x_3, h_1, h⟩ := bnd_some h
      refine g_callVi (As := [.int (V 0 9)]) (rest := []) S hW (metX8_see h_1) (cwX8_see S.2.2.2.2 q1648 ⟨Nat.le_of_ble_eq_true rfl, Nat.le_of_ble_eq_true rfl⟩) (k := 0) rfl rfl rfl hl.1 rfl (Nat.le_of_ble_eq_true rfl) dX8_step_5 ⟨Nat.le_refl _, Nat.le_refl _⟩ (fun H locs hW => ?_)
      refine lv_bipush (v := 32) hx hb dX8_step_8 (by decide) ?_
      refine lv_icmp_eq (tgt := 26) hx hb dX8_step_10 (by decide) (fun c_4 => ?_) (fun c_4 => ?_)
      · have h := if_t h c_4
        refine lv_aload_n hx hb dX8_step_26 rfl (lv_at hl 0 rfl) ?_
        refine lv_dup hx hb dX8_step_27 rfl ?_
        refine tw_int S hW 9 (by decide) rfl q1508 rfl dX8_step_28 ?_
        refine lv_iconst (v := 1) hx hb dX8_step_31 (by decide) ?_
        refine lv_iadd hx hb dX8_step_32 ?_
        obtain ⟨V_5, e_6, h⟩ := ptI_some h
        refine tw_puti S hW 9 (by decide) rfl rfl rfl rfl rfl q1508 e_6 dX8_step_33 (fun H locs hW => ?_)
        refine lv_goto (tgt := 0) hx hb dX8_step_36 (by decide) ?_
        exact ih V_5 out _ _ _ h hW hl k1
      · have h := if_f h c_4
        refine lv_aload_n hx hb dX8_step_13 rfl (lv_at hl 0 rfl) ?_
        refine lv_aload_n hx hb dX8_step_14 rfl (lv_at hl 0 rfl) ?_
        refine tw_int S hW 9 (by decide) rfl q1508 rfl dX8_step_15 ?_
        obtain ⟨x_9, h_7, h⟩ := bnd_some h
        refine g_callVi (As := [.int (V 0 9)]) (rest := []) S hW (metX8_see h_7) (cwX8_see S.2.2.2.2 q1648 ⟨Nat.le_of_ble_eq_true rfl, Nat.le_of_ble_eq_true rfl⟩) (k := 0) rfl rfl rfl hl.1 rfl (Nat.le_of_ble_eq_true rfl) dX8_step_18 ⟨Nat.le_refl _, Nat.le_refl _⟩ (fun H locs hW => ?_)
        refine lv_bipush (v := 10) hx hb dX8_step_21 (by decide) ?_
        refine lv_icmp_ne (tgt := 39) hx hb dX8_step_23 (by decide) (fun c_10 => ?_) (fun c_10 => ?_)
        · have h := if_f h c_10
          exact k1 _ (Option.some.inj h).symm _ _ _ hW hl
        · have h := if_t h c_10
          refine lv_aload_n hx hb dX8_step_26 rfl (lv_at hl 0 rfl) ?_
          refine lv_dup hx hb dX8_step_27 rfl ?_
          refine tw_int S hW 9 (by decide) rfl q1508 rfl dX8_step_28 ?_
          refine lv_iconst (v := 1) hx hb dX8_step_31 (by decide) ?_
          refine lv_iadd hx hb dX8_step_32 ?_
          obtain ⟨V_11, e_12, h⟩ := ptI_some h
          refine tw_puti S hW 9 (by decide) rfl rfl rfl rfl rfl q1508 e_12 dX8_step_33 (fun H locs hW => ?_)
          refine lv_goto (tgt := 0) hx hb dX8_step_36 (by decide) ?_
          exact ih V_11 out _ _ _ h hW hl k1
  have Lp144 : ∀ (L : g_L) (n : Nat) (V : g_V) (out : (g_V)) (H : Heap) (locs : List Loc) (ls : Array Slot), tw_step_L144 n V = some out → twW gp nx D K al s V L H locs → lv_has ls 2 [(0, .ref (al 0))] → (∀ (oV : g_V), out = oV → ∀ (H : Heap) (locs : List Loc) (ls : Array Slot), twW gp nx D K al s oV L H locs → lv_has ls 2 [(0, .ref (al 0))] → W p l e rmX8_step s m ([.ref (al 0)] : List Value).toArray below meth c H locs 0 0 (MQ below (twQv nx D K al V' L0) ([.ref (al 0)] : List Value).toArray s 0 0 (g_A al twSh)) (F0 m 206 ls [])) → W p l e rmX8_step s m ([.ref (al 0)] : List Value).toArray below meth c H locs 0 0 (MQ below (twQv nx D K al V' L0) ([.ref (al 0)] : List Value).toArray s 0 0 (g_A al twSh)) (F0 m 144 ls []) := by
    intro L n
    induction n with
    | zero =>
      intro V out H locs ls h
      exact (lp_0 h).elim
    | succ n ih =>
      intro V out H locs ls h hW hl k1
      rw [tw_step_L144_s] at h
      unfold tw_step_B144 at h
      refine lv_aload_n hx hb dX8_step_144 rfl (lv_at hl 0 rfl) ?_
      refine lv_aload_n hx hb dX8_step_145 rfl (lv_at hl 0 rfl) ?_
      refine tw_int S hW 9 (by decide) rfl q1508 rfl dX8_step_146 ?_
      obtain ⟨x_60, h_58, h⟩ := bnd_some h
      refine g_callVi (As := [.int (V 0 9)]) (rest := []) S hW (metX8_see h_58) (cwX8_see S.2.2.2.2 q1648 ⟨Nat.le_of_ble_eq_true rfl, Nat.le_of_ble_eq_true rfl⟩) (k := 0) rfl rfl rfl hl.1 rfl (Nat.le_of_ble_eq_true rfl) dX8_step_149 ⟨Nat.le_refl _, Nat.le_refl _⟩ (fun H locs hW => ?_)
      refine lv_i2l (v := x_60.toInt64) hx hb dX8_step_152 rfl ?_
      refine lv_ldc2 (v := 48) hx hb S.2.2.2.1 (S.2.2.2.2 _ q1654) dX8_step_153 ?_
      refine lv_ldc2 (v := 57) hx hb S.2.2.2.1 (S.2.2.2.2 _ q1655) dX8_step_156 ?_
      obtain ⟨x_63, h_61, h⟩ := bnd_some h
      refine g_callSi (As := [.long x_60.toInt64, .long 48, .long 57]) (rest := []) S hW (metX8_in h_61) (cwX8_in S.2.2.2.2 q1625 ⟨Nat.le_of_ble_eq_true rfl, Nat.le_of_ble_eq_true rfl⟩) rfl hl.1 rfl (Nat.le_of_ble_eq_true rfl) dX8_step_159 ⟨Nat.le_refl _, Nat.le_refl _⟩ (fun H locs hW => ?_)
      refine lv_if_eq (tgt := 206) hx hb dX8_step_162 (by decide) (fun c_64 => ?_) (fun c_64 => ?_)
      · have h := if_t h c_64
        exact k1 _ (Option.some.inj h).symm _ _ _ hW hl
      · have h := if_f h c_64
        refine lv_aload_n hx hb dX8_step_165 rfl (lv_at hl 0 rfl) ?_
        refine lv_ldc (v := 999999) hx hb S.2.2.2.1 (S.2.2.2.2 _ q1656) dX8_step_166 ?_
        refine lv_bipush (v := 10) hx hb dX8_step_168 (by decide) ?_
        refine lv_aload_n hx hb dX8_step_170 rfl (lv_at hl 0 rfl) ?_
        refine tw_int S hW 12 (by decide) rfl q1511 rfl dX8_step_171 ?_
        refine lv_imul hx hb dX8_step_174 ?_
        refine lv_aload_n hx hb dX8_step_175 rfl (lv_at hl 0 rfl) ?_
        refine lv_aload_n hx hb dX8_step_176 rfl (lv_at hl 0 rfl) ?_
        refine tw_int S hW 9 (by decide) rfl q1508 rfl dX8_step_177 ?_
        obtain ⟨x_67, h_65, h⟩ := bnd_some h
        refine g_callVi (As := [.int (V 0 9)]) (rest := [.int (10 * (V 0 12)), .int 999999, .ref (al 0)]) S hW (metX8_see h_65) (cwX8_see S.2.2.2.2 q1648 ⟨Nat.le_of_ble_eq_true rfl, Nat.le_of_ble_eq_true rfl⟩) (k := 0) rfl rfl rfl hl.1 rfl (Nat.le_of_ble_eq_true rfl) dX8_step_180 ⟨Nat.le_refl _, Nat.le_refl _⟩ (fun H locs hW => ?_)
        refine lv_iadd hx hb dX8_step_183 ?_
        refine lv_bipush (v := 48) hx hb dX8_step_184 (by decide) ?_
        refine lv_isub hx hb dX8_step_186 ?_
        refine va_mmin hx hb (S.2.2.1.trans hl.1.symm) S.2.2.2.1 (S.2.2.2.2 _ q1657) (S.2.2.2.2 _ q633) (S.2.2.2.2 _ q117) (S.2.2.2.2 _ mc_min) (Nat.le_of_ble_eq_true rfl) (Nat.le_of_ble_eq_true rfl) (Nat.le_refl _) (Nat.le_refl _) dX8_step_187 ?_
        obtain ⟨x_68, e_69, h⟩ := nmI_some h
        refine g_nmi e_69 ?_
        obtain ⟨V_70, e_71, h⟩ := ptI_some h
        refine tw_puti S hW 12 (by decide) rfl rfl rfl rfl rfl q1511 e_71 dX8_step_190 (fun H locs hW => ?_)
        refine lv_aload_n hx hb dX8_step_193 rfl (lv_at hl 0 rfl) ?_
        refine lv_dup hx hb dX8_step_194 rfl ?_
        refine tw_int S hW 9 (by decide) rfl q1508 rfl dX8_step_195 ?_
        refine lv_iconst (v := 1) hx hb dX8_step_198 (by decide) ?_
        refine lv_iadd hx hb dX8_step_199 ?_
        obtain ⟨V_72, e_73, h⟩ := ptI_some h
        refine tw_puti S hW 9 (by decide) rfl rfl rfl rfl rfl q1508 e_73 dX8_step_200 (fun H locs hW => ?_)
        refine lv_goto (tgt := 144) hx hb dX8_step_203 (by decide) ?_
        exact ih V_72 out _ _ _ h hW hl k1
  have Lp83 : ∀ (L : g_L) (n : Nat) (V : g_V) (out : (g_V)) (H : Heap) (locs : List Loc) (ls : Array Slot), tw_step_L83 n V = some out → twW gp nx D K al s V L H locs → lv_has ls 2 [(0, .ref (al 0))] → (∀ (oV : g_V), out = oV → ∀ (H : Heap) (locs : List Loc) (ls : Array Slot), twW gp nx D K al s oV L H locs → lv_has ls 2 [(0, .ref (al 0))] → W p l e rmX8_step s m ([.ref (al 0)] : List Value).toArray below meth c H locs 0 0 (MQ below (twQv nx D K al V' L0) ([.ref (al 0)] : List Value).toArray s 0 0 (g_A al twSh)) (F0 m 117 ls [])) → W p l e rmX8_step s m ([.ref (al 0)] : List Value).toArray below meth c H locs 0 0 (MQ below (twQv nx D K al V' L0) ([.ref (al 0)] : List Value).toArray s 0 0 (g_A al twSh)) (F0 m 83 ls []) := by
    intro L n
    induction n with
    | zero =>
      intro V out H locs ls h
      exact (lp_0 h).elim
    | succ n ih =>
      intro V out H locs ls h hW hl k1
      rw [tw_step_L83_s] at h
      unfold tw_step_B83 at h
      refine lv_aload_n hx hb dX8_step_83 rfl (lv_at hl 0 rfl) ?_
      refine lv_aload_n hx hb dX8_step_84 rfl (lv_at hl 0 rfl) ?_
      refine tw_int S hW 9 (by decide) rfl q1508 rfl dX8_step_85 ?_
      obtain ⟨x_81, h_79, h⟩ := bnd_some h
      refine g_callVi (As := [.int (V 0 9)]) (rest := []) S hW (metX8_see h_79) (cwX8_see S.2.2.2.2 q1648 ⟨Nat.le_of_ble_eq_true rfl, Nat.le_of_ble_eq_true rfl⟩) (k := 0) rfl rfl rfl hl.1 rfl (Nat.le_of_ble_eq_true rfl) dX8_step_88 ⟨Nat.le_refl _, Nat.le_refl _⟩ (fun H locs hW => ?_)
      refine lv_i2l (v := x_81.toInt64) hx hb dX8_step_91 rfl ?_
      refine lv_ldc2 (v := 97) hx hb S.2.2.2.1 (S.2.2.2.2 _ q1652) dX8_step_92 ?_
      refine lv_ldc2 (v := 122) hx hb S.2.2.2.1 (S.2.2.2.2 _ q1653) dX8_step_95 ?_
      obtain ⟨x_84, h_82, h⟩ := bnd_some h
      refine g_callSi (As := [.long x_81.toInt64, .long 97, .long 122]) (rest := []) S hW (metX8_in h_82) (cwX8_in S.2.2.2.2 q1625 ⟨Nat.le_of_ble_eq_true rfl, Nat.le_of_ble_eq_true rfl⟩) rfl hl.1 rfl (Nat.le_of_ble_eq_true rfl) dX8_step_98 ⟨Nat.le_refl _, Nat.le_refl _⟩ (fun H locs hW => ?_)
      refine lv_if_eq (tgt := 117) hx hb dX8_step_101 (by decide) (fun c_85 => ?_) (fun c_85 => ?_)
      · have h := if_t h c_85
        exact k1 _ (Option.some.inj h).symm _ _ _ hW hl
      · have h := if_f h c_85
        refine lv_aload_n hx hb dX8_step_104 rfl (lv_at hl 0 rfl) ?_
        refine lv_dup hx hb dX8_step_105 rfl ?_
        refine tw_int S hW 9 (by decide) rfl q1508 rfl dX8_step_106 ?_
        refine lv_iconst (v := 1) hx hb dX8_step_109 (by decide) ?_
        refine lv_iadd hx hb dX8_step_110 ?_
        obtain ⟨V_86, e_87, h⟩ := ptI_some h
        refine tw_puti S hW 9 (by decide) rfl rfl rfl rfl rfl q1508 e_87 dX8_step_111 (fun H locs hW => ?_)
        refine lv_goto (tgt := 83) hx hb dX8_step_114 (by decide) ?_
        exact ih V_86 out _ _ _ h hW hl k1
  unfold tw_step at h
  obtain ⟨V_15, h_14, h⟩ := bnd_some h
  refine Lp0 L0 1000 V0  _ _ _ _ h_14 hW hl ?_
  intro w0 eo H locs ls hW hl
  subst eo
  refine lv_aload_n hx hb dX8_step_39 rfl (lv_at hl 0 rfl) ?_
  refine lv_aload_n hx hb dX8_step_40 rfl (lv_at hl 0 rfl) ?_
  refine tw_int S hW 9 (by decide) rfl q1508 rfl dX8_step_41 ?_
  obtain ⟨V_16, e_17, h⟩ := ptI_some h
  refine tw_puti S hW 10 (by decide) rfl rfl rfl rfl rfl q1509 e_17 dX8_step_44 (fun H locs hW => ?_)
  refine lv_aload_n hx hb dX8_step_47 rfl (lv_at hl 0 rfl) ?_
  refine lv_aload_n hx hb dX8_step_48 rfl (lv_at hl 0 rfl) ?_
  refine tw_int S hW 9 (by decide) rfl q1508 rfl dX8_step_49 ?_
  obtain ⟨x_20, h_18, h⟩ := bnd_some h
  refine g_callVi (As := [.int (V_16 0 9)]) (rest := []) S hW (metX8_see h_18) (cwX8_see S.2.2.2.2 q1648 ⟨Nat.le_of_ble_eq_true rfl, Nat.le_of_ble_eq_true rfl⟩) (k := 0) rfl rfl rfl hl.1 rfl (Nat.le_of_ble_eq_true rfl) dX8_step_52 ⟨Nat.le_refl _, Nat.le_refl _⟩ (fun H locs hW => ?_)
  refine lv_istore_n (lv' := [(1, .int x_20), (0, .ref (al 0))]) hx hb dX8_step_55 rfl hl (by decide) rfl (fun ls hl => ?_)
  refine lv_iload_n hx hb dX8_step_56 rfl (lv_at hl 0 rfl) ?_
  refine lv_iconst (v := (-1)) hx hb dX8_step_57 (by decide) ?_
  refine lv_icmp_ne (tgt := 69) hx hb dX8_step_58 (by decide) (fun c_21 => ?_) (fun c_21 => ?_)
  · have h := if_f h c_21
    refine lv_iload_n hx hb dX8_step_69 rfl (lv_at hl 0 rfl) ?_
    refine lv_i2l (v := x_20.toInt64) hx hb dX8_step_70 rfl ?_
    refine lv_ldc2 (v := 97) hx hb S.2.2.2.1 (S.2.2.2.2 _ q1652) dX8_step_71 ?_
    refine lv_ldc2 (v := 122) hx hb S.2.2.2.1 (S.2.2.2.2 _ q1653) dX8_step_74 ?_
    obtain ⟨x_24, h_22, h⟩ := bnd_some h
    refine g_callSi (As := [.long x_20.toInt64, .long 97, .long 122]) (rest := []) S hW (metX8_in h_22) (cwX8_in S.2.2.2.2 q1625 ⟨Nat.le_of_ble_eq_true rfl, Nat.le_of_ble_eq_true rfl⟩) rfl hl.1 rfl (Nat.le_of_ble_eq_true rfl) dX8_step_77 ⟨Nat.le_refl _, Nat.le_refl _⟩ (fun H locs hW => ?_)
    refine lv_if_eq (tgt := 125) hx hb dX8_step_80 (by decide) (fun c_25 => ?_) (fun c_25 => ?_)
    · have h := if_t h c_25
      refine lv_iload_n hx hb dX8_step_125 rfl (lv_at hl 0 rfl) ?_
      refine lv_i2l (v := x_20.toInt64) hx hb dX8_step_126 rfl ?_
      refine lv_ldc2 (v := 48) hx hb S.2.2.2.1 (S.2.2.2.2 _ q1654) dX8_step_127 ?_
      refine lv_ldc2 (v := 57) hx hb S.2.2.2.1 (S.2.2.2.2 _ q1655) dX8_step_130 ?_
      obtain ⟨x_28, h_26, h⟩ := bnd_some h
      refine g_callSi (As := [.long x_20.toInt64, .long 48, .long 57]) (rest := []) S hW (metX8_in h_26) (cwX8_in S.2.2.2.2 q1625 ⟨Nat.le_of_ble_eq_true rfl, Nat.le_of_ble_eq_true rfl⟩) rfl hl.1 rfl (Nat.le_of_ble_eq_true rfl) dX8_step_133 ⟨Nat.le_refl _, Nat.le_refl _⟩ (fun H locs hW => ?_)
      refine lv_if_eq (tgt := 214) hx hb dX8_step_136 (by decide) (fun c_29 => ?_) (fun c_29 => ?_)
      · have h := if_t h c_29
        refine lv_aload_n hx hb dX8_step_214 rfl (lv_at hl 1 rfl) ?_
        refine lv_iload_n hx hb dX8_step_215 rfl (lv_at hl 0 rfl) ?_
        obtain ⟨V_30, e_31, h⟩ := ptI_some h
        refine tw_puti S hW 12 (by decide) rfl rfl rfl rfl rfl q1511 e_31 dX8_step_216 (fun H locs hW => ?_)
        refine lv_aload_n hx hb dX8_step_219 rfl (lv_at hl 1 rfl) ?_
        refine lv_iload_n hx hb dX8_step_220 rfl (lv_at hl 0 rfl) ?_
        refine lv_bipush (v := 60) hx hb dX8_step_221 (by decide) ?_
        refine lv_icmp_eq (tgt := 244) hx hb dX8_step_223 (by decide) (fun c_32 => ?_) (fun c_32 => ?_)
        · have h := if_t h c_32
          refine lv_iconst (v := 3) hx hb dX8_step_244 (by decide) ?_
          refine lv_goto (tgt := 249) hx hb dX8_step_245 (by decide) ?_
          obtain ⟨V_33, e_34, h⟩ := ptI_some h
          refine tw_puti S hW 11 (by decide) rfl rfl rfl rfl rfl q1510 e_34 dX8_step_249 (fun H locs hW => ?_)
          refine lv_aload_n hx hb dX8_step_252 rfl (lv_at hl 1 rfl) ?_
          refine lv_dup hx hb dX8_step_253 rfl ?_
          refine tw_int S hW 9 (by decide) rfl q1508 rfl dX8_step_254 ?_
          refine lv_iconst (v := 1) hx hb dX8_step_257 (by decide) ?_
          refine lv_iadd hx hb dX8_step_258 ?_
          obtain ⟨V_35, e_36, h⟩ := ptI_some h
          refine tw_puti S hW 9 (by decide) rfl rfl rfl rfl rfl q1508 e_36 dX8_step_259 (fun H locs hW => ?_)
          cases h
          exact g_vret S hr hlk hW dX8_step_262
        · have h := if_f h c_32
          refine lv_iload_n hx hb dX8_step_226 rfl (lv_at hl 0 rfl) ?_
          refine lv_bipush (v := 62) hx hb dX8_step_227 (by decide) ?_
          refine lv_icmp_eq (tgt := 244) hx hb dX8_step_229 (by decide) (fun c_37 => ?_) (fun c_37 => ?_)
          · have h := if_t h c_37
            refine lv_iconst (v := 3) hx hb dX8_step_244 (by decide) ?_
            refine lv_goto (tgt := 249) hx hb dX8_step_245 (by decide) ?_
            obtain ⟨V_38, e_39, h⟩ := ptI_some h
            refine tw_puti S hW 11 (by decide) rfl rfl rfl rfl rfl q1510 e_39 dX8_step_249 (fun H locs hW => ?_)
            refine lv_aload_n hx hb dX8_step_252 rfl (lv_at hl 1 rfl) ?_
            refine lv_dup hx hb dX8_step_253 rfl ?_
            refine tw_int S hW 9 (by decide) rfl q1508 rfl dX8_step_254 ?_
            refine lv_iconst (v := 1) hx hb dX8_step_257 (by decide) ?_
            refine lv_iadd hx hb dX8_step_258 ?_
            obtain ⟨V_40, e_41, h⟩ := ptI_some h
            refine tw_puti S hW 9 (by decide) rfl rfl rfl rfl rfl q1508 e_41 dX8_step_259 (fun H locs hW => ?_)
            cases h
            exact g_vret S hr hlk hW dX8_step_262
          · have h := if_f h c_37
            refine lv_iload_n hx hb dX8_step_232 rfl (lv_at hl 0 rfl) ?_
            refine lv_bipush (v := 45) hx hb dX8_step_233 (by decide) ?_
            refine lv_icmp_eq (tgt := 244) hx hb dX8_step_235 (by decide) (fun c_42 => ?_) (fun c_42 => ?_)
            · have h := if_t h c_42
              refine lv_iconst (v := 3) hx hb dX8_step_244 (by decide) ?_
              refine lv_goto (tgt := 249) hx hb dX8_step_245 (by decide) ?_
              obtain ⟨V_43, e_44, h⟩ := ptI_some h
              refine tw_puti S hW 11 (by decide) rfl rfl rfl rfl rfl q1510 e_44 dX8_step_249 (fun H locs hW => ?_)
              refine lv_aload_n hx hb dX8_step_252 rfl (lv_at hl 1 rfl) ?_
              refine lv_dup hx hb dX8_step_253 rfl ?_
              refine tw_int S hW 9 (by decide) rfl q1508 rfl dX8_step_254 ?_
              refine lv_iconst (v := 1) hx hb dX8_step_257 (by decide) ?_
              refine lv_iadd hx hb dX8_step_258 ?_
              obtain ⟨V_45, e_46, h⟩ := ptI_some h
              refine tw_puti S hW 9 (by decide) rfl rfl rfl rfl rfl q1508 e_46 dX8_step_259 (fun H locs hW => ?_)
              cases h
              exact g_vret S hr hlk hW dX8_step_262
            · have h := if_f h c_42
              refine lv_iload_n hx hb dX8_step_238 rfl (lv_at hl 0 rfl) ?_
              refine lv_bipush (v := 59) hx hb dX8_step_239 (by decide) ?_
              refine lv_icmp_ne (tgt := 248) hx hb dX8_step_241 (by decide) (fun c_47 => ?_) (fun c_47 => ?_)
              · have h := if_f h c_47
                refine lv_iconst (v := 4) hx hb dX8_step_248 (by decide) ?_
                obtain ⟨V_48, e_49, h⟩ := ptI_some h
                refine tw_puti S hW 11 (by decide) rfl rfl rfl rfl rfl q1510 e_49 dX8_step_249 (fun H locs hW => ?_)
                refine lv_aload_n hx hb dX8_step_252 rfl (lv_at hl 1 rfl) ?_
                refine lv_dup hx hb dX8_step_253 rfl ?_
                refine tw_int S hW 9 (by decide) rfl q1508 rfl dX8_step_254 ?_
                refine lv_iconst (v := 1) hx hb dX8_step_257 (by decide) ?_
                refine lv_iadd hx hb dX8_step_258 ?_
                obtain ⟨V_50, e_51, h⟩ := ptI_some h
                refine tw_puti S hW 9 (by decide) rfl rfl rfl rfl rfl q1508 e_51 dX8_step_259 (fun H locs hW => ?_)
                cases h
                exact g_vret S hr hlk hW dX8_step_262
              · have h := if_t h c_47
                refine lv_iconst (v := 3) hx hb dX8_step_244 (by decide) ?_
                refine lv_goto (tgt := 249) hx hb dX8_step_245 (by decide) ?_
                obtain ⟨V_52, e_53, h⟩ := ptI_some h
                refine tw_puti S hW 11 (by decide) rfl rfl rfl rfl rfl q1510 e_53 dX8_step_249 (fun H locs hW => ?_)
                refine lv_aload_n hx hb dX8_step_252 rfl (lv_at hl 1 rfl) ?_
                refine lv_dup hx hb dX8_step_253 rfl ?_
                refine tw_int S hW 9 (by decide) rfl q1508 rfl dX8_step_254 ?_
                refine lv_iconst (v := 1) hx hb dX8_step_257 (by decide) ?_
                refine lv_iadd hx hb dX8_step_258 ?_
                obtain ⟨V_54, e_55, h⟩ := ptI_some h
                refine tw_puti S hW 9 (by decide) rfl rfl rfl rfl rfl q1508 e_55 dX8_step_259 (fun H locs hW => ?_)
                cases h
                exact g_vret S hr hlk hW dX8_step_262
      · have h := if_f h c_29
        refine lv_aload_n hx hb dX8_step_139 rfl (lv_at hl 1 rfl) ?_
        refine lv_iconst (v := 0) hx hb dX8_step_140 (by decide) ?_
        obtain ⟨V_56, e_57, h⟩ := ptI_some h
        refine tw_puti S hW 12 (by decide) rfl rfl rfl rfl rfl q1511 e_57 dX8_step_141 (fun H locs hW => ?_)
        obtain ⟨V_76, h_75, h⟩ := bnd_some h
        refine Lp144 L0 1000 V_56  _ _ _ _ h_75 hW (lv_sub hl [1] rfl) ?_
        intro w0 eo H locs ls hW hl
        subst eo
        refine lv_aload_n hx hb dX8_step_206 rfl (lv_at hl 0 rfl) ?_
        refine lv_iconst (v := 2) hx hb dX8_step_207 (by decide) ?_
        obtain ⟨V_77, e_78, h⟩ := ptI_some h
        refine tw_puti S hW 11 (by decide) rfl rfl rfl rfl rfl q1510 e_78 dX8_step_208 (fun H locs hW => ?_)
        refine lv_goto (tgt := 262) hx hb dX8_step_211 (by decide) ?_
        cases h
        exact g_vret S hr hlk hW dX8_step_262
    · have h := if_f h c_25
      obtain ⟨V_90, h_89, h⟩ := bnd_some h
      refine Lp83 L0 1000 V_16  _ _ _ _ h_89 hW (lv_sub hl [1] rfl) ?_
      intro w0 eo H locs ls hW hl
      subst eo
      refine lv_aload_n hx hb dX8_step_117 rfl (lv_at hl 0 rfl) ?_
      refine lv_iconst (v := 1) hx hb dX8_step_118 (by decide) ?_
      obtain ⟨V_91, e_92, h⟩ := ptI_some h
      refine tw_puti S hW 11 (by decide) rfl rfl rfl rfl rfl q1510 e_92 dX8_step_119 (fun H locs hW => ?_)
      refine lv_goto (tgt := 262) hx hb dX8_step_122 (by decide) ?_
      cases h
      exact g_vret S hr hlk hW dX8_step_262
  · have h := if_t h c_21
    refine lv_aload_n hx hb dX8_step_61 rfl (lv_at hl 1 rfl) ?_
    refine lv_iconst (v := 0) hx hb dX8_step_62 (by decide) ?_
    obtain ⟨V_93, e_94, h⟩ := ptI_some h
    refine tw_puti S hW 11 (by decide) rfl rfl rfl rfl rfl q1510 e_94 dX8_step_63 (fun H locs hW => ?_)
    refine lv_goto (tgt := 262) hx hb dX8_step_66 (by decide) ?_
    cases h
    exact g_vret S hr hlk hW dX8_step_262
theorem cwX8_step {R : Room} {s : State} {args : Array Value} {index : Nat} (hts : ∀ w ∈ lw_all, w.before args s = true) (hl : Cond.methodLink RX8 index yX8_step ∈ lw_all) (hR : rmX8_step.frames + 1 ≤ R.frames ∧ 8 + (2 + 11) + rmX8_step.locals ≤ R.locals) : CallW R s args RX8 RX8 index yX8_step cX8_step 2 (none) (ws_ yX8_step cX8_step 2 (none)) rmX8_step 0 0 0 := cwV 0 hts (lw_V hl q1646 qs54 q122 q1647) rfl rfl rfl (by decide +kernel) hR
def tw_takes (w : Nat) (V0 : g_V) : Option (Int32 × g_V) :=
  bnd (tw_is w V0) (fun x_3 => if x_3 = 0 then (okI (isB x_3) <| some (x_3, V0)) else (bnd (tw_step V0) (fun V_8 => okI (isB x_3) <| some (x_3, V_8))))
abbrev rmX8_takes : Room := rm_ 5 134
set_option maxHeartbeats 4000000 in
theorem metX8_takes {l : Launch} {gp : Nat → Nat} {nx : Nat} {D : va_G} {K : Nat → ClassId} {al : Nat → Nat} {w : Nat} {V0 : g_V} {L0 : g_L} {r : Int32} {V' : g_V} (hw : w < 24) (h : tw_takes w V0 = some (r, V')) : Met l yX8_takes (ws_ yX8_takes cX8_takes 3 (some .boolean)) rmX8_takes (twPc gp nx [.ref (al 0), .ref (gp w)] D K al V0 L0) (twQi r nx D K al V' L0) 0 0 (g_A al twSh) := by
  refine g_met rfl (Nat.le_of_ble_eq_true rfl) ?_
  intro p e s m below meth c ls S hr hlk hnm hl hW
  have S : CallFix p m c cX8_takes 3 s ([.ref (al 0), .ref (gp w)] : List Value).toArray lw_all RX8 := S
  have hx := S.1
  have hb := S.2.1
  have hl : lv_has ls 3 [(0, .ref (al 0)), (1, .ref (gp w))] := hl
  unfold tw_takes at h
  refine lv_aload_n hx hb dX8_takes_0 rfl (lv_at hl 0 rfl) ?_
  refine lv_aload_n hx hb dX8_takes_1 rfl (lv_at hl 1 rfl) ?_
  obtain ⟨x_3, h_1, h⟩ := bnd_some h
  refine g_callVi (As := [.ref (gp w)]) (rest := []) S hW (metX8_is hw h_1) (cwX8_is S.2.2.2.2 q1667 ⟨Nat.le_of_ble_eq_true rfl, Nat.le_of_ble_eq_true rfl⟩) (k := 0) rfl rfl rfl hl.1 rfl (Nat.le_of_ble_eq_true rfl) dX8_takes_2 ⟨Nat.le_refl _, Nat.le_refl _⟩ (fun H locs hW => ?_)
  refine lv_istore_n (lv' := [(2, .int x_3), (0, .ref (al 0)), (1, .ref (gp w))]) hx hb dX8_takes_5 rfl hl (by decide) rfl (fun ls hl => ?_)
  refine lv_iload_n hx hb dX8_takes_6 rfl (lv_at hl 0 rfl) ?_
  refine lv_if_eq (tgt := 14) hx hb dX8_takes_7 (by decide) (fun c_4 => ?_) (fun c_4 => ?_)
  · have h := if_t h c_4
    refine lv_iload_n hx hb dX8_takes_14 rfl (lv_at hl 0 rfl) ?_
    obtain ⟨h_5, h⟩ := okI_some h
    cases h
    exact g_zret S hr hlk (isB_narrow h_5) hW dX8_takes_15
  · have h := if_f h c_4
    refine lv_aload_n hx hb dX8_takes_10 rfl (lv_at hl 1 rfl) ?_
    obtain ⟨V_8, h_6, h⟩ := bnd_some h
    refine g_callVv (As := []) (rest := []) S hW (metX8_step h_6) (cwX8_step S.2.2.2.2 q1644 ⟨Nat.le_of_ble_eq_true rfl, Nat.le_of_ble_eq_true rfl⟩) (k := 0) rfl rfl rfl hl.1 rfl (Nat.le_of_ble_eq_true rfl) dX8_takes_11 ⟨Nat.le_refl _, Nat.le_refl _⟩ (fun H locs hW => ?_)
    refine lv_iload_n hx hb dX8_takes_14 rfl (lv_at hl 0 rfl) ?_
    obtain ⟨h_9, h⟩ := okI_some h
    cases h
    exact g_zret S hr hlk (isB_narrow h_9) hW dX8_takes_15
theorem cwX8_takes {R : Room} {s : State} {args : Array Value} {index : Nat} (hts : ∀ w ∈ lw_all, w.before args s = true) (hl : Cond.methodLink RX8 index yX8_takes ∈ lw_all) (hR : rmX8_takes.frames + 1 ≤ R.frames ∧ 8 + (3 + 11) + rmX8_takes.locals ≤ R.locals) : CallW R s args RX8 RX8 index yX8_takes cX8_takes 3 (some .boolean) (ws_ yX8_takes cX8_takes 3 (some .boolean)) rmX8_takes 0 0 1 := cwV 1 hts (lw_V hl q1687 qs60 q122 q1688) rfl rfl rfl (by decide +kernel) hR
def tw_number_J47 (V : g_V) : Option (Int32 × g_V) :=
  bnd (tw_good V) (fun x_11 => if x_11 = 0 then (some (0, V)) else (nmI (V 0 12) fun x_13 => bnd (tw_step V) (fun V_17 => some (x_13, V_17))))
def tw_number_J20 (x1 : Int32) (x2 : Int32) (V : g_V) : Option (Int32 × g_V) :=
  bnd (tw_good V) (fun x_7 => if x_7 = 0 then (tw_number_J47 V) else (bnd (tw_in ((V 0 12).toInt64) x1.toInt64 x2.toInt64) (fun x_20 => if x_20 = 0 then (bnd (tw_wrong V 2) (fun V_24 => tw_number_J47 V_24)) else (tw_number_J47 V))))
def tw_number (V0 : g_V) (a1 : Int32) (a2 : Int32) : Option (Int32 × g_V) :=
  bnd (tw_good V0) (fun x_3 => if x_3 = 0 then (tw_number_J20 a1 a2 V0) else (if (V0 0 11) = 2 then (tw_number_J20 a1 a2 V0) else (bnd (tw_wrong V0 1) (fun V_28 => tw_number_J20 a1 a2 V_28))))
abbrev rmX8_number : Room := rm_ 2 46
set_option maxHeartbeats 4000000 in
theorem metX8_number {l : Launch} {gp : Nat → Nat} {nx : Nat} {D : va_G} {K : Nat → ClassId} {al : Nat → Nat} {V0 : g_V} {L0 : g_L} {a1 : Int32} {a2 : Int32} {r : Int32} {V' : g_V} (h : tw_number V0 a1 a2 = some (r, V')) : Met l yX8_number (ws_ yX8_number cX8_number 4 (some .int)) rmX8_number (twPc gp nx [.ref (al 0), .int a1, .int a2] D K al V0 L0) (twQi r nx D K al V' L0) 0 0 (g_A al twSh) := by
  refine g_met rfl (Nat.le_of_ble_eq_true rfl) ?_
  intro p e s m below meth c ls S hr hlk hnm hl hW
  have S : CallFix p m c cX8_number 4 s ([.ref (al 0), .int a1, .int a2] : List Value).toArray lw_all RX8 := S
  have hx := S.1
  have hb := S.2.1
  have hl : lv_has ls 4 [(0, .ref (al 0)), (1, .int a1), (2, .int a2)] := hl
  have J47 : ∀ (V : g_V) (H : Heap) (locs : List Loc) (ls : Array Slot), tw_number_J47 V = some (r, V') → twW gp nx D K al s V L0 H locs → lv_has ls 4 [(0, .ref (al 0))] → W p l e rmX8_number s m ([.ref (al 0), .int a1, .int a2] : List Value).toArray below meth c H locs 0 0 (MQ below (twQi r nx D K al V' L0) ([.ref (al 0), .int a1, .int a2] : List Value).toArray s 0 0 (g_A al twSh)) (F0 m 47 ls []) := by
    intro V H locs ls h hW hl
    unfold tw_number_J47 at h
    refine lv_aload_n hx hb dX8_number_47 rfl (lv_at hl 0 rfl) ?_
    obtain ⟨x_11, h_9, h⟩ := bnd_some h
    refine g_callVi (As := []) (rest := []) S hW (metX8_good h_9) (cwX8_good S.2.2.2.2 q1658 ⟨Nat.le_of_ble_eq_true rfl, Nat.le_of_ble_eq_true rfl⟩) (k := 0) rfl rfl rfl hl.1 rfl (Nat.le_of_ble_eq_true rfl) dX8_number_48 ⟨Nat.le_refl _, Nat.le_refl _⟩ (fun H locs hW => ?_)
    refine lv_if_ne (tgt := 56) hx hb dX8_number_51 (by decide) (fun c_12 => ?_) (fun c_12 => ?_)
    · have h := if_f h c_12
      refine lv_aload_n hx hb dX8_number_56 rfl (lv_at hl 0 rfl) ?_
      refine tw_int S hW 12 (by decide) rfl q1511 rfl dX8_number_57 ?_
      obtain ⟨x_13, e_14, h⟩ := nmI_some h
      refine g_nmi e_14 ?_
      refine lv_istore_n (lv' := [(3, .int x_13), (0, .ref (al 0))]) hx hb dX8_number_60 rfl hl (by decide) rfl (fun ls hl => ?_)
      refine lv_aload_n hx hb dX8_number_61 rfl (lv_at hl 1 rfl) ?_
      obtain ⟨V_17, h_15, h⟩ := bnd_some h
      refine g_callVv (As := []) (rest := []) S hW (metX8_step h_15) (cwX8_step S.2.2.2.2 q1644 ⟨Nat.le_of_ble_eq_true rfl, Nat.le_of_ble_eq_true rfl⟩) (k := 0) rfl rfl rfl hl.1 rfl (Nat.le_of_ble_eq_true rfl) dX8_number_62 ⟨Nat.le_refl _, Nat.le_refl _⟩ (fun H locs hW => ?_)
      refine lv_iload_n hx hb dX8_number_65 rfl (lv_at hl 0 rfl) ?_
      cases h
      exact g_iret S hr hlk hW dX8_number_66
    · have h := if_t h c_12
      refine lv_iconst (v := 0) hx hb dX8_number_54 (by decide) ?_
      cases h
      exact g_iret S hr hlk hW dX8_number_55
  have J20 : ∀ (x1 : Int32) (x2 : Int32) (V : g_V) (H : Heap) (locs : List Loc) (ls : Array Slot), tw_number_J20 x1 x2 V = some (r, V') → twW gp nx D K al s V L0 H locs → lv_has ls 4 [(0, .ref (al 0)), (1, .int x1), (2, .int x2)] → W p l e rmX8_number s m ([.ref (al 0), .int a1, .int a2] : List Value).toArray below meth c H locs 0 0 (MQ below (twQi r nx D K al V' L0) ([.ref (al 0), .int a1, .int a2] : List Value).toArray s 0 0 (g_A al twSh)) (F0 m 20 ls []) := by
    intro x1 x2 V H locs ls h hW hl
    unfold tw_number_J20 at h
    refine lv_aload_n hx hb dX8_number_20 rfl (lv_at hl 0 rfl) ?_
    obtain ⟨x_7, h_5, h⟩ := bnd_some h
    refine g_callVi (As := []) (rest := []) S hW (metX8_good h_5) (cwX8_good S.2.2.2.2 q1658 ⟨Nat.le_of_ble_eq_true rfl, Nat.le_of_ble_eq_true rfl⟩) (k := 0) rfl rfl rfl hl.1 rfl (Nat.le_of_ble_eq_true rfl) dX8_number_21 ⟨Nat.le_refl _, Nat.le_refl _⟩ (fun H locs hW => ?_)
    refine lv_if_eq (tgt := 47) hx hb dX8_number_24 (by decide) (fun c_8 => ?_) (fun c_8 => ?_)
    · have h := if_t h c_8
      exact J47 V _ _ _ h hW (lv_sub hl [0] rfl)
    · have h := if_f h c_8
      refine lv_aload_n hx hb dX8_number_27 rfl (lv_at hl 0 rfl) ?_
      refine tw_int S hW 12 (by decide) rfl q1511 rfl dX8_number_28 ?_
      refine lv_i2l (v := (V 0 12).toInt64) hx hb dX8_number_31 rfl ?_
      refine lv_iload_n hx hb dX8_number_32 rfl (lv_at hl 1 rfl) ?_
      refine lv_i2l (v := x1.toInt64) hx hb dX8_number_33 rfl ?_
      refine lv_iload_n hx hb dX8_number_34 rfl (lv_at hl 2 rfl) ?_
      refine lv_i2l (v := x2.toInt64) hx hb dX8_number_35 rfl ?_
      obtain ⟨x_20, h_18, h⟩ := bnd_some h
      refine g_callSi (As := [.long ((V 0 12).toInt64), .long x1.toInt64, .long x2.toInt64]) (rest := []) S hW (metX8_in h_18) (cwX8_in S.2.2.2.2 q1625 ⟨Nat.le_of_ble_eq_true rfl, Nat.le_of_ble_eq_true rfl⟩) rfl hl.1 rfl (Nat.le_of_ble_eq_true rfl) dX8_number_36 ⟨Nat.le_refl _, Nat.le_refl _⟩ (fun H locs hW => ?_)
      refine lv_if_ne (tgt := 47) hx hb dX8_number_39 (by decide) (fun c_21 => ?_) (fun c_21 => ?_)
      · have h := if_f h c_21
        exact J47 V _ _ _ h hW (lv_sub hl [0] rfl)
      · have h := if_t h c_21
        refine lv_aload_n hx hb dX8_number_42 rfl (lv_at hl 0 rfl) ?_
        refine lv_iconst (v := 2) hx hb dX8_number_43 (by decide) ?_
        obtain ⟨V_24, h_22, h⟩ := bnd_some h
        refine g_callVv (As := [.int 2]) (rest := []) S hW (metX8_wrong h_22) (cwX8_wrong S.2.2.2.2 q1681 ⟨Nat.le_of_ble_eq_true rfl, Nat.le_of_ble_eq_true rfl⟩) (k := 0) rfl rfl rfl hl.1 rfl (Nat.le_of_ble_eq_true rfl) dX8_number_44 ⟨Nat.le_refl _, Nat.le_refl _⟩ (fun H locs hW => ?_)
        exact J47 V_24 _ _ _ h hW (lv_sub hl [0] rfl)
  unfold tw_number at h
  refine lv_aload_n hx hb dX8_number_0 rfl (lv_at hl 0 rfl) ?_
  obtain ⟨x_3, h_1, h⟩ := bnd_some h
  refine g_callVi (As := []) (rest := []) S hW (metX8_good h_1) (cwX8_good S.2.2.2.2 q1658 ⟨Nat.le_of_ble_eq_true rfl, Nat.le_of_ble_eq_true rfl⟩) (k := 0) rfl rfl rfl hl.1 rfl (Nat.le_of_ble_eq_true rfl) dX8_number_1 ⟨Nat.le_refl _, Nat.le_refl _⟩ (fun H locs hW => ?_)
  refine lv_if_eq (tgt := 20) hx hb dX8_number_4 (by decide) (fun c_4 => ?_) (fun c_4 => ?_)
  · have h := if_t h c_4
    exact J20 a1 a2 V0 _ _ _ h hW hl
  · have h := if_f h c_4
    refine lv_aload_n hx hb dX8_number_7 rfl (lv_at hl 0 rfl) ?_
    refine tw_int S hW 11 (by decide) rfl q1510 rfl dX8_number_8 ?_
    refine lv_iconst (v := 2) hx hb dX8_number_11 (by decide) ?_
    refine lv_icmp_eq (tgt := 20) hx hb dX8_number_12 (by decide) (fun c_25 => ?_) (fun c_25 => ?_)
    · have h := if_t h c_25
      exact J20 a1 a2 V0 _ _ _ h hW hl
    · have h := if_f h c_25
      refine lv_aload_n hx hb dX8_number_15 rfl (lv_at hl 0 rfl) ?_
      refine lv_iconst (v := 1) hx hb dX8_number_16 (by decide) ?_
      obtain ⟨V_28, h_26, h⟩ := bnd_some h
      refine g_callVv (As := [.int 1]) (rest := []) S hW (metX8_wrong h_26) (cwX8_wrong S.2.2.2.2 q1681 ⟨Nat.le_of_ble_eq_true rfl, Nat.le_of_ble_eq_true rfl⟩) (k := 0) rfl rfl rfl hl.1 rfl (Nat.le_of_ble_eq_true rfl) dX8_number_17 ⟨Nat.le_refl _, Nat.le_refl _⟩ (fun H locs hW => ?_)
      exact J20 a1 a2 V_28 _ _ _ h hW hl
theorem cwX8_number {R : Room} {s : State} {args : Array Value} {index : Nat} (hts : ∀ w ∈ lw_all, w.before args s = true) (hl : Cond.methodLink RX8 index yX8_number ∈ lw_all) (hR : rmX8_number.frames + 1 ≤ R.frames ∧ 8 + (4 + 11) + rmX8_number.locals ≤ R.locals) : CallW R s args RX8 RX8 index yX8_number cX8_number 4 (some .int) (ws_ yX8_number cX8_number 4 (some .int)) rmX8_number 0 0 2 := cwV 2 hts (lw_V hl q1696 qs62 q122 q1697) rfl rfl rfl (by decide +kernel) hR
def tw_needs (w : Nat) (V0 : g_V) : Option (g_V) :=
  bnd (tw_takes w V0) (un2 fun x_3 V_4 => if x_3 = 0 then (bnd (tw_wrong V_4 1) (fun V_8 => some V_8)) else (some V_4))
abbrev rmX8_needs : Room := rm_ 6 156
set_option maxHeartbeats 4000000 in
theorem metX8_needs {l : Launch} {gp : Nat → Nat} {nx : Nat} {D : va_G} {K : Nat → ClassId} {al : Nat → Nat} {w : Nat} {V0 : g_V} {L0 : g_L} {V' : g_V} (hw : w < 24) (h : tw_needs w V0 = some V') : Met l yX8_needs (ws_ yX8_needs cX8_needs 2 (none)) rmX8_needs (twPc gp nx [.ref (al 0), .ref (gp w)] D K al V0 L0) (twQv nx D K al V' L0) 0 0 (g_A al twSh) := by
  refine g_met rfl (Nat.le_of_ble_eq_true rfl) ?_
  intro p e s m below meth c ls S hr hlk hnm hl hW
  have S : CallFix p m c cX8_needs 2 s ([.ref (al 0), .ref (gp w)] : List Value).toArray lw_all RX8 := S
  have hx := S.1
  have hb := S.2.1
  have hl : lv_has ls 2 [(0, .ref (al 0)), (1, .ref (gp w))] := hl
  unfold tw_needs at h
  refine lv_aload_n hx hb dX8_needs_0 rfl (lv_at hl 0 rfl) ?_
  refine lv_aload_n hx hb dX8_needs_1 rfl (lv_at hl 1 rfl) ?_
  obtain ⟨x_3, V_4, h_1, h⟩ := bnd2_some h
  refine g_callVi (As := [.ref (gp w)]) (rest := []) S hW (metX8_takes hw h_1) (cwX8_takes S.2.2.2.2 q1685 ⟨Nat.le_of_ble_eq_true rfl, Nat.le_of_ble_eq_true rfl⟩) (k := 0) rfl rfl rfl hl.1 rfl (Nat.le_of_ble_eq_true rfl) dX8_needs_2 ⟨Nat.le_refl _, Nat.le_refl _⟩ (fun H locs hW => ?_)
  refine lv_if_ne (tgt := 13) hx hb dX8_needs_5 (by decide) (fun c_5 => ?_) (fun c_5 => ?_)
  · have h := if_f h c_5
    cases h
    exact g_vret S hr hlk hW dX8_needs_13
  · have h := if_t h c_5
    refine lv_aload_n hx hb dX8_needs_8 rfl (lv_at hl 0 rfl) ?_
    refine lv_iconst (v := 1) hx hb dX8_needs_9 (by decide) ?_
    obtain ⟨V_8, h_6, h⟩ := bnd_some h
    refine g_callVv (As := [.int 1]) (rest := []) S hW (metX8_wrong h_6) (cwX8_wrong S.2.2.2.2 q1681 ⟨Nat.le_of_ble_eq_true rfl, Nat.le_of_ble_eq_true rfl⟩) (k := 0) rfl rfl rfl hl.1 rfl (Nat.le_of_ble_eq_true rfl) dX8_needs_10 ⟨Nat.le_refl _, Nat.le_refl _⟩ (fun H locs hW => ?_)
    cases h
    exact g_vret S hr hlk hW dX8_needs_13
theorem cwX8_needs {R : Room} {s : State} {args : Array Value} {index : Nat} (hts : ∀ w ∈ lw_all, w.before args s = true) (hl : Cond.methodLink RX8 index yX8_needs ∈ lw_all) (hR : rmX8_needs.frames + 1 ≤ R.frames ∧ 8 + (2 + 11) + rmX8_needs.locals ≤ R.locals) : CallW R s args RX8 RX8 index yX8_needs cX8_needs 2 (none) (ws_ yX8_needs cX8_needs 2 (none)) rmX8_needs 0 0 1 := cwV 1 hts (lw_V hl q1705 qs64 q122 q1706) rfl rfl rfl (by decide +kernel) hR
def tw_below_J20 (w : Nat) (x2 : Int32) (x3 : Int32) (V : g_V) : Option (Int32 × g_V) :=
  if x3 = 0 then (bnd (tw_number V 0 0) (un2 fun x_11 V_12 => some (x_11, V_12))) else (bnd (tw_number V 0 (-x2)) (un2 fun x_15 V_16 => some (-x_15, V_16)))
def tw_below (w : Nat) (V0 : g_V) (a2 : Int32) : Option (Int32 × g_V) :=
  bnd (tw_needs w V0) (fun V_3 => bnd (tw_isSign V_3 45) (fun x_6 => if x_6 = 0 then (tw_below_J20 w a2 x_6 V_3) else (bnd (tw_step V_3) (fun V_19 => tw_below_J20 w a2 x_6 V_19))))
abbrev rmX8_below : Room := rm_ 7 177
set_option maxHeartbeats 4000000 in
theorem metX8_below {l : Launch} {gp : Nat → Nat} {nx : Nat} {D : va_G} {K : Nat → ClassId} {al : Nat → Nat} {w : Nat} {V0 : g_V} {L0 : g_L} {a2 : Int32} {r : Int32} {V' : g_V} (hw : w < 24) (h : tw_below w V0 a2 = some (r, V')) : Met l yX8_below (ws_ yX8_below cX8_below 4 (some .int)) rmX8_below (twPc gp nx [.ref (al 0), .ref (gp w), .int a2] D K al V0 L0) (twQi r nx D K al V' L0) 0 0 (g_A al twSh) := by
  refine g_met rfl (Nat.le_of_ble_eq_true rfl) ?_
  intro p e s m below meth c ls S hr hlk hnm hl hW
  have S : CallFix p m c cX8_below 4 s ([.ref (al 0), .ref (gp w), .int a2] : List Value).toArray lw_all RX8 := S
  have hx := S.1
  have hb := S.2.1
  have hl : lv_has ls 4 [(0, .ref (al 0)), (1, .ref (gp w)), (2, .int a2)] := hl
  have J20 : ∀ (x2 : Int32) (x3 : Int32) (V : g_V) (H : Heap) (locs : List Loc) (ls : Array Slot), tw_below_J20 w x2 x3 V = some (r, V') → twW gp nx D K al s V L0 H locs → lv_has ls 4 [(0, .ref (al 0)), (2, .int x2), (3, .int x3)] → W p l e rmX8_below s m ([.ref (al 0), .ref (gp w), .int a2] : List Value).toArray below meth c H locs 0 0 (MQ below (twQi r nx D K al V' L0) ([.ref (al 0), .ref (gp w), .int a2] : List Value).toArray s 0 0 (g_A al twSh)) (F0 m 20 ls []) := by
    intro x2 x3 V H locs ls h hW hl
    unfold tw_below_J20 at h
    refine lv_iload_n hx hb dX8_below_20 rfl (lv_at hl 2 rfl) ?_
    refine lv_if_eq (tgt := 35) hx hb dX8_below_21 (by decide) (fun c_8 => ?_) (fun c_8 => ?_)
    · have h := if_t h c_8
      refine lv_aload_n hx hb dX8_below_35 rfl (lv_at hl 0 rfl) ?_
      refine lv_iconst (v := 0) hx hb dX8_below_36 (by decide) ?_
      refine lv_iconst (v := 0) hx hb dX8_below_37 (by decide) ?_
      obtain ⟨x_11, V_12, h_9, h⟩ := bnd2_some h
      refine g_callVi (As := [.int 0, .int 0]) (rest := []) S hW (metX8_number h_9) (cwX8_number S.2.2.2.2 q1694 ⟨Nat.le_of_ble_eq_true rfl, Nat.le_of_ble_eq_true rfl⟩) (k := 0) rfl rfl rfl hl.1 rfl (Nat.le_of_ble_eq_true rfl) dX8_below_38 ⟨Nat.le_refl _, Nat.le_refl _⟩ (fun H locs hW => ?_)
      cases h
      exact g_iret S hr hlk hW dX8_below_41
    · have h := if_f h c_8
      refine lv_aload_n hx hb dX8_below_24 rfl (lv_at hl 0 rfl) ?_
      refine lv_iconst (v := 0) hx hb dX8_below_25 (by decide) ?_
      refine lv_iload_n hx hb dX8_below_26 rfl (lv_at hl 1 rfl) ?_
      refine lv_ineg hx hb dX8_below_27 ?_
      obtain ⟨x_15, V_16, h_13, h⟩ := bnd2_some h
      refine g_callVi (As := [.int 0, .int (-x2)]) (rest := []) S hW (metX8_number h_13) (cwX8_number S.2.2.2.2 q1694 ⟨Nat.le_of_ble_eq_true rfl, Nat.le_of_ble_eq_true rfl⟩) (k := 0) rfl rfl rfl hl.1 rfl (Nat.le_of_ble_eq_true rfl) dX8_below_28 ⟨Nat.le_refl _, Nat.le_refl _⟩ (fun H locs hW => ?_)
      refine lv_ineg hx hb dX8_below_31 ?_
      refine lv_goto (tgt := 41) hx hb dX8_below_32 (by decide) ?_
      cases h
      exact g_iret S hr hlk hW dX8_below_41
  unfold tw_below at h
  refine lv_aload_n hx hb dX8_below_0 rfl (lv_at hl 0 rfl) ?_
  refine lv_aload_n hx hb dX8_below_1 rfl (lv_at hl 1 rfl) ?_
  obtain ⟨V_3, h_1, h⟩ := bnd_some h
  refine g_callVv (As := [.ref (gp w)]) (rest := []) S hW (metX8_needs hw h_1) (cwX8_needs S.2.2.2.2 q1703 ⟨Nat.le_of_ble_eq_true rfl, Nat.le_of_ble_eq_true rfl⟩) (k := 0) rfl rfl rfl hl.1 rfl (Nat.le_of_ble_eq_true rfl) dX8_below_2 ⟨Nat.le_refl _, Nat.le_refl _⟩ (fun H locs hW => ?_)
  refine lv_aload_n hx hb dX8_below_5 rfl (lv_at hl 0 rfl) ?_
  refine lv_bipush (v := 45) hx hb dX8_below_6 (by decide) ?_
  obtain ⟨x_6, h_4, h⟩ := bnd_some h
  refine g_callVi (As := [.int 45]) (rest := []) S hW (metX8_isSign h_4) (cwX8_isSign S.2.2.2.2 q1714 ⟨Nat.le_of_ble_eq_true rfl, Nat.le_of_ble_eq_true rfl⟩) (k := 0) rfl rfl rfl hl.1 rfl (Nat.le_of_ble_eq_true rfl) dX8_below_8 ⟨Nat.le_refl _, Nat.le_refl _⟩ (fun H locs hW => ?_)
  refine lv_istore_n (lv' := [(3, .int x_6), (0, .ref (al 0)), (1, .ref (gp w)), (2, .int a2)]) hx hb dX8_below_11 rfl hl (by decide) rfl (fun ls hl => ?_)
  refine lv_iload_n hx hb dX8_below_12 rfl (lv_at hl 0 rfl) ?_
  refine lv_if_eq (tgt := 20) hx hb dX8_below_13 (by decide) (fun c_7 => ?_) (fun c_7 => ?_)
  · have h := if_t h c_7
    exact J20 a2 x_6 V_3 _ _ _ h hW (lv_sub hl [1, 3, 0] rfl)
  · have h := if_f h c_7
    refine lv_aload_n hx hb dX8_below_16 rfl (lv_at hl 1 rfl) ?_
    obtain ⟨V_19, h_17, h⟩ := bnd_some h
    refine g_callVv (As := []) (rest := []) S hW (metX8_step h_17) (cwX8_step S.2.2.2.2 q1644 ⟨Nat.le_of_ble_eq_true rfl, Nat.le_of_ble_eq_true rfl⟩) (k := 0) rfl rfl rfl hl.1 rfl (Nat.le_of_ble_eq_true rfl) dX8_below_17 ⟨Nat.le_refl _, Nat.le_refl _⟩ (fun H locs hW => ?_)
    exact J20 a2 x_6 V_19 _ _ _ h hW (lv_sub hl [1, 3, 0] rfl)
theorem cwX8_below {R : Room} {s : State} {args : Array Value} {index : Nat} (hts : ∀ w ∈ lw_all, w.before args s = true) (hl : Cond.methodLink RX8 index yX8_below ∈ lw_all) (hR : rmX8_below.frames + 1 ≤ R.frames ∧ 8 + (4 + 11) + rmX8_below.locals ≤ R.locals) : CallW R s args RX8 RX8 index yX8_below cX8_below 4 (some .int) (ws_ yX8_below cX8_below 4 (some .int)) rmX8_below 0 0 2 := cwV 2 hts (lw_V hl q1712 qs65 q122 q1713) rfl rfl rfl (by decide +kernel) hR
def tw_readBox (V0 : g_V) (a1 : Int32) (a2 : Int32) : Option (g_V) :=
  bnd (tw_number V0 a1 a2) (un2 fun x_3 V_4 => ptI V_4 0 20 x_3 fun V_5 => bnd (tw_number V_5 a1 a2) (un2 fun x_9 V_10 => ptI V_10 0 21 x_9 fun V_11 => bnd (tw_needs 17 V_11) (fun V_15 => bnd (tw_number V_15 (V_15 0 20) a2) (un2 fun x_18 V_19 => ptI V_19 0 22 x_18 fun V_20 => bnd (tw_number V_20 (V_20 0 21) a2) (un2 fun x_24 V_25 => ptI V_25 0 23 x_24 fun V_26 => some V_26)))))
abbrev rmX8_readBox : Room := rm_ 7 177
set_option maxHeartbeats 4000000 in
theorem metX8_readBox {l : Launch} {gp : Nat → Nat} {nx : Nat} {D : va_G} {K : Nat → ClassId} {al : Nat → Nat} {V0 : g_V} {L0 : g_L} {a1 : Int32} {a2 : Int32} {V' : g_V} (h : tw_readBox V0 a1 a2 = some V') : Met l yX8_readBox (ws_ yX8_readBox cX8_readBox 3 (none)) rmX8_readBox (twPc gp nx [.ref (al 0), .int a1, .int a2] D K al V0 L0) (twQv nx D K al V' L0) 0 0 (g_A al twSh) := by
  refine g_met rfl (Nat.le_of_ble_eq_true rfl) ?_
  intro p e s m below meth c ls S hr hlk hnm hl hW
  have S : CallFix p m c cX8_readBox 3 s ([.ref (al 0), .int a1, .int a2] : List Value).toArray lw_all RX8 := S
  have hx := S.1
  have hb := S.2.1
  have hl : lv_has ls 3 [(0, .ref (al 0)), (1, .int a1), (2, .int a2)] := hl
  unfold tw_readBox at h
  refine lv_aload_n hx hb dX8_readBox_0 rfl (lv_at hl 0 rfl) ?_
  refine lv_aload_n hx hb dX8_readBox_1 rfl (lv_at hl 0 rfl) ?_
  refine lv_iload_n hx hb dX8_readBox_2 rfl (lv_at hl 1 rfl) ?_
  refine lv_iload_n hx hb dX8_readBox_3 rfl (lv_at hl 2 rfl) ?_
  obtain ⟨x_3, V_4, h_1, h⟩ := bnd2_some h
  refine g_callVi (As := [.int a1, .int a2]) (rest := [.ref (al 0)]) S hW (metX8_number h_1) (cwX8_number S.2.2.2.2 q1694 ⟨Nat.le_of_ble_eq_true rfl, Nat.le_of_ble_eq_true rfl⟩) (k := 0) rfl rfl rfl hl.1 rfl (Nat.le_of_ble_eq_true rfl) dX8_readBox_4 ⟨Nat.le_refl _, Nat.le_refl _⟩ (fun H locs hW => ?_)
  obtain ⟨V_5, e_6, h⟩ := ptI_some h
  refine tw_puti S hW 20 (by decide) rfl rfl rfl rfl rfl q1519 e_6 dX8_readBox_7 (fun H locs hW => ?_)
  refine lv_aload_n hx hb dX8_readBox_10 rfl (lv_at hl 0 rfl) ?_
  refine lv_aload_n hx hb dX8_readBox_11 rfl (lv_at hl 0 rfl) ?_
  refine lv_iload_n hx hb dX8_readBox_12 rfl (lv_at hl 1 rfl) ?_
  refine lv_iload_n hx hb dX8_readBox_13 rfl (lv_at hl 2 rfl) ?_
  obtain ⟨x_9, V_10, h_7, h⟩ := bnd2_some h
  refine g_callVi (As := [.int a1, .int a2]) (rest := [.ref (al 0)]) S hW (metX8_number h_7) (cwX8_number S.2.2.2.2 q1694 ⟨Nat.le_of_ble_eq_true rfl, Nat.le_of_ble_eq_true rfl⟩) (k := 0) rfl rfl rfl hl.1 rfl (Nat.le_of_ble_eq_true rfl) dX8_readBox_14 ⟨Nat.le_refl _, Nat.le_refl _⟩ (fun H locs hW => ?_)
  obtain ⟨V_11, e_12, h⟩ := ptI_some h
  refine tw_puti S hW 21 (by decide) rfl rfl rfl rfl rfl q1520 e_12 dX8_readBox_17 (fun H locs hW => ?_)
  refine lv_aload_n hx hb dX8_readBox_20 rfl (lv_at hl 0 rfl) ?_
  refine g_ldcS (w := 17) (tx := "to") S hW (List.mem_of_getElem? (i := 28) rfl) dX8_readBox_21 ?_
  obtain ⟨V_15, h_13, h⟩ := bnd_some h
  refine g_callVv (As := [.ref (gp 17)]) (rest := []) S hW (metX8_needs (by decide) h_13) (cwX8_needs S.2.2.2.2 q1703 ⟨Nat.le_of_ble_eq_true rfl, Nat.le_of_ble_eq_true rfl⟩) (k := 0) rfl rfl rfl hl.1 rfl (Nat.le_of_ble_eq_true rfl) dX8_readBox_23 ⟨Nat.le_refl _, Nat.le_refl _⟩ (fun H locs hW => ?_)
  refine lv_aload_n hx hb dX8_readBox_26 rfl (lv_at hl 0 rfl) ?_
  refine lv_aload_n hx hb dX8_readBox_27 rfl (lv_at hl 0 rfl) ?_
  refine lv_aload_n hx hb dX8_readBox_28 rfl (lv_at hl 0 rfl) ?_
  refine tw_int S hW 20 (by decide) rfl q1519 rfl dX8_readBox_29 ?_
  refine lv_iload_n hx hb dX8_readBox_32 rfl (lv_at hl 2 rfl) ?_
  obtain ⟨x_18, V_19, h_16, h⟩ := bnd2_some h
  refine g_callVi (As := [.int (V_15 0 20), .int a2]) (rest := [.ref (al 0)]) S hW (metX8_number h_16) (cwX8_number S.2.2.2.2 q1694 ⟨Nat.le_of_ble_eq_true rfl, Nat.le_of_ble_eq_true rfl⟩) (k := 0) rfl rfl rfl hl.1 rfl (Nat.le_of_ble_eq_true rfl) dX8_readBox_33 ⟨Nat.le_refl _, Nat.le_refl _⟩ (fun H locs hW => ?_)
  obtain ⟨V_20, e_21, h⟩ := ptI_some h
  refine tw_puti S hW 22 (by decide) rfl rfl rfl rfl rfl q1521 e_21 dX8_readBox_36 (fun H locs hW => ?_)
  refine lv_aload_n hx hb dX8_readBox_39 rfl (lv_at hl 0 rfl) ?_
  refine lv_aload_n hx hb dX8_readBox_40 rfl (lv_at hl 0 rfl) ?_
  refine lv_aload_n hx hb dX8_readBox_41 rfl (lv_at hl 0 rfl) ?_
  refine tw_int S hW 21 (by decide) rfl q1520 rfl dX8_readBox_42 ?_
  refine lv_iload_n hx hb dX8_readBox_45 rfl (lv_at hl 2 rfl) ?_
  obtain ⟨x_24, V_25, h_22, h⟩ := bnd2_some h
  refine g_callVi (As := [.int (V_20 0 21), .int a2]) (rest := [.ref (al 0)]) S hW (metX8_number h_22) (cwX8_number S.2.2.2.2 q1694 ⟨Nat.le_of_ble_eq_true rfl, Nat.le_of_ble_eq_true rfl⟩) (k := 0) rfl rfl rfl hl.1 rfl (Nat.le_of_ble_eq_true rfl) dX8_readBox_46 ⟨Nat.le_refl _, Nat.le_refl _⟩ (fun H locs hW => ?_)
  obtain ⟨V_26, e_27, h⟩ := ptI_some h
  refine tw_puti S hW 23 (by decide) rfl rfl rfl rfl rfl q1522 e_27 dX8_readBox_49 (fun H locs hW => ?_)
  cases h
  exact g_vret S hr hlk hW dX8_readBox_52
theorem cwX8_readBox {R : Room} {s : State} {args : Array Value} {index : Nat} (hts : ∀ w ∈ lw_all, w.before args s = true) (hl : Cond.methodLink RX8 index yX8_readBox ∈ lw_all) (hR : rmX8_readBox.frames + 1 ≤ R.frames ∧ 8 + (3 + 11) + rmX8_readBox.locals ≤ R.locals) : CallW R s args RX8 RX8 index yX8_readBox cX8_readBox 3 (none) (ws_ yX8_readBox cX8_readBox 3 (none)) rmX8_readBox 0 0 2 := cwV 2 hts (lw_V hl q1724 qs68 q122 q1725) rfl rfl rfl (by decide +kernel) hR
def tw_readCond_J92 (x1 : Int32) (x3 : Int32) (V : g_V) : Option (g_V) :=
  bnd (tw_good V) (fun x_37 => if x_37 = 0 then (some V) else (wrI V 15 810 (x3 + 1) (V 0 12) fun V_41 => bnd (tw_step V_41) (fun V_44 => bnd (tw_number V_44 0 99999) (un2 fun x_47 V_48 => wrI V_48 15 810 (x3 + 2) x_47 fun V_51 => rdI (V_51 15) 810 x1 fun x_52 => wrI V_51 15 810 x1 (x_52 + 1) fun V_57 => some V_57))))
def tw_readCond_J33 (x1 : Int32) (x2 : Int32) (V : g_V) : Option (g_V) :=
  bnd (tw_good V) (fun x_11 => if x_11 = 0 then (some V) else (bnd (tw_step V) (fun V_15 => rdI (V_15 15) 810 x1 fun x_16 => nmI ((x1 + 1) + (3 * x_16)) fun x_19 => wrI V_15 15 810 x_19 x2 fun V_23 => if x2 ≤ 0 then (rdI (V_23 15) 810 x1 fun x_25 => wrI V_23 15 810 x1 (x_25 + 1) fun V_30 => some V_30) else (bnd (tw_isSign V_23 60) (fun x_33 => if x_33 = 0 then (bnd (tw_isSign V_23 62) (fun x_60 => if x_60 = 0 then (bnd (tw_wrong V_23 1) (fun V_64 => tw_readCond_J92 x1 x_19 V_64)) else (tw_readCond_J92 x1 x_19 V_23))) else (tw_readCond_J92 x1 x_19 V_23))))))
def tw_readCond (V0 : g_V) (a1 : Int32) : Option (g_V) :=
  bnd (tw_wordHere V0) (fun x_3 => if x_3 = (-1) then (bnd (tw_wrong V0 1) (fun V_70 => tw_readCond_J33 a1 x_3 V_70)) else (rdI (V0 15) 810 a1 fun x_5 => if x_5 = 3 then (bnd (tw_wrong V0 3) (fun V_67 => tw_readCond_J33 a1 x_3 V_67)) else (tw_readCond_J33 a1 x_3 V0)))
abbrev rmX8_readCond : Room := rm_ 6 154
set_option maxHeartbeats 4000000 in
theorem metX8_readCond {l : Launch} {gp : Nat → Nat} {nx : Nat} {D : va_G} {K : Nat → ClassId} {al : Nat → Nat} {V0 : g_V} {L0 : g_L} {a1 : Int32} {V' : g_V} (h : tw_readCond V0 a1 = some V') : Met l yX8_readCond (ws_ yX8_readCond cX8_readCond 4 (none)) rmX8_readCond (twPc gp nx [.ref (al 0), .int a1] D K al V0 L0) (twQv nx D K al V' L0) 0 0 (g_A al twSh) := by
  refine g_met rfl (Nat.le_of_ble_eq_true rfl) ?_
  intro p e s m below meth c ls S hr hlk hnm hl hW
  have S : CallFix p m c cX8_readCond 4 s ([.ref (al 0), .int a1] : List Value).toArray lw_all RX8 := S
  have hx := S.1
  have hb := S.2.1
  have hl : lv_has ls 4 [(0, .ref (al 0)), (1, .int a1)] := hl
  have J92 : ∀ (x1 : Int32) (x3 : Int32) (V : g_V) (H : Heap) (locs : List Loc) (ls : Array Slot), tw_readCond_J92 x1 x3 V = some V' → twW gp nx D K al s V L0 H locs → lv_has ls 4 [(0, .ref (al 0)), (1, .int x1), (3, .int x3)] → W p l e rmX8_readCond s m ([.ref (al 0), .int a1] : List Value).toArray below meth c H locs 0 0 (MQ below (twQv nx D K al V' L0) ([.ref (al 0), .int a1] : List Value).toArray s 0 0 (g_A al twSh)) (F0 m 92 ls []) := by
    intro x1 x3 V H locs ls h hW hl
    unfold tw_readCond_J92 at h
    refine lv_aload_n hx hb dX8_readCond_92 rfl (lv_at hl 0 rfl) ?_
    obtain ⟨x_37, h_35, h⟩ := bnd_some h
    refine g_callVi (As := []) (rest := []) S hW (metX8_good h_35) (cwX8_good S.2.2.2.2 q1658 ⟨Nat.le_of_ble_eq_true rfl, Nat.le_of_ble_eq_true rfl⟩) (k := 0) rfl rfl rfl hl.1 rfl (Nat.le_of_ble_eq_true rfl) dX8_readCond_93 ⟨Nat.le_refl _, Nat.le_refl _⟩ (fun H locs hW => ?_)
    refine lv_if_ne (tgt := 100) hx hb dX8_readCond_96 (by decide) (fun c_38 => ?_) (fun c_38 => ?_)
    · have h := if_f h c_38
      refine lv_aload_n hx hb dX8_readCond_100 rfl (lv_at hl 0 rfl) ?_
      refine tw_ref S hW 15 15 (by decide) rfl q1514 rfl dX8_readCond_101 ?_
      refine lv_iload_n hx hb dX8_readCond_104 rfl (lv_at hl 2 rfl) ?_
      refine lv_iconst (v := 1) hx hb dX8_readCond_105 (by decide) ?_
      refine lv_iadd hx hb dX8_readCond_106 ?_
      refine lv_aload_n hx hb dX8_readCond_107 rfl (lv_at hl 0 rfl) ?_
      refine tw_int S hW 12 (by decide) rfl q1511 rfl dX8_readCond_108 ?_
      obtain ⟨h_39, V_41, e_40, h⟩ := wrI_some h
      refine g_iast S hW (k := 15) rfl rfl h_39 e_40 dX8_readCond_111 (fun H locs hW => ?_)
      refine lv_aload_n hx hb dX8_readCond_112 rfl (lv_at hl 0 rfl) ?_
      obtain ⟨V_44, h_42, h⟩ := bnd_some h
      refine g_callVv (As := []) (rest := []) S hW (metX8_step h_42) (cwX8_step S.2.2.2.2 q1644 ⟨Nat.le_of_ble_eq_true rfl, Nat.le_of_ble_eq_true rfl⟩) (k := 0) rfl rfl rfl hl.1 rfl (Nat.le_of_ble_eq_true rfl) dX8_readCond_113 ⟨Nat.le_refl _, Nat.le_refl _⟩ (fun H locs hW => ?_)
      refine lv_aload_n hx hb dX8_readCond_116 rfl (lv_at hl 0 rfl) ?_
      refine tw_ref S hW 15 15 (by decide) rfl q1514 rfl dX8_readCond_117 ?_
      refine lv_iload_n hx hb dX8_readCond_120 rfl (lv_at hl 2 rfl) ?_
      refine lv_iconst (v := 2) hx hb dX8_readCond_121 (by decide) ?_
      refine lv_iadd hx hb dX8_readCond_122 ?_
      refine lv_aload_n hx hb dX8_readCond_123 rfl (lv_at hl 0 rfl) ?_
      refine lv_iconst (v := 0) hx hb dX8_readCond_124 (by decide) ?_
      refine lv_ldc (v := 99999) hx hb S.2.2.2.1 (S.2.2.2.2 _ q1488) dX8_readCond_125 ?_
      obtain ⟨x_47, V_48, h_45, h⟩ := bnd2_some h
      refine g_callVi (As := [.int 0, .int 99999]) (rest := [.int (x3 + 2), .ref (al 15)]) S hW (metX8_number h_45) (cwX8_number S.2.2.2.2 q1694 ⟨Nat.le_of_ble_eq_true rfl, Nat.le_of_ble_eq_true rfl⟩) (k := 0) rfl rfl rfl hl.1 rfl (Nat.le_of_ble_eq_true rfl) dX8_readCond_127 ⟨Nat.le_refl _, Nat.le_refl _⟩ (fun H locs hW => ?_)
      obtain ⟨h_49, V_51, e_50, h⟩ := wrI_some h
      refine g_iast S hW (k := 15) rfl rfl h_49 e_50 dX8_readCond_130 (fun H locs hW => ?_)
      refine lv_aload_n hx hb dX8_readCond_131 rfl (lv_at hl 0 rfl) ?_
      refine tw_ref S hW 15 15 (by decide) rfl q1514 rfl dX8_readCond_132 ?_
      refine lv_iload_n hx hb dX8_readCond_135 rfl (lv_at hl 1 rfl) ?_
      refine lv_dup2_11 hx hb dX8_readCond_136 rfl rfl ?_
      obtain ⟨h_53, x_52, e_54, h⟩ := rdI_some h
      refine g_iald S hW (k := 15) rfl rfl h_53 e_54 dX8_readCond_137 ?_
      refine lv_iconst (v := 1) hx hb dX8_readCond_138 (by decide) ?_
      refine lv_iadd hx hb dX8_readCond_139 ?_
      obtain ⟨h_55, V_57, e_56, h⟩ := wrI_some h
      refine g_iast S hW (k := 15) rfl rfl h_55 e_56 dX8_readCond_140 (fun H locs hW => ?_)
      cases h
      exact g_vret S hr hlk hW dX8_readCond_141
    · have h := if_t h c_38
      cases h
      exact g_vret S hr hlk hW dX8_readCond_99
  have J33 : ∀ (x1 : Int32) (x2 : Int32) (V : g_V) (H : Heap) (locs : List Loc) (ls : Array Slot), tw_readCond_J33 x1 x2 V = some V' → twW gp nx D K al s V L0 H locs → lv_has ls 4 [(0, .ref (al 0)), (1, .int x1), (2, .int x2)] → W p l e rmX8_readCond s m ([.ref (al 0), .int a1] : List Value).toArray below meth c H locs 0 0 (MQ below (twQv nx D K al V' L0) ([.ref (al 0), .int a1] : List Value).toArray s 0 0 (g_A al twSh)) (F0 m 33 ls []) := by
    intro x1 x2 V H locs ls h hW hl
    unfold tw_readCond_J33 at h
    refine lv_aload_n hx hb dX8_readCond_33 rfl (lv_at hl 0 rfl) ?_
    obtain ⟨x_11, h_9, h⟩ := bnd_some h
    refine g_callVi (As := []) (rest := []) S hW (metX8_good h_9) (cwX8_good S.2.2.2.2 q1658 ⟨Nat.le_of_ble_eq_true rfl, Nat.le_of_ble_eq_true rfl⟩) (k := 0) rfl rfl rfl hl.1 rfl (Nat.le_of_ble_eq_true rfl) dX8_readCond_34 ⟨Nat.le_refl _, Nat.le_refl _⟩ (fun H locs hW => ?_)
    refine lv_if_ne (tgt := 41) hx hb dX8_readCond_37 (by decide) (fun c_12 => ?_) (fun c_12 => ?_)
    · have h := if_f h c_12
      refine lv_aload_n hx hb dX8_readCond_41 rfl (lv_at hl 0 rfl) ?_
      obtain ⟨V_15, h_13, h⟩ := bnd_some h
      refine g_callVv (As := []) (rest := []) S hW (metX8_step h_13) (cwX8_step S.2.2.2.2 q1644 ⟨Nat.le_of_ble_eq_true rfl, Nat.le_of_ble_eq_true rfl⟩) (k := 0) rfl rfl rfl hl.1 rfl (Nat.le_of_ble_eq_true rfl) dX8_readCond_42 ⟨Nat.le_refl _, Nat.le_refl _⟩ (fun H locs hW => ?_)
      refine lv_iload_n hx hb dX8_readCond_45 rfl (lv_at hl 1 rfl) ?_
      refine lv_iconst (v := 1) hx hb dX8_readCond_46 (by decide) ?_
      refine lv_iadd hx hb dX8_readCond_47 ?_
      refine lv_iconst (v := 3) hx hb dX8_readCond_48 (by decide) ?_
      refine lv_aload_n hx hb dX8_readCond_49 rfl (lv_at hl 0 rfl) ?_
      refine tw_ref S hW 15 15 (by decide) rfl q1514 rfl dX8_readCond_50 ?_
      refine lv_iload_n hx hb dX8_readCond_53 rfl (lv_at hl 1 rfl) ?_
      obtain ⟨h_17, x_16, e_18, h⟩ := rdI_some h
      refine g_iald S hW (k := 15) rfl rfl h_17 e_18 dX8_readCond_54 ?_
      refine lv_imul hx hb dX8_readCond_55 ?_
      refine lv_iadd hx hb dX8_readCond_56 ?_
      obtain ⟨x_19, e_20, h⟩ := nmI_some h
      refine g_nmi e_20 ?_
      refine lv_istore_n (lv' := [(3, .int x_19), (0, .ref (al 0)), (1, .int x1), (2, .int x2)]) hx hb dX8_readCond_57 rfl hl (by decide) rfl (fun ls hl => ?_)
      refine lv_aload_n hx hb dX8_readCond_58 rfl (lv_at hl 1 rfl) ?_
      refine tw_ref S hW 15 15 (by decide) rfl q1514 rfl dX8_readCond_59 ?_
      refine lv_iload_n hx hb dX8_readCond_62 rfl (lv_at hl 0 rfl) ?_
      refine lv_iload_n hx hb dX8_readCond_63 rfl (lv_at hl 3 rfl) ?_
      obtain ⟨h_21, V_23, e_22, h⟩ := wrI_some h
      refine g_iast S hW (k := 15) rfl rfl h_21 e_22 dX8_readCond_64 (fun H locs hW => ?_)
      refine lv_iload_n hx hb dX8_readCond_65 rfl (lv_at hl 3 rfl) ?_
      refine lv_if_le (tgt := 131) hx hb dX8_readCond_66 (by decide) (fun c_24 => ?_) (fun c_24 => ?_)
      · have h := if_t h c_24
        refine lv_aload_n hx hb dX8_readCond_131 rfl (lv_at hl 1 rfl) ?_
        refine tw_ref S hW 15 15 (by decide) rfl q1514 rfl dX8_readCond_132 ?_
        refine lv_iload_n hx hb dX8_readCond_135 rfl (lv_at hl 2 rfl) ?_
        refine lv_dup2_11 hx hb dX8_readCond_136 rfl rfl ?_
        obtain ⟨h_26, x_25, e_27, h⟩ := rdI_some h
        refine g_iald S hW (k := 15) rfl rfl h_26 e_27 dX8_readCond_137 ?_
        refine lv_iconst (v := 1) hx hb dX8_readCond_138 (by decide) ?_
        refine lv_iadd hx hb dX8_readCond_139 ?_
        obtain ⟨h_28, V_30, e_29, h⟩ := wrI_some h
        refine g_iast S hW (k := 15) rfl rfl h_28 e_29 dX8_readCond_140 (fun H locs hW => ?_)
        cases h
        exact g_vret S hr hlk hW dX8_readCond_141
      · have h := if_f h c_24
        refine lv_aload_n hx hb dX8_readCond_69 rfl (lv_at hl 1 rfl) ?_
        refine lv_bipush (v := 60) hx hb dX8_readCond_70 (by decide) ?_
        obtain ⟨x_33, h_31, h⟩ := bnd_some h
        refine g_callVi (As := [.int 60]) (rest := []) S hW (metX8_isSign h_31) (cwX8_isSign S.2.2.2.2 q1714 ⟨Nat.le_of_ble_eq_true rfl, Nat.le_of_ble_eq_true rfl⟩) (k := 0) rfl rfl rfl hl.1 rfl (Nat.le_of_ble_eq_true rfl) dX8_readCond_72 ⟨Nat.le_refl _, Nat.le_refl _⟩ (fun H locs hW => ?_)
        refine lv_if_ne (tgt := 92) hx hb dX8_readCond_75 (by decide) (fun c_34 => ?_) (fun c_34 => ?_)
        · have h := if_f h c_34
          exact J92 x1 x_19 V_23 _ _ _ h hW (lv_sub hl [1, 2, 0] rfl)
        · have h := if_t h c_34
          refine lv_aload_n hx hb dX8_readCond_78 rfl (lv_at hl 1 rfl) ?_
          refine lv_bipush (v := 62) hx hb dX8_readCond_79 (by decide) ?_
          obtain ⟨x_60, h_58, h⟩ := bnd_some h
          refine g_callVi (As := [.int 62]) (rest := []) S hW (metX8_isSign h_58) (cwX8_isSign S.2.2.2.2 q1714 ⟨Nat.le_of_ble_eq_true rfl, Nat.le_of_ble_eq_true rfl⟩) (k := 0) rfl rfl rfl hl.1 rfl (Nat.le_of_ble_eq_true rfl) dX8_readCond_81 ⟨Nat.le_refl _, Nat.le_refl _⟩ (fun H locs hW => ?_)
          refine lv_if_ne (tgt := 92) hx hb dX8_readCond_84 (by decide) (fun c_61 => ?_) (fun c_61 => ?_)
          · have h := if_f h c_61
            exact J92 x1 x_19 V_23 _ _ _ h hW (lv_sub hl [1, 2, 0] rfl)
          · have h := if_t h c_61
            refine lv_aload_n hx hb dX8_readCond_87 rfl (lv_at hl 1 rfl) ?_
            refine lv_iconst (v := 1) hx hb dX8_readCond_88 (by decide) ?_
            obtain ⟨V_64, h_62, h⟩ := bnd_some h
            refine g_callVv (As := [.int 1]) (rest := []) S hW (metX8_wrong h_62) (cwX8_wrong S.2.2.2.2 q1681 ⟨Nat.le_of_ble_eq_true rfl, Nat.le_of_ble_eq_true rfl⟩) (k := 0) rfl rfl rfl hl.1 rfl (Nat.le_of_ble_eq_true rfl) dX8_readCond_89 ⟨Nat.le_refl _, Nat.le_refl _⟩ (fun H locs hW => ?_)
            exact J92 x1 x_19 V_64 _ _ _ h hW (lv_sub hl [1, 2, 0] rfl)
    · have h := if_t h c_12
      cases h
      exact g_vret S hr hlk hW dX8_readCond_40
  unfold tw_readCond at h
  refine lv_aload_n hx hb dX8_readCond_0 rfl (lv_at hl 0 rfl) ?_
  obtain ⟨x_3, h_1, h⟩ := bnd_some h
  refine g_callVi (As := []) (rest := []) S hW (metX8_wordHere h_1) (cwX8_wordHere S.2.2.2.2 q1747 ⟨Nat.le_of_ble_eq_true rfl, Nat.le_of_ble_eq_true rfl⟩) (k := 0) rfl rfl rfl hl.1 rfl (Nat.le_of_ble_eq_true rfl) dX8_readCond_1 ⟨Nat.le_refl _, Nat.le_refl _⟩ (fun H locs hW => ?_)
  refine lv_istore_n (lv' := [(2, .int x_3), (0, .ref (al 0)), (1, .int a1)]) hx hb dX8_readCond_4 rfl hl (by decide) rfl (fun ls hl => ?_)
  refine lv_iload_n hx hb dX8_readCond_5 rfl (lv_at hl 0 rfl) ?_
  refine lv_iconst (v := (-1)) hx hb dX8_readCond_6 (by decide) ?_
  refine lv_icmp_ne (tgt := 18) hx hb dX8_readCond_7 (by decide) (fun c_4 => ?_) (fun c_4 => ?_)
  · have h := if_f h c_4
    refine lv_aload_n hx hb dX8_readCond_18 rfl (lv_at hl 1 rfl) ?_
    refine tw_ref S hW 15 15 (by decide) rfl q1514 rfl dX8_readCond_19 ?_
    refine lv_iload_n hx hb dX8_readCond_22 rfl (lv_at hl 2 rfl) ?_
    obtain ⟨h_6, x_5, e_7, h⟩ := rdI_some h
    refine g_iald S hW (k := 15) rfl rfl h_6 e_7 dX8_readCond_23 ?_
    refine lv_iconst (v := 3) hx hb dX8_readCond_24 (by decide) ?_
    refine lv_icmp_ne (tgt := 33) hx hb dX8_readCond_25 (by decide) (fun c_8 => ?_) (fun c_8 => ?_)
    · have h := if_f h c_8
      exact J33 a1 x_3 V0 _ _ _ h hW (lv_sub hl [1, 2, 0] rfl)
    · have h := if_t h c_8
      refine lv_aload_n hx hb dX8_readCond_28 rfl (lv_at hl 1 rfl) ?_
      refine lv_iconst (v := 3) hx hb dX8_readCond_29 (by decide) ?_
      obtain ⟨V_67, h_65, h⟩ := bnd_some h
      refine g_callVv (As := [.int 3]) (rest := []) S hW (metX8_wrong h_65) (cwX8_wrong S.2.2.2.2 q1681 ⟨Nat.le_of_ble_eq_true rfl, Nat.le_of_ble_eq_true rfl⟩) (k := 0) rfl rfl rfl hl.1 rfl (Nat.le_of_ble_eq_true rfl) dX8_readCond_30 ⟨Nat.le_refl _, Nat.le_refl _⟩ (fun H locs hW => ?_)
      exact J33 a1 x_3 V_67 _ _ _ h hW (lv_sub hl [1, 2, 0] rfl)
  · have h := if_t h c_4
    refine lv_aload_n hx hb dX8_readCond_10 rfl (lv_at hl 1 rfl) ?_
    refine lv_iconst (v := 1) hx hb dX8_readCond_11 (by decide) ?_
    obtain ⟨V_70, h_68, h⟩ := bnd_some h
    refine g_callVv (As := [.int 1]) (rest := []) S hW (metX8_wrong h_68) (cwX8_wrong S.2.2.2.2 q1681 ⟨Nat.le_of_ble_eq_true rfl, Nat.le_of_ble_eq_true rfl⟩) (k := 0) rfl rfl rfl hl.1 rfl (Nat.le_of_ble_eq_true rfl) dX8_readCond_12 ⟨Nat.le_refl _, Nat.le_refl _⟩ (fun H locs hW => ?_)
    refine lv_goto (tgt := 33) hx hb dX8_readCond_15 (by decide) ?_
    exact J33 a1 x_3 V_70 _ _ _ h hW (lv_sub hl [1, 2, 0] rfl)
theorem cwX8_readCond {R : Room} {s : State} {args : Array Value} {index : Nat} (hts : ∀ w ∈ lw_all, w.before args s = true) (hl : Cond.methodLink RX8 index yX8_readCond ∈ lw_all) (hR : rmX8_readCond.frames + 1 ≤ R.frames ∧ 8 + (4 + 11) + rmX8_readCond.locals ≤ R.locals) : CallW R s args RX8 RX8 index yX8_readCond cX8_readCond 4 (none) (ws_ yX8_readCond cX8_readCond 4 (none)) rmX8_readCond 0 0 1 := cwV 1 hts (lw_V hl q1745 qs72 q122 q1746) rfl rfl rfl (by decide +kernel) hR
def tw_beside_J47 (x2 : Int32) (z0 : Int32) (z1 : Int32) : Option (Int32) :=
  nmI (z0 + z1) fun x_7 => bnd (tw_isPlace x2 x_7) (fun x_11 => if x_11 = 0 then (some (-1)) else (some ((12 * x_7) + x2)))
def tw_beside_J22 (x0 : Int32) (x1 : Int32) (z0 : Int32) (z1 : Int32) : Option (Int32) :=
  nmI (z0 + z1) fun x_3 => if x1 = 2 then (tw_beside_J47 x_3 (x0 / 12) 1) else (if x1 = 3 then (tw_beside_J47 x_3 (x0 / 12) (-1)) else (tw_beside_J47 x_3 (x0 / 12) 0))
def tw_beside (a0 : Int32) (a1 : Int32) : Option (Int32) :=
  if a1 = 0 then (tw_beside_J22 a0 a1 (a0 - a0 / 12 * 12) 1) else (if a1 = 1 then (tw_beside_J22 a0 a1 (a0 - a0 / 12 * 12) (-1)) else (tw_beside_J22 a0 a1 (a0 - a0 / 12 * 12) 0))
abbrev rmX8_beside : Room := rm_ 2 46
set_option maxHeartbeats 4000000 in
theorem metX8_beside {l : Launch} {gp : Nat → Nat} {nx : Nat} {D : va_G} {K : Nat → ClassId} {al : Nat → Nat} {V0 : g_V} {L0 : g_L} {a0 : Int32} {a1 : Int32} {r : Int32} (h : tw_beside a0 a1 = some r) : Met l yX8_beside (ws_ yX8_beside cX8_beside 4 (some .int)) rmX8_beside (twPc gp nx [.int a0, .int a1] D K al V0 L0) (twQi r nx D K al V0 L0) 0 0 (g_A al twSh) := by
  refine g_met rfl (Nat.le_of_ble_eq_true rfl) ?_
  intro p e s m below meth c ls S hr hlk hnm hl hW
  have S : CallFix p m c cX8_beside 4 s ([.int a0, .int a1] : List Value).toArray lw_all RX8 := S
  have hx := S.1
  have hb := S.2.1
  have hl : lv_has ls 4 [(0, .int a0), (1, .int a1)] := hl
  have J47 : ∀ (x2 : Int32) (z0 : Int32) (z1 : Int32) (H : Heap) (locs : List Loc) (ls : Array Slot), tw_beside_J47 x2 z0 z1 = some r → twW gp nx D K al s V0 L0 H locs → lv_has ls 4 [(2, .int x2)] → W p l e rmX8_beside s m ([.int a0, .int a1] : List Value).toArray below meth c H locs 0 0 (MQ below (twQi r nx D K al V0 L0) ([.int a0, .int a1] : List Value).toArray s 0 0 (g_A al twSh)) (F0 m 47 ls [.int z1, .int z0]) := by
    intro x2 z0 z1 H locs ls h hW hl
    unfold tw_beside_J47 at h
    refine lv_iadd hx hb dX8_beside_47 ?_
    obtain ⟨x_7, e_8, h⟩ := nmI_some h
    refine g_nmi e_8 ?_
    refine lv_istore_n (lv' := [(3, .int x_7), (2, .int x2)]) hx hb dX8_beside_48 rfl hl (by decide) rfl (fun ls hl => ?_)
    refine lv_iload_n hx hb dX8_beside_49 rfl (lv_at hl 1 rfl) ?_
    refine lv_iload_n hx hb dX8_beside_50 rfl (lv_at hl 0 rfl) ?_
    obtain ⟨x_11, h_9, h⟩ := bnd_some h
    refine g_callSi (As := [.int x2, .int x_7]) (rest := []) S hW (metX8_isPlace h_9) (cwX8_isPlace S.2.2.2.2 q1782 ⟨Nat.le_of_ble_eq_true rfl, Nat.le_of_ble_eq_true rfl⟩) rfl hl.1 rfl (Nat.le_of_ble_eq_true rfl) dX8_beside_51 ⟨Nat.le_refl _, Nat.le_refl _⟩ (fun H locs hW => ?_)
    refine lv_if_eq (tgt := 66) hx hb dX8_beside_54 (by decide) (fun c_12 => ?_) (fun c_12 => ?_)
    · have h := if_t h c_12
      refine lv_iconst (v := (-1)) hx hb dX8_beside_66 (by decide) ?_
      cases h
      exact g_iret S hr hlk hW dX8_beside_67
    · have h := if_f h c_12
      refine lv_bipush (v := 12) hx hb dX8_beside_57 (by decide) ?_
      refine lv_iload_n hx hb dX8_beside_59 rfl (lv_at hl 0 rfl) ?_
      refine lv_imul hx hb dX8_beside_60 ?_
      refine lv_iload_n hx hb dX8_beside_61 rfl (lv_at hl 1 rfl) ?_
      refine lv_iadd hx hb dX8_beside_62 ?_
      refine lv_goto (tgt := 67) hx hb dX8_beside_63 (by decide) ?_
      cases h
      exact g_iret S hr hlk hW dX8_beside_67
  have J22 : ∀ (x0 : Int32) (x1 : Int32) (z0 : Int32) (z1 : Int32) (H : Heap) (locs : List Loc) (ls : Array Slot), tw_beside_J22 x0 x1 z0 z1 = some r → twW gp nx D K al s V0 L0 H locs → lv_has ls 4 [(0, .int x0), (1, .int x1)] → W p l e rmX8_beside s m ([.int a0, .int a1] : List Value).toArray below meth c H locs 0 0 (MQ below (twQi r nx D K al V0 L0) ([.int a0, .int a1] : List Value).toArray s 0 0 (g_A al twSh)) (F0 m 22 ls [.int z1, .int z0]) := by
    intro x0 x1 z0 z1 H locs ls h hW hl
    unfold tw_beside_J22 at h
    refine lv_iadd hx hb dX8_beside_22 ?_
    obtain ⟨x_3, e_4, h⟩ := nmI_some h
    refine g_nmi e_4 ?_
    refine lv_istore_n (lv' := [(2, .int x_3), (0, .int x0), (1, .int x1)]) hx hb dX8_beside_23 rfl hl (by decide) rfl (fun ls hl => ?_)
    refine lv_iload_n hx hb dX8_beside_24 rfl (lv_at hl 1 rfl) ?_
    refine lv_bipush (v := 12) hx hb dX8_beside_25 (by decide) ?_
    refine lv_idiv hx hb dX8_beside_27 (by decide) ?_
    refine lv_iload_n hx hb dX8_beside_28 rfl (lv_at hl 2 rfl) ?_
    refine lv_iconst (v := 2) hx hb dX8_beside_29 (by decide) ?_
    refine lv_icmp_ne (tgt := 37) hx hb dX8_beside_30 (by decide) (fun c_5 => ?_) (fun c_5 => ?_)
    · have h := if_f h c_5
      refine lv_iload_n hx hb dX8_beside_37 rfl (lv_at hl 2 rfl) ?_
      refine lv_iconst (v := 3) hx hb dX8_beside_38 (by decide) ?_
      refine lv_icmp_ne (tgt := 46) hx hb dX8_beside_39 (by decide) (fun c_6 => ?_) (fun c_6 => ?_)
      · have h := if_f h c_6
        refine lv_iconst (v := 0) hx hb dX8_beside_46 (by decide) ?_
        exact J47 x_3 (x0 / 12) 0 _ _ _ h hW (lv_sub hl [0] rfl)
      · have h := if_t h c_6
        refine lv_iconst (v := (-1)) hx hb dX8_beside_42 (by decide) ?_
        refine lv_goto (tgt := 47) hx hb dX8_beside_43 (by decide) ?_
        exact J47 x_3 (x0 / 12) (-1) _ _ _ h hW (lv_sub hl [0] rfl)
    · have h := if_t h c_5
      refine lv_iconst (v := 1) hx hb dX8_beside_33 (by decide) ?_
      refine lv_goto (tgt := 47) hx hb dX8_beside_34 (by decide) ?_
      exact J47 x_3 (x0 / 12) 1 _ _ _ h hW (lv_sub hl [0] rfl)
  unfold tw_beside at h
  refine lv_iload_n hx hb dX8_beside_0 rfl (lv_at hl 0 rfl) ?_
  refine lv_bipush (v := 12) hx hb dX8_beside_1 (by decide) ?_
  refine lv_irem hx hb dX8_beside_3 (by decide) ?_
  refine lv_iload_n hx hb dX8_beside_4 rfl (lv_at hl 1 rfl) ?_
  refine lv_if_ne (tgt := 12) hx hb dX8_beside_5 (by decide) (fun c_1 => ?_) (fun c_1 => ?_)
  · have h := if_f h c_1
    refine lv_iload_n hx hb dX8_beside_12 rfl (lv_at hl 1 rfl) ?_
    refine lv_iconst (v := 1) hx hb dX8_beside_13 (by decide) ?_
    refine lv_icmp_ne (tgt := 21) hx hb dX8_beside_14 (by decide) (fun c_2 => ?_) (fun c_2 => ?_)
    · have h := if_f h c_2
      refine lv_iconst (v := 0) hx hb dX8_beside_21 (by decide) ?_
      exact J22 a0 a1 (a0 - a0 / 12 * 12) 0 _ _ _ h hW hl
    · have h := if_t h c_2
      refine lv_iconst (v := (-1)) hx hb dX8_beside_17 (by decide) ?_
      refine lv_goto (tgt := 22) hx hb dX8_beside_18 (by decide) ?_
      exact J22 a0 a1 (a0 - a0 / 12 * 12) (-1) _ _ _ h hW hl
  · have h := if_t h c_1
    refine lv_iconst (v := 1) hx hb dX8_beside_8 (by decide) ?_
    refine lv_goto (tgt := 22) hx hb dX8_beside_9 (by decide) ?_
    exact J22 a0 a1 (a0 - a0 / 12 * 12) 1 _ _ _ h hW hl
theorem cwX8_beside {R : Room} {s : State} {args : Array Value} {index : Nat} (hts : ∀ w ∈ lw_all, w.before args s = true) (hl : Cond.methodLink RX8 index yX8_beside ∈ lw_all) (hR : rmX8_beside.frames + 1 ≤ R.frames ∧ 8 + (4 + 11) + rmX8_beside.locals ≤ R.locals) : CallB R s args RX8 index yX8_beside cX8_beside 4 (some .int) (ws_ yX8_beside cX8_beside 4 (some .int)) rmX8_beside 0 0 2 ∧ (Cond.static yX8_beside).before args s = true := va_cwS 2 hts (lw_S hl q1780 q122 q1781) rfl rfl rfl (by decide +kernel) hR
