/-! walks of the reference: X8_readStream X8_readPipe X8_readRule X8_leadOf X8_leastOut X8_way X8_thick X8_search -/
set_option maxRecDepth 100000
def tw_readStream_J47 (V : g_V) : Option (g_V) :=
  bnd (tw_number V 0 11) (un2 fun x_7 V_8 => bnd (tw_told 19 V_8 0 30) (un2 fun x_11 V_12 => bnd (tw_good V_12) (fun x_15 => if x_15 = 0 then (some V_12) else (wrI V_12 17 12 x_7 1 fun V_19 => wrI V_19 15 810 (36 + x_7) x_11 fun V_22 => some V_22))))
def tw_readStream (V0 : g_V) : Option (g_V) :=
  bnd (tw_good V0) (fun x_3 => if x_3 = 0 then (tw_readStream_J47 V0) else (if (V0 0 11) = 2 then (bnd (tw_in ((V0 0 12).toInt64) 0 11) (fun x_26 => if x_26 = 0 then (tw_readStream_J47 V0) else (rdI (V0 17) 12 (V0 0 12) fun x_28 => if x_28 = 0 then (tw_readStream_J47 V0) else (bnd (tw_wrong V0 2) (fun V_34 => tw_readStream_J47 V_34))))) else (tw_readStream_J47 V0)))
abbrev rmX8_readStream : Room := rm_ 8 200
set_option maxHeartbeats 4000000 in
theorem metX8_readStream {l : Launch} {gp : Nat → Nat} {nx : Nat} {D : va_G} {K : Nat → ClassId} {al : Nat → Nat} {V0 : g_V} {L0 : g_L} {V' : g_V} (h : tw_readStream V0 = some V') : Met l yX8_readStream (ws_ yX8_readStream cX8_readStream 3 (none)) rmX8_readStream (twPc gp nx [.ref (al 0)] D K al V0 L0) (twQv nx D K al V' L0) 0 0 (g_A al twSh) := by
  refine g_met rfl (Nat.le_of_ble_eq_true rfl) ?_
  intro p e s m below meth c ls S hr hlk hnm hl hW
  have S : CallFix p m c cX8_readStream 3 s ([.ref (al 0)] : List Value).toArray lw_all RX8 := S
  have hx := S.1
  have hb := S.2.1
  have hl : lv_has ls 3 [(0, .ref (al 0))] := hl
  have J47 : ∀ (V : g_V) (H : Heap) (locs : List Loc) (ls : Array Slot), tw_readStream_J47 V = some V' → twW gp nx D K al s V L0 H locs → lv_has ls 3 [(0, .ref (al 0))] → W p l e rmX8_readStream s m ([.ref (al 0)] : List Value).toArray below meth c H locs 0 0 (MQ below (twQv nx D K al V' L0) ([.ref (al 0)] : List Value).toArray s 0 0 (g_A al twSh)) (F0 m 47 ls []) := by
    intro V H locs ls h hW hl
    unfold tw_readStream_J47 at h
    refine lv_aload_n hx hb dX8_readStream_47 rfl (lv_at hl 0 rfl) ?_
    refine lv_iconst (v := 0) hx hb dX8_readStream_48 (by decide) ?_
    refine lv_bipush (v := 11) hx hb dX8_readStream_49 (by decide) ?_
    obtain ⟨x_7, V_8, h_5, h⟩ := bnd2_some h
    refine g_callVi (As := [.int 0, .int 11]) (rest := []) S hW (metX8_number h_5) (cwX8_number S.2.2.2.2 q1694 ⟨Nat.le_of_ble_eq_true rfl, Nat.le_of_ble_eq_true rfl⟩) (k := 0) rfl rfl rfl hl.1 rfl (Nat.le_of_ble_eq_true rfl) dX8_readStream_51 ⟨Nat.le_refl _, Nat.le_refl _⟩ (fun H locs hW => ?_)
    refine lv_istore_n (lv' := [(1, .int x_7), (0, .ref (al 0))]) hx hb dX8_readStream_54 rfl hl (by decide) rfl (fun ls hl => ?_)
    refine lv_aload_n hx hb dX8_readStream_55 rfl (lv_at hl 1 rfl) ?_
    refine g_ldcS (w := 19) (tx := "speed") S hW (List.mem_of_getElem? (i := 30) rfl) dX8_readStream_56 ?_
    refine lv_iconst (v := 0) hx hb dX8_readStream_58 (by decide) ?_
    refine lv_bipush (v := 30) hx hb dX8_readStream_59 (by decide) ?_
    obtain ⟨x_11, V_12, h_9, h⟩ := bnd2_some h
    refine g_callVi (As := [.ref (gp 19), .int 0, .int 30]) (rest := []) S hW (metX8_told (by decide) h_9) (cwX8_told S.2.2.2.2 q1699 ⟨Nat.le_of_ble_eq_true rfl, Nat.le_of_ble_eq_true rfl⟩) (k := 0) rfl rfl rfl hl.1 rfl (Nat.le_of_ble_eq_true rfl) dX8_readStream_61 ⟨Nat.le_refl _, Nat.le_refl _⟩ (fun H locs hW => ?_)
    refine lv_istore_n (lv' := [(2, .int x_11), (1, .int x_7), (0, .ref (al 0))]) hx hb dX8_readStream_64 rfl hl (by decide) rfl (fun ls hl => ?_)
    refine lv_aload_n hx hb dX8_readStream_65 rfl (lv_at hl 2 rfl) ?_
    obtain ⟨x_15, h_13, h⟩ := bnd_some h
    refine g_callVi (As := []) (rest := []) S hW (metX8_good h_13) (cwX8_good S.2.2.2.2 q1658 ⟨Nat.le_of_ble_eq_true rfl, Nat.le_of_ble_eq_true rfl⟩) (k := 0) rfl rfl rfl hl.1 rfl (Nat.le_of_ble_eq_true rfl) dX8_readStream_66 ⟨Nat.le_refl _, Nat.le_refl _⟩ (fun H locs hW => ?_)
    refine lv_if_ne (tgt := 73) hx hb dX8_readStream_69 (by decide) (fun c_16 => ?_) (fun c_16 => ?_)
    · have h := if_f h c_16
      refine lv_aload_n hx hb dX8_readStream_73 rfl (lv_at hl 2 rfl) ?_
      refine tw_ref S hW 17 17 (by decide) rfl q1516 rfl dX8_readStream_74 ?_
      refine lv_iload_n hx hb dX8_readStream_77 rfl (lv_at hl 1 rfl) ?_
      refine lv_iconst (v := 1) hx hb dX8_readStream_78 (by decide) ?_
      obtain ⟨h_17, V_19, e_18, h⟩ := wrI_some h
      refine g_zast S hW (k := 17) rfl rfl h_17 e_18 (by decide) dX8_readStream_79 (fun H locs hW => ?_)
      refine lv_aload_n hx hb dX8_readStream_80 rfl (lv_at hl 2 rfl) ?_
      refine tw_ref S hW 15 15 (by decide) rfl q1514 rfl dX8_readStream_81 ?_
      refine lv_bipush (v := 36) hx hb dX8_readStream_84 (by decide) ?_
      refine lv_iload_n hx hb dX8_readStream_86 rfl (lv_at hl 1 rfl) ?_
      refine lv_iadd hx hb dX8_readStream_87 ?_
      refine lv_iload_n hx hb dX8_readStream_88 rfl (lv_at hl 0 rfl) ?_
      obtain ⟨h_20, V_22, e_21, h⟩ := wrI_some h
      refine g_iast S hW (k := 15) rfl rfl h_20 e_21 dX8_readStream_89 (fun H locs hW => ?_)
      cases h
      exact g_vret S hr hlk hW dX8_readStream_90
    · have h := if_t h c_16
      cases h
      exact g_vret S hr hlk hW dX8_readStream_72
  unfold tw_readStream at h
  refine lv_aload_n hx hb dX8_readStream_0 rfl (lv_at hl 0 rfl) ?_
  obtain ⟨x_3, h_1, h⟩ := bnd_some h
  refine g_callVi (As := []) (rest := []) S hW (metX8_good h_1) (cwX8_good S.2.2.2.2 q1658 ⟨Nat.le_of_ble_eq_true rfl, Nat.le_of_ble_eq_true rfl⟩) (k := 0) rfl rfl rfl hl.1 rfl (Nat.le_of_ble_eq_true rfl) dX8_readStream_1 ⟨Nat.le_refl _, Nat.le_refl _⟩ (fun H locs hW => ?_)
  refine lv_if_eq (tgt := 47) hx hb dX8_readStream_4 (by decide) (fun c_4 => ?_) (fun c_4 => ?_)
  · have h := if_t h c_4
    exact J47 V0 _ _ _ h hW hl
  · have h := if_f h c_4
    refine lv_aload_n hx hb dX8_readStream_7 rfl (lv_at hl 0 rfl) ?_
    refine tw_int S hW 11 (by decide) rfl q1510 rfl dX8_readStream_8 ?_
    refine lv_iconst (v := 2) hx hb dX8_readStream_11 (by decide) ?_
    refine lv_icmp_ne (tgt := 47) hx hb dX8_readStream_12 (by decide) (fun c_23 => ?_) (fun c_23 => ?_)
    · have h := if_f h c_23
      exact J47 V0 _ _ _ h hW hl
    · have h := if_t h c_23
      refine lv_aload_n hx hb dX8_readStream_15 rfl (lv_at hl 0 rfl) ?_
      refine tw_int S hW 12 (by decide) rfl q1511 rfl dX8_readStream_16 ?_
      refine lv_i2l (v := (V0 0 12).toInt64) hx hb dX8_readStream_19 rfl ?_
      refine lv_lconst (v := 0) hx hb dX8_readStream_20 (by decide) ?_
      refine lv_ldc2 (v := 11) hx hb S.2.2.2.1 (S.2.2.2.2 _ q1731) dX8_readStream_21 ?_
      obtain ⟨x_26, h_24, h⟩ := bnd_some h
      refine g_callSi (As := [.long ((V0 0 12).toInt64), .long 0, .long 11]) (rest := []) S hW (metX8_in h_24) (cwX8_in S.2.2.2.2 q1625 ⟨Nat.le_of_ble_eq_true rfl, Nat.le_of_ble_eq_true rfl⟩) rfl hl.1 rfl (Nat.le_of_ble_eq_true rfl) dX8_readStream_24 ⟨Nat.le_refl _, Nat.le_refl _⟩ (fun H locs hW => ?_)
      refine lv_if_eq (tgt := 47) hx hb dX8_readStream_27 (by decide) (fun c_27 => ?_) (fun c_27 => ?_)
      · have h := if_t h c_27
        exact J47 V0 _ _ _ h hW hl
      · have h := if_f h c_27
        refine lv_aload_n hx hb dX8_readStream_30 rfl (lv_at hl 0 rfl) ?_
        refine tw_ref S hW 17 17 (by decide) rfl q1516 rfl dX8_readStream_31 ?_
        refine lv_aload_n hx hb dX8_readStream_34 rfl (lv_at hl 0 rfl) ?_
        refine tw_int S hW 12 (by decide) rfl q1511 rfl dX8_readStream_35 ?_
        obtain ⟨h_29, x_28, e_30, h⟩ := rdI_some h
        refine g_zald S hW (k := 17) rfl rfl h_29 e_30 dX8_readStream_38 ?_
        refine lv_if_eq (tgt := 47) hx hb dX8_readStream_39 (by decide) (fun c_31 => ?_) (fun c_31 => ?_)
        · have h := if_t h c_31
          exact J47 V0 _ _ _ h hW hl
        · have h := if_f h c_31
          refine lv_aload_n hx hb dX8_readStream_42 rfl (lv_at hl 0 rfl) ?_
          refine lv_iconst (v := 2) hx hb dX8_readStream_43 (by decide) ?_
          obtain ⟨V_34, h_32, h⟩ := bnd_some h
          refine g_callVv (As := [.int 2]) (rest := []) S hW (metX8_wrong h_32) (cwX8_wrong S.2.2.2.2 q1681 ⟨Nat.le_of_ble_eq_true rfl, Nat.le_of_ble_eq_true rfl⟩) (k := 0) rfl rfl rfl hl.1 rfl (Nat.le_of_ble_eq_true rfl) dX8_readStream_44 ⟨Nat.le_refl _, Nat.le_refl _⟩ (fun H locs hW => ?_)
          exact J47 V_34 _ _ _ h hW hl
theorem cwX8_readStream {R : Room} {s : State} {args : Array Value} {index : Nat} (hts : ∀ w ∈ lw_all, w.before args s = true) (hl : Cond.methodLink RX8 index yX8_readStream ∈ lw_all) (hR : rmX8_readStream.frames + 1 ≤ R.frames ∧ 8 + (3 + 11) + rmX8_readStream.locals ≤ R.locals) : CallW R s args RX8 RX8 index yX8_readStream cX8_readStream 3 (none) (ws_ yX8_readStream cX8_readStream 3 (none)) rmX8_readStream 0 0 0 := cwV 0 hts (lw_V hl q1729 qs69 q122 q1730) rfl rfl rfl (by decide +kernel) hR
def tw_readPipe_J86 (x1 : Int32) (V : g_V) : Option (g_V) :=
  bnd (tw_number V 0 11) (un2 fun x_11 V_12 => bnd (tw_below 18 V_12 (-400)) (un2 fun x_15 V_16 => bnd (tw_told 13 V_16 0 60) (un2 fun x_19 V_20 => bnd (tw_good V_20) (fun x_23 => if x_23 = 0 then (some V_20) else (rdI (V_20 15) 810 2 fun x_25 => nmI (624 + (6 * x_25)) fun x_28 => wrI V_20 15 810 x_28 ((12 * x_11) + x1) fun V_32 => wrI V_32 15 810 (x_28 + 1) x_15 fun V_35 => wrI V_35 15 810 (x_28 + 2) x_19 fun V_38 => wrI V_38 15 810 (x_28 + 3) 1 fun V_41 => rdI (V_41 15) 810 2 fun x_42 => wrI V_41 15 810 2 (x_42 + 1) fun V_47 => some V_47)))))
def tw_readPipe_B40 (x1 : Int32) (rec : Int32 → g_V → Option (g_V)) (x2 : Int32) (V : g_V) : Option (g_V) :=
  rdI (V 15) 810 2 fun x_53 => if x_53 ≤ x2 then (some V) else (rdI (V 15) 810 (624 + (6 * x2)) fun x_57 => if x_57 = ((12 * (V 0 12)) + x1) then (bnd (tw_wrong V 2) (fun V_65 => nmI (x2 + 1) fun x_66 => rec x_66 V_65)) else (nmI (x2 + 1) fun x_61 => rec x_61 V))
abbrev tw_readPipe_F40 (x1 : Int32) : ((Int32 × g_V) → Option (g_V)) → (Int32 × g_V) → Option (g_V) := fun rec s => tw_readPipe_B40 x1 (fun x2 V => rec (x2, V)) s.1 s.2
def tw_readPipe_L40 (x1 : Int32) (n : Nat) (x2 : Int32) (V : g_V) : Option (g_V) := lp (tw_readPipe_F40 x1) n (x2, V)
theorem tw_readPipe_L40_s (x1 : Int32) (n : Nat) (x2 : Int32) (V : g_V) : tw_readPipe_L40 x1 (n + 1) x2 V = tw_readPipe_B40 x1 (fun x2 V => tw_readPipe_L40 x1 n x2 V) x2 V := lp_s (tw_readPipe_F40 x1) n (x2, V)
def tw_readPipe (V0 : g_V) : Option (g_V) :=
  bnd (tw_number V0 0 11) (un2 fun x_3 V_4 => bnd (tw_good V_4) (fun x_7 => if x_7 = 0 then (tw_readPipe_J86 x_3 V_4) else (if (V_4 0 11) = 2 then (bnd (tw_in ((V_4 0 12).toInt64) 0 11) (fun x_51 => if x_51 = 0 then (tw_readPipe_J86 x_3 V_4) else (bnd (tw_readPipe_L40 x_3 1000 0 V_4) (fun V_70 => tw_readPipe_J86 x_3 V_70)))) else (tw_readPipe_J86 x_3 V_4))))
abbrev rmX8_readPipe : Room := rm_ 8 200
set_option maxHeartbeats 4000000 in
theorem metX8_readPipe {l : Launch} {gp : Nat → Nat} {nx : Nat} {D : va_G} {K : Nat → ClassId} {al : Nat → Nat} {V0 : g_V} {L0 : g_L} {V' : g_V} (h : tw_readPipe V0 = some V') : Met l yX8_readPipe (ws_ yX8_readPipe cX8_readPipe 6 (none)) rmX8_readPipe (twPc gp nx [.ref (al 0)] D K al V0 L0) (twQv nx D K al V' L0) 0 0 (g_A al twSh) := by
  refine g_met rfl (Nat.le_of_ble_eq_true rfl) ?_
  intro p e s m below meth c ls S hr hlk hnm hl hW
  have S : CallFix p m c cX8_readPipe 6 s ([.ref (al 0)] : List Value).toArray lw_all RX8 := S
  have hx := S.1
  have hb := S.2.1
  have hl : lv_has ls 6 [(0, .ref (al 0))] := hl
  have Lp40 : ∀ (x1 : Int32) (L : g_L) (n : Nat) (x2 : Int32) (V : g_V) (out : (g_V)) (H : Heap) (locs : List Loc) (ls : Array Slot), tw_readPipe_L40 x1 n x2 V = some out → twW gp nx D K al s V L H locs → lv_has ls 6 [(0, .ref (al 0)), (1, .int x1), (2, .int x2)] → (∀ (oV : g_V), out = oV → ∀ (H : Heap) (locs : List Loc) (ls : Array Slot), twW gp nx D K al s oV L H locs → lv_has ls 6 [(0, .ref (al 0)), (1, .int x1)] → W p l e rmX8_readPipe s m ([.ref (al 0)] : List Value).toArray below meth c H locs 0 0 (MQ below (twQv nx D K al V' L0) ([.ref (al 0)] : List Value).toArray s 0 0 (g_A al twSh)) (F0 m 86 ls [])) → W p l e rmX8_readPipe s m ([.ref (al 0)] : List Value).toArray below meth c H locs 0 0 (MQ below (twQv nx D K al V' L0) ([.ref (al 0)] : List Value).toArray s 0 0 (g_A al twSh)) (F0 m 40 ls []) := by
    intro x1 L n
    induction n with
    | zero =>
      intro x2 V out H locs ls h
      exact (lp_0 h).elim
    | succ n ih =>
      intro x2 V out H locs ls h hW hl k1
      rw [tw_readPipe_L40_s] at h
      unfold tw_readPipe_B40 at h
      refine lv_iload_n hx hb dX8_readPipe_40 rfl (lv_at hl 2 rfl) ?_
      refine lv_aload_n hx hb dX8_readPipe_41 rfl (lv_at hl 0 rfl) ?_
      refine tw_ref S hW 15 15 (by decide) rfl q1514 rfl dX8_readPipe_42 ?_
      refine lv_iconst (v := 2) hx hb dX8_readPipe_45 (by decide) ?_
      obtain ⟨h_54, x_53, e_55, h⟩ := rdI_some h
      refine g_iald S hW (k := 15) rfl rfl h_54 e_55 dX8_readPipe_46 ?_
      refine lv_icmp_ge (tgt := 86) hx hb dX8_readPipe_47 (by decide) (fun c_56 => ?_) (fun c_56 => ?_)
      · have h := if_t h c_56
        exact k1 _ (Option.some.inj h).symm _ _ _ hW (lv_sub hl [0, 1] rfl)
      · have h := if_f h c_56
        refine lv_aload_n hx hb dX8_readPipe_50 rfl (lv_at hl 0 rfl) ?_
        refine tw_ref S hW 15 15 (by decide) rfl q1514 rfl dX8_readPipe_51 ?_
        refine lv_sipush (v := 624) hx hb dX8_readPipe_54 (by decide) ?_
        refine lv_bipush (v := 6) hx hb dX8_readPipe_57 (by decide) ?_
        refine lv_iload_n hx hb dX8_readPipe_59 rfl (lv_at hl 2 rfl) ?_
        refine lv_imul hx hb dX8_readPipe_60 ?_
        refine lv_iadd hx hb dX8_readPipe_61 ?_
        obtain ⟨h_58, x_57, e_59, h⟩ := rdI_some h
        refine g_iald S hW (k := 15) rfl rfl h_58 e_59 dX8_readPipe_62 ?_
        refine lv_bipush (v := 12) hx hb dX8_readPipe_63 (by decide) ?_
        refine lv_aload_n hx hb dX8_readPipe_65 rfl (lv_at hl 0 rfl) ?_
        refine tw_int S hW 12 (by decide) rfl q1511 rfl dX8_readPipe_66 ?_
        refine lv_imul hx hb dX8_readPipe_69 ?_
        refine lv_iload_n hx hb dX8_readPipe_70 rfl (lv_at hl 1 rfl) ?_
        refine lv_iadd hx hb dX8_readPipe_71 ?_
        refine lv_icmp_ne (tgt := 80) hx hb dX8_readPipe_72 (by decide) (fun c_60 => ?_) (fun c_60 => ?_)
        · have h := if_f h c_60
          obtain ⟨x_61, e_62, h⟩ := nmI_some h
          refine lv_iinc (v := x_61) (lv' := [(2, .int x_61), (0, .ref (al 0)), (1, .int x1)]) hx hb dX8_readPipe_80 hl (k := 2) rfl (by rw [e_62]; rfl) (by decide) rfl (fun ls hl => ?_)
          refine lv_goto (tgt := 40) hx hb dX8_readPipe_83 (by decide) ?_
          exact ih x_61 V out _ _ _ h hW (lv_sub hl [1, 2, 0] rfl) k1
        · have h := if_t h c_60
          refine lv_aload_n hx hb dX8_readPipe_75 rfl (lv_at hl 0 rfl) ?_
          refine lv_iconst (v := 2) hx hb dX8_readPipe_76 (by decide) ?_
          obtain ⟨V_65, h_63, h⟩ := bnd_some h
          refine g_callVv (As := [.int 2]) (rest := []) S hW (metX8_wrong h_63) (cwX8_wrong S.2.2.2.2 q1681 ⟨Nat.le_of_ble_eq_true rfl, Nat.le_of_ble_eq_true rfl⟩) (k := 0) rfl rfl rfl hl.1 rfl (Nat.le_of_ble_eq_true rfl) dX8_readPipe_77 ⟨Nat.le_refl _, Nat.le_refl _⟩ (fun H locs hW => ?_)
          obtain ⟨x_66, e_67, h⟩ := nmI_some h
          refine lv_iinc (v := x_66) (lv' := [(2, .int x_66), (0, .ref (al 0)), (1, .int x1)]) hx hb dX8_readPipe_80 hl (k := 2) rfl (by rw [e_67]; rfl) (by decide) rfl (fun ls hl => ?_)
          refine lv_goto (tgt := 40) hx hb dX8_readPipe_83 (by decide) ?_
          exact ih x_66 V_65 out _ _ _ h hW (lv_sub hl [1, 2, 0] rfl) k1
  have J86 : ∀ (x1 : Int32) (V : g_V) (H : Heap) (locs : List Loc) (ls : Array Slot), tw_readPipe_J86 x1 V = some V' → twW gp nx D K al s V L0 H locs → lv_has ls 6 [(0, .ref (al 0)), (1, .int x1)] → W p l e rmX8_readPipe s m ([.ref (al 0)] : List Value).toArray below meth c H locs 0 0 (MQ below (twQv nx D K al V' L0) ([.ref (al 0)] : List Value).toArray s 0 0 (g_A al twSh)) (F0 m 86 ls []) := by
    intro x1 V H locs ls h hW hl
    unfold tw_readPipe_J86 at h
    refine lv_aload_n hx hb dX8_readPipe_86 rfl (lv_at hl 0 rfl) ?_
    refine lv_iconst (v := 0) hx hb dX8_readPipe_87 (by decide) ?_
    refine lv_bipush (v := 11) hx hb dX8_readPipe_88 (by decide) ?_
    obtain ⟨x_11, V_12, h_9, h⟩ := bnd2_some h
    refine g_callVi (As := [.int 0, .int 11]) (rest := []) S hW (metX8_number h_9) (cwX8_number S.2.2.2.2 q1694 ⟨Nat.le_of_ble_eq_true rfl, Nat.le_of_ble_eq_true rfl⟩) (k := 0) rfl rfl rfl hl.1 rfl (Nat.le_of_ble_eq_true rfl) dX8_readPipe_90 ⟨Nat.le_refl _, Nat.le_refl _⟩ (fun H locs hW => ?_)
    refine lv_istore_n (lv' := [(2, .int x_11), (0, .ref (al 0)), (1, .int x1)]) hx hb dX8_readPipe_93 rfl hl (by decide) rfl (fun ls hl => ?_)
    refine lv_aload_n hx hb dX8_readPipe_94 rfl (lv_at hl 1 rfl) ?_
    refine g_ldcS (w := 18) (tx := "at") S hW (List.mem_of_getElem? (i := 31) rfl) dX8_readPipe_95 ?_
    refine lv_sipush (v := (-400)) hx hb dX8_readPipe_97 (by decide) ?_
    obtain ⟨x_15, V_16, h_13, h⟩ := bnd2_some h
    refine g_callVi (As := [.ref (gp 18), .int (-400)]) (rest := []) S hW (metX8_below (by decide) h_13) (cwX8_below S.2.2.2.2 q1710 ⟨Nat.le_of_ble_eq_true rfl, Nat.le_of_ble_eq_true rfl⟩) (k := 0) rfl rfl rfl hl.1 rfl (Nat.le_of_ble_eq_true rfl) dX8_readPipe_100 ⟨Nat.le_refl _, Nat.le_refl _⟩ (fun H locs hW => ?_)
    refine lv_istore_n (lv' := [(3, .int x_15), (2, .int x_11), (0, .ref (al 0)), (1, .int x1)]) hx hb dX8_readPipe_103 rfl hl (by decide) rfl (fun ls hl => ?_)
    refine lv_aload_n hx hb dX8_readPipe_104 rfl (lv_at hl 2 rfl) ?_
    refine g_ldcS (w := 13) (tx := "lead") S hW (List.mem_of_getElem? (i := 24) rfl) dX8_readPipe_105 ?_
    refine lv_iconst (v := 0) hx hb dX8_readPipe_107 (by decide) ?_
    refine lv_bipush (v := 60) hx hb dX8_readPipe_108 (by decide) ?_
    obtain ⟨x_19, V_20, h_17, h⟩ := bnd2_some h
    refine g_callVi (As := [.ref (gp 13), .int 0, .int 60]) (rest := []) S hW (metX8_told (by decide) h_17) (cwX8_told S.2.2.2.2 q1699 ⟨Nat.le_of_ble_eq_true rfl, Nat.le_of_ble_eq_true rfl⟩) (k := 0) rfl rfl rfl hl.1 rfl (Nat.le_of_ble_eq_true rfl) dX8_readPipe_110 ⟨Nat.le_refl _, Nat.le_refl _⟩ (fun H locs hW => ?_)
    refine lv_istore (lv' := [(4, .int x_19), (3, .int x_15), (2, .int x_11), (0, .ref (al 0)), (1, .int x1)]) hx hb dX8_readPipe_113 hl (by decide) rfl (fun ls hl => ?_)
    refine lv_aload_n hx hb dX8_readPipe_115 rfl (lv_at hl 3 rfl) ?_
    obtain ⟨x_23, h_21, h⟩ := bnd_some h
    refine g_callVi (As := []) (rest := []) S hW (metX8_good h_21) (cwX8_good S.2.2.2.2 q1658 ⟨Nat.le_of_ble_eq_true rfl, Nat.le_of_ble_eq_true rfl⟩) (k := 0) rfl rfl rfl hl.1 rfl (Nat.le_of_ble_eq_true rfl) dX8_readPipe_116 ⟨Nat.le_refl _, Nat.le_refl _⟩ (fun H locs hW => ?_)
    refine lv_if_ne (tgt := 123) hx hb dX8_readPipe_119 (by decide) (fun c_24 => ?_) (fun c_24 => ?_)
    · have h := if_f h c_24
      refine lv_sipush (v := 624) hx hb dX8_readPipe_123 (by decide) ?_
      refine lv_bipush (v := 6) hx hb dX8_readPipe_126 (by decide) ?_
      refine lv_aload_n hx hb dX8_readPipe_128 rfl (lv_at hl 3 rfl) ?_
      refine tw_ref S hW 15 15 (by decide) rfl q1514 rfl dX8_readPipe_129 ?_
      refine lv_iconst (v := 2) hx hb dX8_readPipe_132 (by decide) ?_
      obtain ⟨h_26, x_25, e_27, h⟩ := rdI_some h
      refine g_iald S hW (k := 15) rfl rfl h_26 e_27 dX8_readPipe_133 ?_
      refine lv_imul hx hb dX8_readPipe_134 ?_
      refine lv_iadd hx hb dX8_readPipe_135 ?_
      obtain ⟨x_28, e_29, h⟩ := nmI_some h
      refine g_nmi e_29 ?_
      refine lv_istore (lv' := [(5, .int x_28), (4, .int x_19), (3, .int x_15), (2, .int x_11), (0, .ref (al 0)), (1, .int x1)]) hx hb dX8_readPipe_136 hl (by decide) rfl (fun ls hl => ?_)
      refine lv_aload_n hx hb dX8_readPipe_138 rfl (lv_at hl 4 rfl) ?_
      refine tw_ref S hW 15 15 (by decide) rfl q1514 rfl dX8_readPipe_139 ?_
      refine lv_iload hx hb dX8_readPipe_142 (lv_at hl 0 rfl) ?_
      refine lv_bipush (v := 12) hx hb dX8_readPipe_144 (by decide) ?_
      refine lv_iload_n hx hb dX8_readPipe_146 rfl (lv_at hl 3 rfl) ?_
      refine lv_imul hx hb dX8_readPipe_147 ?_
      refine lv_iload_n hx hb dX8_readPipe_148 rfl (lv_at hl 5 rfl) ?_
      refine lv_iadd hx hb dX8_readPipe_149 ?_
      obtain ⟨h_30, V_32, e_31, h⟩ := wrI_some h
      refine g_iast S hW (k := 15) rfl rfl h_30 e_31 dX8_readPipe_150 (fun H locs hW => ?_)
      refine lv_aload_n hx hb dX8_readPipe_151 rfl (lv_at hl 4 rfl) ?_
      refine tw_ref S hW 15 15 (by decide) rfl q1514 rfl dX8_readPipe_152 ?_
      refine lv_iload hx hb dX8_readPipe_155 (lv_at hl 0 rfl) ?_
      refine lv_iconst (v := 1) hx hb dX8_readPipe_157 (by decide) ?_
      refine lv_iadd hx hb dX8_readPipe_158 ?_
      refine lv_iload_n hx hb dX8_readPipe_159 rfl (lv_at hl 2 rfl) ?_
      obtain ⟨h_33, V_35, e_34, h⟩ := wrI_some h
      refine g_iast S hW (k := 15) rfl rfl h_33 e_34 dX8_readPipe_160 (fun H locs hW => ?_)
      refine lv_aload_n hx hb dX8_readPipe_161 rfl (lv_at hl 4 rfl) ?_
      refine tw_ref S hW 15 15 (by decide) rfl q1514 rfl dX8_readPipe_162 ?_
      refine lv_iload hx hb dX8_readPipe_165 (lv_at hl 0 rfl) ?_
      refine lv_iconst (v := 2) hx hb dX8_readPipe_167 (by decide) ?_
      refine lv_iadd hx hb dX8_readPipe_168 ?_
      refine lv_iload hx hb dX8_readPipe_169 (lv_at hl 1 rfl) ?_
      obtain ⟨h_36, V_38, e_37, h⟩ := wrI_some h
      refine g_iast S hW (k := 15) rfl rfl h_36 e_37 dX8_readPipe_171 (fun H locs hW => ?_)
      refine lv_aload_n hx hb dX8_readPipe_172 rfl (lv_at hl 4 rfl) ?_
      refine tw_ref S hW 15 15 (by decide) rfl q1514 rfl dX8_readPipe_173 ?_
      refine lv_iload hx hb dX8_readPipe_176 (lv_at hl 0 rfl) ?_
      refine lv_iconst (v := 3) hx hb dX8_readPipe_178 (by decide) ?_
      refine lv_iadd hx hb dX8_readPipe_179 ?_
      refine lv_iconst (v := 1) hx hb dX8_readPipe_180 (by decide) ?_
      obtain ⟨h_39, V_41, e_40, h⟩ := wrI_some h
      refine g_iast S hW (k := 15) rfl rfl h_39 e_40 dX8_readPipe_181 (fun H locs hW => ?_)
      refine lv_aload_n hx hb dX8_readPipe_182 rfl (lv_at hl 4 rfl) ?_
      refine tw_ref S hW 15 15 (by decide) rfl q1514 rfl dX8_readPipe_183 ?_
      refine lv_iconst (v := 2) hx hb dX8_readPipe_186 (by decide) ?_
      refine lv_dup2_11 hx hb dX8_readPipe_187 rfl rfl ?_
      obtain ⟨h_43, x_42, e_44, h⟩ := rdI_some h
      refine g_iald S hW (k := 15) rfl rfl h_43 e_44 dX8_readPipe_188 ?_
      refine lv_iconst (v := 1) hx hb dX8_readPipe_189 (by decide) ?_
      refine lv_iadd hx hb dX8_readPipe_190 ?_
      obtain ⟨h_45, V_47, e_46, h⟩ := wrI_some h
      refine g_iast S hW (k := 15) rfl rfl h_45 e_46 dX8_readPipe_191 (fun H locs hW => ?_)
      cases h
      exact g_vret S hr hlk hW dX8_readPipe_192
    · have h := if_t h c_24
      cases h
      exact g_vret S hr hlk hW dX8_readPipe_122
  unfold tw_readPipe at h
  refine lv_aload_n hx hb dX8_readPipe_0 rfl (lv_at hl 0 rfl) ?_
  refine lv_iconst (v := 0) hx hb dX8_readPipe_1 (by decide) ?_
  refine lv_bipush (v := 11) hx hb dX8_readPipe_2 (by decide) ?_
  obtain ⟨x_3, V_4, h_1, h⟩ := bnd2_some h
  refine g_callVi (As := [.int 0, .int 11]) (rest := []) S hW (metX8_number h_1) (cwX8_number S.2.2.2.2 q1694 ⟨Nat.le_of_ble_eq_true rfl, Nat.le_of_ble_eq_true rfl⟩) (k := 0) rfl rfl rfl hl.1 rfl (Nat.le_of_ble_eq_true rfl) dX8_readPipe_4 ⟨Nat.le_refl _, Nat.le_refl _⟩ (fun H locs hW => ?_)
  refine lv_istore_n (lv' := [(1, .int x_3), (0, .ref (al 0))]) hx hb dX8_readPipe_7 rfl hl (by decide) rfl (fun ls hl => ?_)
  refine lv_aload_n hx hb dX8_readPipe_8 rfl (lv_at hl 1 rfl) ?_
  obtain ⟨x_7, h_5, h⟩ := bnd_some h
  refine g_callVi (As := []) (rest := []) S hW (metX8_good h_5) (cwX8_good S.2.2.2.2 q1658 ⟨Nat.le_of_ble_eq_true rfl, Nat.le_of_ble_eq_true rfl⟩) (k := 0) rfl rfl rfl hl.1 rfl (Nat.le_of_ble_eq_true rfl) dX8_readPipe_9 ⟨Nat.le_refl _, Nat.le_refl _⟩ (fun H locs hW => ?_)
  refine lv_if_eq (tgt := 86) hx hb dX8_readPipe_12 (by decide) (fun c_8 => ?_) (fun c_8 => ?_)
  · have h := if_t h c_8
    exact J86 x_3 V_4 _ _ _ h hW (lv_sub hl [1, 0] rfl)
  · have h := if_f h c_8
    refine lv_aload_n hx hb dX8_readPipe_15 rfl (lv_at hl 1 rfl) ?_
    refine tw_int S hW 11 (by decide) rfl q1510 rfl dX8_readPipe_16 ?_
    refine lv_iconst (v := 2) hx hb dX8_readPipe_19 (by decide) ?_
    refine lv_icmp_ne (tgt := 86) hx hb dX8_readPipe_20 (by decide) (fun c_48 => ?_) (fun c_48 => ?_)
    · have h := if_f h c_48
      exact J86 x_3 V_4 _ _ _ h hW (lv_sub hl [1, 0] rfl)
    · have h := if_t h c_48
      refine lv_aload_n hx hb dX8_readPipe_23 rfl (lv_at hl 1 rfl) ?_
      refine tw_int S hW 12 (by decide) rfl q1511 rfl dX8_readPipe_24 ?_
      refine lv_i2l (v := (V_4 0 12).toInt64) hx hb dX8_readPipe_27 rfl ?_
      refine lv_lconst (v := 0) hx hb dX8_readPipe_28 (by decide) ?_
      refine lv_ldc2 (v := 11) hx hb S.2.2.2.1 (S.2.2.2.2 _ q1731) dX8_readPipe_29 ?_
      obtain ⟨x_51, h_49, h⟩ := bnd_some h
      refine g_callSi (As := [.long ((V_4 0 12).toInt64), .long 0, .long 11]) (rest := []) S hW (metX8_in h_49) (cwX8_in S.2.2.2.2 q1625 ⟨Nat.le_of_ble_eq_true rfl, Nat.le_of_ble_eq_true rfl⟩) rfl hl.1 rfl (Nat.le_of_ble_eq_true rfl) dX8_readPipe_32 ⟨Nat.le_refl _, Nat.le_refl _⟩ (fun H locs hW => ?_)
      refine lv_if_eq (tgt := 86) hx hb dX8_readPipe_35 (by decide) (fun c_52 => ?_) (fun c_52 => ?_)
      · have h := if_t h c_52
        exact J86 x_3 V_4 _ _ _ h hW (lv_sub hl [1, 0] rfl)
      · have h := if_f h c_52
        refine lv_iconst (v := 0) hx hb dX8_readPipe_38 (by decide) ?_
        refine lv_istore_n (lv' := [(2, .int 0), (1, .int x_3), (0, .ref (al 0))]) hx hb dX8_readPipe_39 rfl hl (by decide) rfl (fun ls hl => ?_)
        obtain ⟨V_70, h_69, h⟩ := bnd_some h
        refine Lp40 x_3 L0 1000 0 V_4  _ _ _ _ h_69 hW (lv_sub hl [2, 1, 0] rfl) ?_
        intro w0 eo H locs ls hW hl
        subst eo
        exact J86 x_3 V_70 _ _ _ h hW hl
theorem cwX8_readPipe {R : Room} {s : State} {args : Array Value} {index : Nat} (hts : ∀ w ∈ lw_all, w.before args s = true) (hl : Cond.methodLink RX8 index yX8_readPipe ∈ lw_all) (hR : rmX8_readPipe.frames + 1 ≤ R.frames ∧ 8 + (6 + 11) + rmX8_readPipe.locals ≤ R.locals) : CallW R s args RX8 RX8 index yX8_readPipe cX8_readPipe 6 (none) (ws_ yX8_readPipe cX8_readPipe 6 (none)) rmX8_readPipe 0 0 0 := cwV 0 hts (lw_V hl q1735 qs70 q122 q1736) rfl rfl rfl (by decide +kernel) hR
def tw_readRule_B22 (x1 : Int32) (rec : Int32 → g_V → Option (g_V)) (x2 : Int32) (V : g_V) : Option (g_V) :=
  if x2 = 0 then (some V) else (bnd (tw_good V) (fun x_12 => if x_12 = 0 then (some V) else (bnd (tw_readCond V x1) (fun V_16 => bnd (tw_takes 22 V_16) (un2 fun x_19 V_20 => rec x_19 V_20)))))
abbrev tw_readRule_F22 (x1 : Int32) : ((Int32 × g_V) → Option (g_V)) → (Int32 × g_V) → Option (g_V) := fun rec s => tw_readRule_B22 x1 (fun x2 V => rec (x2, V)) s.1 s.2
def tw_readRule_L22 (x1 : Int32) (n : Nat) (x2 : Int32) (V : g_V) : Option (g_V) := lp (tw_readRule_F22 x1) n (x2, V)
theorem tw_readRule_L22_s (x1 : Int32) (n : Nat) (x2 : Int32) (V : g_V) : tw_readRule_L22 x1 (n + 1) x2 V = tw_readRule_B22 x1 (fun x2 V => tw_readRule_L22 x1 n x2 V) x2 V := lp_s (tw_readRule_F22 x1) n (x2, V)
def tw_readRule_J49 (V : g_V) : Option (g_V) :=
  bnd (tw_good V) (fun x_26 => if x_26 = 0 then (some V) else (rdI (V 15) 810 4 fun x_28 => wrI V 15 810 4 (x_28 + 1) fun V_33 => some V_33))
def tw_readRule (V0 : g_V) : Option (g_V) :=
  bnd (tw_needs 20 V0) (fun V_3 => rdI (V_3 15) 810 4 fun x_4 => nmI (750 + (10 * x_4)) fun x_7 => bnd (tw_readRule_L22 x_7 1000 1 V_3) (fun V_23 => tw_readRule_J49 V_23))
abbrev rmX8_readRule : Room := rm_ 7 177
set_option maxHeartbeats 4000000 in
theorem metX8_readRule {l : Launch} {gp : Nat → Nat} {nx : Nat} {D : va_G} {K : Nat → ClassId} {al : Nat → Nat} {V0 : g_V} {L0 : g_L} {V' : g_V} (h : tw_readRule V0 = some V') : Met l yX8_readRule (ws_ yX8_readRule cX8_readRule 3 (none)) rmX8_readRule (twPc gp nx [.ref (al 0)] D K al V0 L0) (twQv nx D K al V' L0) 0 0 (g_A al twSh) := by
  refine g_met rfl (Nat.le_of_ble_eq_true rfl) ?_
  intro p e s m below meth c ls S hr hlk hnm hl hW
  have S : CallFix p m c cX8_readRule 3 s ([.ref (al 0)] : List Value).toArray lw_all RX8 := S
  have hx := S.1
  have hb := S.2.1
  have hl : lv_has ls 3 [(0, .ref (al 0))] := hl
  have Lp22 : ∀ (x1 : Int32) (L : g_L) (n : Nat) (x2 : Int32) (V : g_V) (out : (g_V)) (H : Heap) (locs : List Loc) (ls : Array Slot), tw_readRule_L22 x1 n x2 V = some out → twW gp nx D K al s V L H locs → lv_has ls 3 [(0, .ref (al 0)), (1, .int x1), (2, .int x2)] → (∀ (oV : g_V), out = oV → ∀ (H : Heap) (locs : List Loc) (ls : Array Slot), twW gp nx D K al s oV L H locs → lv_has ls 3 [(0, .ref (al 0))] → W p l e rmX8_readRule s m ([.ref (al 0)] : List Value).toArray below meth c H locs 0 0 (MQ below (twQv nx D K al V' L0) ([.ref (al 0)] : List Value).toArray s 0 0 (g_A al twSh)) (F0 m 49 ls [])) → W p l e rmX8_readRule s m ([.ref (al 0)] : List Value).toArray below meth c H locs 0 0 (MQ below (twQv nx D K al V' L0) ([.ref (al 0)] : List Value).toArray s 0 0 (g_A al twSh)) (F0 m 22 ls []) := by
    intro x1 L n
    induction n with
    | zero =>
      intro x2 V out H locs ls h
      exact (lp_0 h).elim
    | succ n ih =>
      intro x2 V out H locs ls h hW hl k1
      rw [tw_readRule_L22_s] at h
      unfold tw_readRule_B22 at h
      refine lv_iload_n hx hb dX8_readRule_22 rfl (lv_at hl 2 rfl) ?_
      refine lv_if_eq (tgt := 49) hx hb dX8_readRule_23 (by decide) (fun c_9 => ?_) (fun c_9 => ?_)
      · have h := if_t h c_9
        exact k1 _ (Option.some.inj h).symm _ _ _ hW (lv_sub hl [0] rfl)
      · have h := if_f h c_9
        refine lv_aload_n hx hb dX8_readRule_26 rfl (lv_at hl 0 rfl) ?_
        obtain ⟨x_12, h_10, h⟩ := bnd_some h
        refine g_callVi (As := []) (rest := []) S hW (metX8_good h_10) (cwX8_good S.2.2.2.2 q1658 ⟨Nat.le_of_ble_eq_true rfl, Nat.le_of_ble_eq_true rfl⟩) (k := 0) rfl rfl rfl hl.1 rfl (Nat.le_of_ble_eq_true rfl) dX8_readRule_27 ⟨Nat.le_refl _, Nat.le_refl _⟩ (fun H locs hW => ?_)
        refine lv_if_eq (tgt := 49) hx hb dX8_readRule_30 (by decide) (fun c_13 => ?_) (fun c_13 => ?_)
        · have h := if_t h c_13
          exact k1 _ (Option.some.inj h).symm _ _ _ hW (lv_sub hl [0] rfl)
        · have h := if_f h c_13
          refine lv_aload_n hx hb dX8_readRule_33 rfl (lv_at hl 0 rfl) ?_
          refine lv_iload_n hx hb dX8_readRule_34 rfl (lv_at hl 1 rfl) ?_
          obtain ⟨V_16, h_14, h⟩ := bnd_some h
          refine g_callVv (As := [.int x1]) (rest := []) S hW (metX8_readCond h_14) (cwX8_readCond S.2.2.2.2 q1743 ⟨Nat.le_of_ble_eq_true rfl, Nat.le_of_ble_eq_true rfl⟩) (k := 0) rfl rfl rfl hl.1 rfl (Nat.le_of_ble_eq_true rfl) dX8_readRule_35 ⟨Nat.le_refl _, Nat.le_refl _⟩ (fun H locs hW => ?_)
          refine lv_aload_n hx hb dX8_readRule_38 rfl (lv_at hl 0 rfl) ?_
          refine g_ldcwS (w := 22) (tx := "and") S hW (List.mem_of_getElem? (i := 38) rfl) dX8_readRule_39 ?_
          obtain ⟨x_19, V_20, h_17, h⟩ := bnd2_some h
          refine g_callVi (As := [.ref (gp 22)]) (rest := []) S hW (metX8_takes (by decide) h_17) (cwX8_takes S.2.2.2.2 q1685 ⟨Nat.le_of_ble_eq_true rfl, Nat.le_of_ble_eq_true rfl⟩) (k := 0) rfl rfl rfl hl.1 rfl (Nat.le_of_ble_eq_true rfl) dX8_readRule_42 ⟨Nat.le_refl _, Nat.le_refl _⟩ (fun H locs hW => ?_)
          refine lv_istore_n (lv' := [(2, .int x_19), (0, .ref (al 0)), (1, .int x1)]) hx hb dX8_readRule_45 rfl hl (by decide) rfl (fun ls hl => ?_)
          refine lv_goto (tgt := 22) hx hb dX8_readRule_46 (by decide) ?_
          exact ih x_19 V_20 out _ _ _ h hW (lv_sub hl [1, 2, 0] rfl) k1
  have J49 : ∀ (V : g_V) (H : Heap) (locs : List Loc) (ls : Array Slot), tw_readRule_J49 V = some V' → twW gp nx D K al s V L0 H locs → lv_has ls 3 [(0, .ref (al 0))] → W p l e rmX8_readRule s m ([.ref (al 0)] : List Value).toArray below meth c H locs 0 0 (MQ below (twQv nx D K al V' L0) ([.ref (al 0)] : List Value).toArray s 0 0 (g_A al twSh)) (F0 m 49 ls []) := by
    intro V H locs ls h hW hl
    unfold tw_readRule_J49 at h
    refine lv_aload_n hx hb dX8_readRule_49 rfl (lv_at hl 0 rfl) ?_
    obtain ⟨x_26, h_24, h⟩ := bnd_some h
    refine g_callVi (As := []) (rest := []) S hW (metX8_good h_24) (cwX8_good S.2.2.2.2 q1658 ⟨Nat.le_of_ble_eq_true rfl, Nat.le_of_ble_eq_true rfl⟩) (k := 0) rfl rfl rfl hl.1 rfl (Nat.le_of_ble_eq_true rfl) dX8_readRule_50 ⟨Nat.le_refl _, Nat.le_refl _⟩ (fun H locs hW => ?_)
    refine lv_if_eq (tgt := 66) hx hb dX8_readRule_53 (by decide) (fun c_27 => ?_) (fun c_27 => ?_)
    · have h := if_t h c_27
      cases h
      exact g_vret S hr hlk hW dX8_readRule_66
    · have h := if_f h c_27
      refine lv_aload_n hx hb dX8_readRule_56 rfl (lv_at hl 0 rfl) ?_
      refine tw_ref S hW 15 15 (by decide) rfl q1514 rfl dX8_readRule_57 ?_
      refine lv_iconst (v := 4) hx hb dX8_readRule_60 (by decide) ?_
      refine lv_dup2_11 hx hb dX8_readRule_61 rfl rfl ?_
      obtain ⟨h_29, x_28, e_30, h⟩ := rdI_some h
      refine g_iald S hW (k := 15) rfl rfl h_29 e_30 dX8_readRule_62 ?_
      refine lv_iconst (v := 1) hx hb dX8_readRule_63 (by decide) ?_
      refine lv_iadd hx hb dX8_readRule_64 ?_
      obtain ⟨h_31, V_33, e_32, h⟩ := wrI_some h
      refine g_iast S hW (k := 15) rfl rfl h_31 e_32 dX8_readRule_65 (fun H locs hW => ?_)
      cases h
      exact g_vret S hr hlk hW dX8_readRule_66
  unfold tw_readRule at h
  refine lv_aload_n hx hb dX8_readRule_0 rfl (lv_at hl 0 rfl) ?_
  refine g_ldcS (w := 20) (tx := "if") S hW (List.mem_of_getElem? (i := 37) rfl) dX8_readRule_1 ?_
  obtain ⟨V_3, h_1, h⟩ := bnd_some h
  refine g_callVv (As := [.ref (gp 20)]) (rest := []) S hW (metX8_needs (by decide) h_1) (cwX8_needs S.2.2.2.2 q1703 ⟨Nat.le_of_ble_eq_true rfl, Nat.le_of_ble_eq_true rfl⟩) (k := 0) rfl rfl rfl hl.1 rfl (Nat.le_of_ble_eq_true rfl) dX8_readRule_3 ⟨Nat.le_refl _, Nat.le_refl _⟩ (fun H locs hW => ?_)
  refine lv_sipush (v := 750) hx hb dX8_readRule_6 (by decide) ?_
  refine lv_bipush (v := 10) hx hb dX8_readRule_9 (by decide) ?_
  refine lv_aload_n hx hb dX8_readRule_11 rfl (lv_at hl 0 rfl) ?_
  refine tw_ref S hW 15 15 (by decide) rfl q1514 rfl dX8_readRule_12 ?_
  refine lv_iconst (v := 4) hx hb dX8_readRule_15 (by decide) ?_
  obtain ⟨h_5, x_4, e_6, h⟩ := rdI_some h
  refine g_iald S hW (k := 15) rfl rfl h_5 e_6 dX8_readRule_16 ?_
  refine lv_imul hx hb dX8_readRule_17 ?_
  refine lv_iadd hx hb dX8_readRule_18 ?_
  obtain ⟨x_7, e_8, h⟩ := nmI_some h
  refine g_nmi e_8 ?_
  refine lv_istore_n (lv' := [(1, .int x_7), (0, .ref (al 0))]) hx hb dX8_readRule_19 rfl hl (by decide) rfl (fun ls hl => ?_)
  refine lv_iconst (v := 1) hx hb dX8_readRule_20 (by decide) ?_
  refine lv_istore_n (lv' := [(2, .int 1), (1, .int x_7), (0, .ref (al 0))]) hx hb dX8_readRule_21 rfl hl (by decide) rfl (fun ls hl => ?_)
  obtain ⟨V_23, h_22, h⟩ := bnd_some h
  refine Lp22 x_7 L0 1000 1 V_3  _ _ _ _ h_22 hW (lv_sub hl [2, 1, 0] rfl) ?_
  intro w0 eo H locs ls hW hl
  subst eo
  exact J49 V_23 _ _ _ h hW hl
theorem cwX8_readRule {R : Room} {s : State} {args : Array Value} {index : Nat} (hts : ∀ w ∈ lw_all, w.before args s = true) (hl : Cond.methodLink RX8 index yX8_readRule ∈ lw_all) (hR : rmX8_readRule.frames + 1 ≤ R.frames ∧ 8 + (3 + 11) + rmX8_readRule.locals ≤ R.locals) : CallW R s args RX8 RX8 index yX8_readRule cX8_readRule 3 (none) (ws_ yX8_readRule cX8_readRule 3 (none)) rmX8_readRule 0 0 0 := cwV 0 hts (lw_V hl q1740 qs71 q122 q1741) rfl rfl rfl (by decide +kernel) hR
def tw_leadOf (V0 : g_V) (a1 : Int32) : Option (Int32) :=
  bnd (tw_isFrozen V0 a1) (fun x_3 => if x_3 = 0 then (bnd (tw_groundOf V0 a1 0) (fun x_7 => some x_7)) else (bnd (tw_groundOf V0 a1 1) (fun x_10 => some x_10)))
abbrev rmX8_leadOf : Room := rm_ 2 43
set_option maxHeartbeats 4000000 in
theorem metX8_leadOf {l : Launch} {gp : Nat → Nat} {nx : Nat} {D : va_G} {K : Nat → ClassId} {al : Nat → Nat} {V0 : g_V} {L0 : g_L} {a1 : Int32} {r : Int32} (h : tw_leadOf V0 a1 = some r) : Met l yX8_leadOf (ws_ yX8_leadOf cX8_leadOf 2 (some .int)) rmX8_leadOf (twPc gp nx [.ref (al 0), .int a1] D K al V0 L0) (twQi r nx D K al V0 L0) 0 0 (g_A al twSh) := by
  refine g_met rfl (Nat.le_of_ble_eq_true rfl) ?_
  intro p e s m below meth c ls S hr hlk hnm hl hW
  have S : CallFix p m c cX8_leadOf 2 s ([.ref (al 0), .int a1] : List Value).toArray lw_all RX8 := S
  have hx := S.1
  have hb := S.2.1
  have hl : lv_has ls 2 [(0, .ref (al 0)), (1, .int a1)] := hl
  unfold tw_leadOf at h
  refine lv_aload_n hx hb dX8_leadOf_0 rfl (lv_at hl 0 rfl) ?_
  refine lv_iload_n hx hb dX8_leadOf_1 rfl (lv_at hl 1 rfl) ?_
  refine lv_aload_n hx hb dX8_leadOf_2 rfl (lv_at hl 0 rfl) ?_
  refine lv_iload_n hx hb dX8_leadOf_3 rfl (lv_at hl 1 rfl) ?_
  obtain ⟨x_3, h_1, h⟩ := bnd_some h
  refine g_callVi (As := [.int a1]) (rest := [.int a1, .ref (al 0)]) S hW (metX8_isFrozen h_1) (cwX8_isFrozen S.2.2.2.2 q1789 ⟨Nat.le_of_ble_eq_true rfl, Nat.le_of_ble_eq_true rfl⟩) (k := 0) rfl rfl rfl hl.1 rfl (Nat.le_of_ble_eq_true rfl) dX8_leadOf_4 ⟨Nat.le_refl _, Nat.le_refl _⟩ (fun H locs hW => ?_)
  refine lv_if_eq (tgt := 14) hx hb dX8_leadOf_7 (by decide) (fun c_4 => ?_) (fun c_4 => ?_)
  · have h := if_t h c_4
    refine lv_iconst (v := 0) hx hb dX8_leadOf_14 (by decide) ?_
    obtain ⟨x_7, h_5, h⟩ := bnd_some h
    refine g_callVi (As := [.int a1, .int 0]) (rest := []) S hW (metX8_groundOf h_5) (cwX8_groundOf S.2.2.2.2 q1793 ⟨Nat.le_of_ble_eq_true rfl, Nat.le_of_ble_eq_true rfl⟩) (k := 0) rfl rfl rfl hl.1 rfl (Nat.le_of_ble_eq_true rfl) dX8_leadOf_15 ⟨Nat.le_refl _, Nat.le_refl _⟩ (fun H locs hW => ?_)
    cases h
    exact g_iret S hr hlk hW dX8_leadOf_18
  · have h := if_f h c_4
    refine lv_iconst (v := 1) hx hb dX8_leadOf_10 (by decide) ?_
    refine lv_goto (tgt := 15) hx hb dX8_leadOf_11 (by decide) ?_
    obtain ⟨x_10, h_8, h⟩ := bnd_some h
    refine g_callVi (As := [.int a1, .int 1]) (rest := []) S hW (metX8_groundOf h_8) (cwX8_groundOf S.2.2.2.2 q1793 ⟨Nat.le_of_ble_eq_true rfl, Nat.le_of_ble_eq_true rfl⟩) (k := 0) rfl rfl rfl hl.1 rfl (Nat.le_of_ble_eq_true rfl) dX8_leadOf_15 ⟨Nat.le_refl _, Nat.le_refl _⟩ (fun H locs hW => ?_)
    cases h
    exact g_iret S hr hlk hW dX8_leadOf_18
theorem cwX8_leadOf {R : Room} {s : State} {args : Array Value} {index : Nat} (hts : ∀ w ∈ lw_all, w.before args s = true) (hl : Cond.methodLink RX8 index yX8_leadOf ∈ lw_all) (hR : rmX8_leadOf.frames + 1 ≤ R.frames ∧ 8 + (2 + 11) + rmX8_leadOf.locals ≤ R.locals) : CallW R s args RX8 RX8 index yX8_leadOf cX8_leadOf 2 (some .int) (ws_ yX8_leadOf cX8_leadOf 2 (some .int)) rmX8_leadOf 0 0 1 := cwV 1 hts (lw_V hl q1787 qs77 q122 q1788) rfl rfl rfl (by decide +kernel) hR
def tw_leastOut_B2 (x1 : Int32) (x2 : Int32) (rec : Int32 → g_V → Option (g_V)) (x3 : Int32) (V : g_V) : Option (g_V) :=
  if 144 ≤ x3 then (some V) else (wrI V 26 144 x3 (-1) fun V_4 => nmI (x3 + 1) fun x_5 => rec x_5 V_4)
abbrev tw_leastOut_F2 (x1 : Int32) (x2 : Int32) : ((Int32 × g_V) → Option (g_V)) → (Int32 × g_V) → Option (g_V) := fun rec s => tw_leastOut_B2 x1 x2 (fun x3 V => rec (x3, V)) s.1 s.2
def tw_leastOut_L2 (x1 : Int32) (x2 : Int32) (n : Nat) (x3 : Int32) (V : g_V) : Option (g_V) := lp (tw_leastOut_F2 x1 x2) n (x3, V)
theorem tw_leastOut_L2_s (x1 : Int32) (x2 : Int32) (n : Nat) (x3 : Int32) (V : g_V) : tw_leastOut_L2 x1 x2 (n + 1) x3 V = tw_leastOut_B2 x1 x2 (fun x3 V => tw_leastOut_L2 x1 x2 n x3 V) x3 V := lp_s (tw_leastOut_F2 x1 x2) n (x3, V)
def tw_leastOut_B95 (x1 : Int32) (x2 : Int32) (x3 : Int32) (x4 : Int32) (x5 : Int32) (V : g_V) (rec : Int32 → Int32 → Option (Int32)) (x6 : Int32) (x7 : Int32) : Option (Int32) :=
  if 4 ≤ x7 then (some x6) else (bnd (tw_beside x4 x7) (fun x_30 => if x_30 = (-1) then (nmI (x7 + 1) fun x_32 => rec x6 x_32) else (rdI (V 26) 144 x_30 fun x_34 => if x_34 = (-1) then (nmI (x7 + 1) fun x_38 => rec x6 x_38) else (if x6 = (-1) then (rdI (V 26) 144 x_30 fun x_41 => nmI (x_41 + x5) fun x_44 => nmI (x7 + 1) fun x_46 => rec x_44 x_46) else (rdI (V 26) 144 x_30 fun x_48 => if x6 ≤ (x_48 + x5) then (nmI (x7 + 1) fun x_52 => rec x6 x_52) else (rdI (V 26) 144 x_30 fun x_54 => nmI (x_54 + x5) fun x_57 => nmI (x7 + 1) fun x_59 => rec x_57 x_59))))))
abbrev tw_leastOut_F95 (x1 : Int32) (x2 : Int32) (x3 : Int32) (x4 : Int32) (x5 : Int32) (V : g_V) : ((Int32 × Int32) → Option (Int32)) → (Int32 × Int32) → Option (Int32) := fun rec s => tw_leastOut_B95 x1 x2 x3 x4 x5 V (fun x6 x7 => rec (x6, x7)) s.1 s.2
def tw_leastOut_L95 (x1 : Int32) (x2 : Int32) (x3 : Int32) (x4 : Int32) (x5 : Int32) (V : g_V) (n : Nat) (x6 : Int32) (x7 : Int32) : Option (Int32) := lp (tw_leastOut_F95 x1 x2 x3 x4 x5 V) n (x6, x7)
theorem tw_leastOut_L95_s (x1 : Int32) (x2 : Int32) (x3 : Int32) (x4 : Int32) (x5 : Int32) (V : g_V) (n : Nat) (x6 : Int32) (x7 : Int32) : tw_leastOut_L95 x1 x2 x3 x4 x5 V (n + 1) x6 x7 = tw_leastOut_B95 x1 x2 x3 x4 x5 V (fun x6 x7 => tw_leastOut_L95 x1 x2 x3 x4 x5 V n x6 x7) x6 x7 := lp_s (tw_leastOut_F95 x1 x2 x3 x4 x5 V) n (x6, x7)
def tw_leastOut_J90 (rec : Int32 → Int32 → g_V → Option (Int32 × g_V)) (x1 : Int32) (x2 : Int32) (x3 : Int32) (x4 : Int32) (x5 : Int32) (z0 : Int32) (V : g_V) : Option (Int32 × g_V) :=
  bnd (tw_leastOut_L95 x1 x2 x3 x4 x5 V 100000 z0 0) (fun x_63 => if x_63 = (-1) then (nmI (x4 + 1) fun x_65 => rec x3 x_65 V) else (rdI (V 26) 144 x4 fun x_67 => if x_67 = (-1) then (wrI V 26 144 x4 x_63 fun V_73 => nmI (x4 + 1) fun x_74 => rec 1 x_74 V_73) else (rdI (V 26) 144 x4 fun x_76 => if x_63 < x_76 then (wrI V 26 144 x4 x_63 fun V_82 => nmI (x4 + 1) fun x_83 => rec 1 x_83 V_82) else (nmI (x4 + 1) fun x_85 => rec x3 x_85 V))))
def tw_leastOut_J55 (rec : Int32 → Int32 → g_V → Option (Int32 × g_V)) (x1 : Int32) (x2 : Int32) (x3 : Int32) (x4 : Int32) (z0 : Int32) (V : g_V) : Option (Int32 × g_V) :=
  bnd (tw_isShaft V x4) (fun x_18 => if x_18 = 0 then (if z0 = (-1) then (nmI (x4 + 1) fun x_87 => rec x3 x_87 V) else (bnd (tw_isBesideShaft V x4) (fun x_25 => if x_25 = 0 then (tw_leastOut_J90 rec x1 x2 x3 x4 z0 (-1) V) else (tw_leastOut_J90 rec x1 x2 x3 x4 z0 z0 V)))) else (nmI (x4 + 1) fun x_20 => rec x3 x_20 V))
def tw_leastOut_B33 (x1 : Int32) (x2 : Int32) (rec : Int32 → Int32 → g_V → Option (Int32 × g_V)) (x3 : Int32) (x4 : Int32) (V : g_V) : Option (Int32 × g_V) :=
  if 144 ≤ x4 then (some (x3, V)) else (bnd (tw_isFrozen V x4) (fun x_14 => if x_14 = 0 then (tw_leastOut_J55 rec x1 x2 x3 x4 x2 V) else (tw_leastOut_J55 rec x1 x2 x3 x4 x1 V)))
abbrev tw_leastOut_F33 (x1 : Int32) (x2 : Int32) : ((Int32 × Int32 × g_V) → Option (Int32 × g_V)) → (Int32 × Int32 × g_V) → Option (Int32 × g_V) := fun rec s => tw_leastOut_B33 x1 x2 (fun x3 x4 V => rec (x3, x4, V)) s.1 s.2.1 s.2.2
def tw_leastOut_L33 (x1 : Int32) (x2 : Int32) (n : Nat) (x3 : Int32) (x4 : Int32) (V : g_V) : Option (Int32 × g_V) := lp (tw_leastOut_F33 x1 x2) n (x3, x4, V)
theorem tw_leastOut_L33_s (x1 : Int32) (x2 : Int32) (n : Nat) (x3 : Int32) (x4 : Int32) (V : g_V) : tw_leastOut_L33 x1 x2 (n + 1) x3 x4 V = tw_leastOut_B33 x1 x2 (fun x3 x4 V => tw_leastOut_L33 x1 x2 n x3 x4 V) x3 x4 V := lp_s (tw_leastOut_F33 x1 x2) n (x3, x4, V)
def tw_leastOut_B24 (x1 : Int32) (x2 : Int32) (rec : Int32 → g_V → Option (g_V)) (x3 : Int32) (V : g_V) : Option (g_V) :=
  if x3 = 0 then (some V) else (bnd (tw_leastOut_L33 x1 x2 100000 0 0 V) (un2 fun x_91 V_92 => rec x_91 V_92))
abbrev tw_leastOut_F24 (x1 : Int32) (x2 : Int32) : ((Int32 × g_V) → Option (g_V)) → (Int32 × g_V) → Option (g_V) := fun rec s => tw_leastOut_B24 x1 x2 (fun x3 V => rec (x3, V)) s.1 s.2
def tw_leastOut_L24 (x1 : Int32) (x2 : Int32) (n : Nat) (x3 : Int32) (V : g_V) : Option (g_V) := lp (tw_leastOut_F24 x1 x2) n (x3, V)
theorem tw_leastOut_L24_s (x1 : Int32) (x2 : Int32) (n : Nat) (x3 : Int32) (V : g_V) : tw_leastOut_L24 x1 x2 (n + 1) x3 V = tw_leastOut_B24 x1 x2 (fun x3 V => tw_leastOut_L24 x1 x2 n x3 V) x3 V := lp_s (tw_leastOut_F24 x1 x2) n (x3, V)
def tw_leastOut_B224 (V : g_V) (rec : Int32 → Int32 → Option (Int32)) (x4 : Int32) (x5 : Int32) : Option (Int32) :=
  if 144 ≤ x5 then (some x4) else (bnd (tw_isRim x5) (fun x_99 => if x_99 = 0 then (nmI (x5 + 1) fun x_101 => rec x4 x_101) else (rdI (V 26) 144 x5 fun x_103 => if x_103 = (-1) then (nmI (x5 + 1) fun x_107 => rec x4 x_107) else (if x4 = (-1) then (rdI (V 26) 144 x5 fun x_110 => nmI (x5 + 1) fun x_113 => rec x_110 x_113) else (rdI (V 26) 144 x5 fun x_115 => if x4 ≤ x_115 then (nmI (x5 + 1) fun x_119 => rec x4 x_119) else (rdI (V 26) 144 x5 fun x_121 => nmI (x5 + 1) fun x_124 => rec x_121 x_124))))))
abbrev tw_leastOut_F224 (V : g_V) : ((Int32 × Int32) → Option (Int32)) → (Int32 × Int32) → Option (Int32) := fun rec s => tw_leastOut_B224 V (fun x4 x5 => rec (x4, x5)) s.1 s.2
def tw_leastOut_L224 (V : g_V) (n : Nat) (x4 : Int32) (x5 : Int32) : Option (Int32) := lp (tw_leastOut_F224 V) n (x4, x5)
theorem tw_leastOut_L224_s (V : g_V) (n : Nat) (x4 : Int32) (x5 : Int32) : tw_leastOut_L224 V (n + 1) x4 x5 = tw_leastOut_B224 V (fun x4 x5 => tw_leastOut_L224 V n x4 x5) x4 x5 := lp_s (tw_leastOut_F224 V) n (x4, x5)
def tw_leastOut (V0 : g_V) (a1 : Int32) (a2 : Int32) : Option (Int32 × g_V) :=
  bnd (tw_leastOut_L2 a1 a2 100000 0 V0) (fun V_9 => bnd (tw_leastOut_L24 a1 a2 100000 1 V_9) (fun V_95 => bnd (tw_leastOut_L224 V_95 100000 (-1) 0) (fun x_128 => some (x_128, V_95))))
abbrev rmX8_leastOut : Room := rm_ 4 92
set_option maxHeartbeats 4000000 in
theorem metX8_leastOut {l : Launch} {gp : Nat → Nat} {nx : Nat} {D : va_G} {K : Nat → ClassId} {al : Nat → Nat} {V0 : g_V} {L0 : g_L} {a1 : Int32} {a2 : Int32} {r : Int32} {V' : g_V} (h : tw_leastOut V0 a1 a2 = some (r, V')) : Met l yX8_leastOut (ws_ yX8_leastOut cX8_leastOut 9 (some .int)) rmX8_leastOut (twPc gp nx [.ref (al 0), .int a1, .int a2] D K al V0 L0) (twQi r nx D K al V' L0) 0 0 (g_A al twSh) := by
  refine g_met rfl (Nat.le_of_ble_eq_true rfl) ?_
  intro p e s m below meth c ls S hr hlk hnm hl hW
  have S : CallFix p m c cX8_leastOut 9 s ([.ref (al 0), .int a1, .int a2] : List Value).toArray lw_all RX8 := S
  have hx := S.1
  have hb := S.2.1
  have hl : lv_has ls 9 [(0, .ref (al 0)), (1, .int a1), (2, .int a2)] := hl
  have Lp2 : ∀ (x1 : Int32) (x2 : Int32) (L : g_L) (n : Nat) (x3 : Int32) (V : g_V) (out : (g_V)) (H : Heap) (locs : List Loc) (ls : Array Slot), tw_leastOut_L2 x1 x2 n x3 V = some out → twW gp nx D K al s V L H locs → lv_has ls 9 [(0, .ref (al 0)), (1, .int x1), (2, .int x2), (3, .int x3)] → (∀ (oV : g_V), out = oV → ∀ (H : Heap) (locs : List Loc) (ls : Array Slot), twW gp nx D K al s oV L H locs → lv_has ls 9 [(0, .ref (al 0)), (1, .int x1), (2, .int x2)] → W p l e rmX8_leastOut s m ([.ref (al 0), .int a1, .int a2] : List Value).toArray below meth c H locs 0 0 (MQ below (twQi r nx D K al V' L0) ([.ref (al 0), .int a1, .int a2] : List Value).toArray s 0 0 (g_A al twSh)) (F0 m 22 ls [])) → W p l e rmX8_leastOut s m ([.ref (al 0), .int a1, .int a2] : List Value).toArray below meth c H locs 0 0 (MQ below (twQi r nx D K al V' L0) ([.ref (al 0), .int a1, .int a2] : List Value).toArray s 0 0 (g_A al twSh)) (F0 m 2 ls []) := by
    intro x1 x2 L n
    induction n with
    | zero =>
      intro x3 V out H locs ls h
      exact (lp_0 h).elim
    | succ n ih =>
      intro x3 V out H locs ls h hW hl k1
      rw [tw_leastOut_L2_s] at h
      unfold tw_leastOut_B2 at h
      refine lv_iload_n hx hb dX8_leastOut_2 rfl (lv_at hl 3 rfl) ?_
      refine lv_sipush (v := 144) hx hb dX8_leastOut_3 (by decide) ?_
      refine lv_icmp_ge (tgt := 22) hx hb dX8_leastOut_6 (by decide) (fun c_1 => ?_) (fun c_1 => ?_)
      · have h := if_t h c_1
        exact k1 _ (Option.some.inj h).symm _ _ _ hW (lv_sub hl [0, 1, 2] rfl)
      · have h := if_f h c_1
        refine lv_aload_n hx hb dX8_leastOut_9 rfl (lv_at hl 0 rfl) ?_
        refine tw_ref S hW 26 26 (by decide) rfl q1525 rfl dX8_leastOut_10 ?_
        refine lv_iload_n hx hb dX8_leastOut_13 rfl (lv_at hl 3 rfl) ?_
        refine lv_iconst (v := (-1)) hx hb dX8_leastOut_14 (by decide) ?_
        obtain ⟨h_2, V_4, e_3, h⟩ := wrI_some h
        refine g_iast S hW (k := 26) rfl rfl h_2 e_3 dX8_leastOut_15 (fun H locs hW => ?_)
        obtain ⟨x_5, e_6, h⟩ := nmI_some h
        refine lv_iinc (v := x_5) (lv' := [(3, .int x_5), (0, .ref (al 0)), (1, .int x1), (2, .int x2)]) hx hb dX8_leastOut_16 hl (k := 3) rfl (by rw [e_6]; rfl) (by decide) rfl (fun ls hl => ?_)
        refine lv_goto (tgt := 2) hx hb dX8_leastOut_19 (by decide) ?_
        exact ih x_5 V_4 out _ _ _ h hW (lv_sub hl [1, 2, 3, 0] rfl) k1
  have Lp95 : ∀ (x1 : Int32) (x2 : Int32) (x3 : Int32) (x4 : Int32) (x5 : Int32) (V : g_V) (L : g_L) (n : Nat) (x6 : Int32) (x7 : Int32) (out : (Int32)) (H : Heap) (locs : List Loc) (ls : Array Slot), tw_leastOut_L95 x1 x2 x3 x4 x5 V n x6 x7 = some out → twW gp nx D K al s V L H locs → lv_has ls 9 [(0, .ref (al 0)), (1, .int x1), (2, .int x2), (3, .int x3), (4, .int x4), (5, .int x5), (6, .int x6), (7, .int x7)] → (∀ (o6 : Int32), out = o6 → ∀ (H : Heap) (locs : List Loc) (ls : Array Slot), twW gp nx D K al s V L H locs → lv_has ls 9 [(0, .ref (al 0)), (1, .int x1), (2, .int x2), (3, .int x3), (4, .int x4), (6, .int o6)] → W p l e rmX8_leastOut s m ([.ref (al 0), .int a1, .int a2] : List Value).toArray below meth c H locs 0 0 (MQ below (twQi r nx D K al V' L0) ([.ref (al 0), .int a1, .int a2] : List Value).toArray s 0 0 (g_A al twSh)) (F0 m 166 ls [])) → W p l e rmX8_leastOut s m ([.ref (al 0), .int a1, .int a2] : List Value).toArray below meth c H locs 0 0 (MQ below (twQi r nx D K al V' L0) ([.ref (al 0), .int a1, .int a2] : List Value).toArray s 0 0 (g_A al twSh)) (F0 m 95 ls []) := by
    intro x1 x2 x3 x4 x5 V L n
    induction n with
    | zero =>
      intro x6 x7 out H locs ls h
      exact (lp_0 h).elim
    | succ n ih =>
      intro x6 x7 out H locs ls h hW hl k1
      rw [tw_leastOut_L95_s] at h
      unfold tw_leastOut_B95 at h
      refine lv_iload hx hb dX8_leastOut_95 (lv_at hl 7 rfl) ?_
      refine lv_iconst (v := 4) hx hb dX8_leastOut_97 (by decide) ?_
      refine lv_icmp_ge (tgt := 166) hx hb dX8_leastOut_98 (by decide) (fun c_27 => ?_) (fun c_27 => ?_)
      · have h := if_t h c_27
        exact k1 _ (Option.some.inj h).symm _ _ _ hW (lv_sub hl [0, 1, 2, 3, 4, 6] rfl)
      · have h := if_f h c_27
        refine lv_iload hx hb dX8_leastOut_101 (lv_at hl 4 rfl) ?_
        refine lv_iload hx hb dX8_leastOut_103 (lv_at hl 7 rfl) ?_
        obtain ⟨x_30, h_28, h⟩ := bnd_some h
        refine g_callSi (As := [.int x4, .int x7]) (rest := []) S hW (metX8_beside h_28) (cwX8_beside S.2.2.2.2 q1779 ⟨Nat.le_of_ble_eq_true rfl, Nat.le_of_ble_eq_true rfl⟩) rfl hl.1 rfl (Nat.le_of_ble_eq_true rfl) dX8_leastOut_105 ⟨Nat.le_refl _, Nat.le_refl _⟩ (fun H locs hW => ?_)
        refine lv_istore (lv' := [(8, .int x_30), (0, .ref (al 0)), (1, .int x1), (2, .int x2), (3, .int x3), (4, .int x4), (5, .int x5), (6, .int x6), (7, .int x7)]) hx hb dX8_leastOut_108 hl (by decide) rfl (fun ls hl => ?_)
        refine lv_iload hx hb dX8_leastOut_110 (lv_at hl 0 rfl) ?_
        refine lv_iconst (v := (-1)) hx hb dX8_leastOut_112 (by decide) ?_
        refine lv_icmp_eq (tgt := 160) hx hb dX8_leastOut_113 (by decide) (fun c_31 => ?_) (fun c_31 => ?_)
        · have h := if_t h c_31
          obtain ⟨x_32, e_33, h⟩ := nmI_some h
          refine lv_iinc (v := x_32) (lv' := [(7, .int x_32), (8, .int x_30), (0, .ref (al 0)), (1, .int x1), (2, .int x2), (3, .int x3), (4, .int x4), (5, .int x5), (6, .int x6)]) hx hb dX8_leastOut_160 hl (k := 8) rfl (by rw [e_33]; rfl) (by decide) rfl (fun ls hl => ?_)
          refine lv_goto (tgt := 95) hx hb dX8_leastOut_163 (by decide) ?_
          exact ih x6 x_32 out _ _ _ h hW (lv_sub hl [2, 3, 4, 5, 6, 7, 8, 0] rfl) k1
        · have h := if_f h c_31
          refine lv_aload_n hx hb dX8_leastOut_116 rfl (lv_at hl 1 rfl) ?_
          refine tw_ref S hW 26 26 (by decide) rfl q1525 rfl dX8_leastOut_117 ?_
          refine lv_iload hx hb dX8_leastOut_120 (lv_at hl 0 rfl) ?_
          obtain ⟨h_35, x_34, e_36, h⟩ := rdI_some h
          refine g_iald S hW (k := 26) rfl rfl h_35 e_36 dX8_leastOut_122 ?_
          refine lv_iconst (v := (-1)) hx hb dX8_leastOut_123 (by decide) ?_
          refine lv_icmp_eq (tgt := 160) hx hb dX8_leastOut_124 (by decide) (fun c_37 => ?_) (fun c_37 => ?_)
          · have h := if_t h c_37
            obtain ⟨x_38, e_39, h⟩ := nmI_some h
            refine lv_iinc (v := x_38) (lv' := [(7, .int x_38), (8, .int x_30), (0, .ref (al 0)), (1, .int x1), (2, .int x2), (3, .int x3), (4, .int x4), (5, .int x5), (6, .int x6)]) hx hb dX8_leastOut_160 hl (k := 8) rfl (by rw [e_39]; rfl) (by decide) rfl (fun ls hl => ?_)
            refine lv_goto (tgt := 95) hx hb dX8_leastOut_163 (by decide) ?_
            exact ih x6 x_38 out _ _ _ h hW (lv_sub hl [2, 3, 4, 5, 6, 7, 8, 0] rfl) k1
          · have h := if_f h c_37
            refine lv_iload hx hb dX8_leastOut_127 (lv_at hl 7 rfl) ?_
            refine lv_iconst (v := (-1)) hx hb dX8_leastOut_129 (by decide) ?_
            refine lv_icmp_eq (tgt := 148) hx hb dX8_leastOut_130 (by decide) (fun c_40 => ?_) (fun c_40 => ?_)
            · have h := if_t h c_40
              refine lv_aload_n hx hb dX8_leastOut_148 rfl (lv_at hl 1 rfl) ?_
              refine tw_ref S hW 26 26 (by decide) rfl q1525 rfl dX8_leastOut_149 ?_
              refine lv_iload hx hb dX8_leastOut_152 (lv_at hl 0 rfl) ?_
              obtain ⟨h_42, x_41, e_43, h⟩ := rdI_some h
              refine g_iald S hW (k := 26) rfl rfl h_42 e_43 dX8_leastOut_154 ?_
              refine lv_iload hx hb dX8_leastOut_155 (lv_at hl 6 rfl) ?_
              refine lv_iadd hx hb dX8_leastOut_157 ?_
              obtain ⟨x_44, e_45, h⟩ := nmI_some h
              refine g_nmi e_45 ?_
              refine lv_istore (lv' := [(6, .int x_44), (8, .int x_30), (0, .ref (al 0)), (1, .int x1), (2, .int x2), (3, .int x3), (4, .int x4), (5, .int x5), (7, .int x7)]) hx hb dX8_leastOut_158 hl (by decide) rfl (fun ls hl => ?_)
              obtain ⟨x_46, e_47, h⟩ := nmI_some h
              refine lv_iinc (v := x_46) (lv' := [(7, .int x_46), (6, .int x_44), (8, .int x_30), (0, .ref (al 0)), (1, .int x1), (2, .int x2), (3, .int x3), (4, .int x4), (5, .int x5)]) hx hb dX8_leastOut_160 hl (k := 8) rfl (by rw [e_47]; rfl) (by decide) rfl (fun ls hl => ?_)
              refine lv_goto (tgt := 95) hx hb dX8_leastOut_163 (by decide) ?_
              exact ih x_44 x_46 out _ _ _ h hW (lv_sub hl [3, 4, 5, 6, 7, 8, 1, 0] rfl) k1
            · have h := if_f h c_40
              refine lv_aload_n hx hb dX8_leastOut_133 rfl (lv_at hl 1 rfl) ?_
              refine tw_ref S hW 26 26 (by decide) rfl q1525 rfl dX8_leastOut_134 ?_
              refine lv_iload hx hb dX8_leastOut_137 (lv_at hl 0 rfl) ?_
              obtain ⟨h_49, x_48, e_50, h⟩ := rdI_some h
              refine g_iald S hW (k := 26) rfl rfl h_49 e_50 dX8_leastOut_139 ?_
              refine lv_iload hx hb dX8_leastOut_140 (lv_at hl 6 rfl) ?_
              refine lv_iadd hx hb dX8_leastOut_142 ?_
              refine lv_iload hx hb dX8_leastOut_143 (lv_at hl 7 rfl) ?_
              refine lv_icmp_ge (tgt := 160) hx hb dX8_leastOut_145 (by decide) (fun c_51 => ?_) (fun c_51 => ?_)
              · have h := if_t h c_51
                obtain ⟨x_52, e_53, h⟩ := nmI_some h
                refine lv_iinc (v := x_52) (lv' := [(7, .int x_52), (8, .int x_30), (0, .ref (al 0)), (1, .int x1), (2, .int x2), (3, .int x3), (4, .int x4), (5, .int x5), (6, .int x6)]) hx hb dX8_leastOut_160 hl (k := 8) rfl (by rw [e_53]; rfl) (by decide) rfl (fun ls hl => ?_)
                refine lv_goto (tgt := 95) hx hb dX8_leastOut_163 (by decide) ?_
                exact ih x6 x_52 out _ _ _ h hW (lv_sub hl [2, 3, 4, 5, 6, 7, 8, 0] rfl) k1
              · have h := if_f h c_51
                refine lv_aload_n hx hb dX8_leastOut_148 rfl (lv_at hl 1 rfl) ?_
                refine tw_ref S hW 26 26 (by decide) rfl q1525 rfl dX8_leastOut_149 ?_
                refine lv_iload hx hb dX8_leastOut_152 (lv_at hl 0 rfl) ?_
                obtain ⟨h_55, x_54, e_56, h⟩ := rdI_some h
                refine g_iald S hW (k := 26) rfl rfl h_55 e_56 dX8_leastOut_154 ?_
                refine lv_iload hx hb dX8_leastOut_155 (lv_at hl 6 rfl) ?_
                refine lv_iadd hx hb dX8_leastOut_157 ?_
                obtain ⟨x_57, e_58, h⟩ := nmI_some h
                refine g_nmi e_58 ?_
                refine lv_istore (lv' := [(6, .int x_57), (8, .int x_30), (0, .ref (al 0)), (1, .int x1), (2, .int x2), (3, .int x3), (4, .int x4), (5, .int x5), (7, .int x7)]) hx hb dX8_leastOut_158 hl (by decide) rfl (fun ls hl => ?_)
                obtain ⟨x_59, e_60, h⟩ := nmI_some h
                refine lv_iinc (v := x_59) (lv' := [(7, .int x_59), (6, .int x_57), (8, .int x_30), (0, .ref (al 0)), (1, .int x1), (2, .int x2), (3, .int x3), (4, .int x4), (5, .int x5)]) hx hb dX8_leastOut_160 hl (k := 8) rfl (by rw [e_60]; rfl) (by decide) rfl (fun ls hl => ?_)
                refine lv_goto (tgt := 95) hx hb dX8_leastOut_163 (by decide) ?_
                exact ih x_57 x_59 out _ _ _ h hW (lv_sub hl [3, 4, 5, 6, 7, 8, 1, 0] rfl) k1
  have Lp33 : ∀ (x1 : Int32) (x2 : Int32) (L : g_L) (n : Nat) (x3 : Int32) (x4 : Int32) (V : g_V) (out : (Int32 × g_V)) (H : Heap) (locs : List Loc) (ls : Array Slot), tw_leastOut_L33 x1 x2 n x3 x4 V = some out → twW gp nx D K al s V L H locs → lv_has ls 9 [(0, .ref (al 0)), (1, .int x1), (2, .int x2), (3, .int x3), (4, .int x4)] → (∀ (o3 : Int32) (oV : g_V), out = (o3, oV) → ∀ (H : Heap) (locs : List Loc) (ls : Array Slot), twW gp nx D K al s oV L H locs → lv_has ls 9 [(0, .ref (al 0)), (1, .int x1), (2, .int x2), (3, .int o3)] → W p l e rmX8_leastOut s m ([.ref (al 0), .int a1, .int a2] : List Value).toArray below meth c H locs 0 0 (MQ below (twQi r nx D K al V' L0) ([.ref (al 0), .int a1, .int a2] : List Value).toArray s 0 0 (g_A al twSh)) (F0 m 215 ls [])) → W p l e rmX8_leastOut s m ([.ref (al 0), .int a1, .int a2] : List Value).toArray below meth c H locs 0 0 (MQ below (twQi r nx D K al V' L0) ([.ref (al 0), .int a1, .int a2] : List Value).toArray s 0 0 (g_A al twSh)) (F0 m 33 ls []) := by
    intro x1 x2 L n
    induction n with
    | zero =>
      intro x3 x4 V out H locs ls h
      exact (lp_0 h).elim
    | succ n ih =>
      intro x3 x4 V out H locs ls h hW hl k1
      have J90 : ∀ (x3 : Int32) (x4 : Int32) (x5 : Int32) (z0 : Int32) (V : g_V) (H : Heap) (locs : List Loc) (ls : Array Slot), tw_leastOut_J90 (fun x3 x4 V => tw_leastOut_L33 x1 x2 n x3 x4 V) x1 x2 x3 x4 x5 z0 V = some out → twW gp nx D K al s V L H locs → lv_has ls 9 [(0, .ref (al 0)), (1, .int x1), (2, .int x2), (3, .int x3), (4, .int x4), (5, .int x5)] → W p l e rmX8_leastOut s m ([.ref (al 0), .int a1, .int a2] : List Value).toArray below meth c H locs 0 0 (MQ below (twQi r nx D K al V' L0) ([.ref (al 0), .int a1, .int a2] : List Value).toArray s 0 0 (g_A al twSh)) (F0 m 90 ls [.int z0]) := by
        intro x3 x4 x5 z0 V H locs ls h hW hl
        unfold tw_leastOut_J90 at h
        refine lv_istore (lv' := [(6, .int z0), (0, .ref (al 0)), (1, .int x1), (2, .int x2), (3, .int x3), (4, .int x4), (5, .int x5)]) hx hb dX8_leastOut_90 hl (by decide) rfl (fun ls hl => ?_)
        refine lv_iconst (v := 0) hx hb dX8_leastOut_92 (by decide) ?_
        refine lv_istore (lv' := [(7, .int 0), (6, .int z0), (0, .ref (al 0)), (1, .int x1), (2, .int x2), (3, .int x3), (4, .int x4), (5, .int x5)]) hx hb dX8_leastOut_93 hl (by decide) rfl (fun ls hl => ?_)
        obtain ⟨x_63, h_62, h⟩ := bnd_some h
        refine Lp95 x1 x2 x3 x4 x5 V L 100000 z0 0  _ _ _ _ h_62 hW (lv_sub hl [2, 3, 4, 5, 6, 7, 1, 0] rfl) ?_
        intro w0 eo H locs ls hW hl
        subst eo
        refine lv_iload hx hb dX8_leastOut_166 (lv_at hl 5 rfl) ?_
        refine lv_iconst (v := (-1)) hx hb dX8_leastOut_168 (by decide) ?_
        refine lv_icmp_eq (tgt := 209) hx hb dX8_leastOut_169 (by decide) (fun c_64 => ?_) (fun c_64 => ?_)
        · have h := if_t h c_64
          obtain ⟨x_65, e_66, h⟩ := nmI_some h
          refine lv_iinc (v := x_65) (lv' := [(4, .int x_65), (0, .ref (al 0)), (1, .int x1), (2, .int x2), (3, .int x3), (6, .int x_63)]) hx hb dX8_leastOut_209 hl (k := 4) rfl (by rw [e_66]; rfl) (by decide) rfl (fun ls hl => ?_)
          refine lv_goto (tgt := 33) hx hb dX8_leastOut_212 (by decide) ?_
          exact ih x3 x_65 V out _ _ _ h hW (lv_sub hl [1, 2, 3, 4, 0] rfl) k1
        · have h := if_f h c_64
          refine lv_aload_n hx hb dX8_leastOut_172 rfl (lv_at hl 0 rfl) ?_
          refine tw_ref S hW 26 26 (by decide) rfl q1525 rfl dX8_leastOut_173 ?_
          refine lv_iload hx hb dX8_leastOut_176 (lv_at hl 4 rfl) ?_
          obtain ⟨h_68, x_67, e_69, h⟩ := rdI_some h
          refine g_iald S hW (k := 26) rfl rfl h_68 e_69 dX8_leastOut_178 ?_
          refine lv_iconst (v := (-1)) hx hb dX8_leastOut_179 (by decide) ?_
          refine lv_icmp_eq (tgt := 198) hx hb dX8_leastOut_180 (by decide) (fun c_70 => ?_) (fun c_70 => ?_)
          · have h := if_t h c_70
            refine lv_aload_n hx hb dX8_leastOut_198 rfl (lv_at hl 0 rfl) ?_
            refine tw_ref S hW 26 26 (by decide) rfl q1525 rfl dX8_leastOut_199 ?_
            refine lv_iload hx hb dX8_leastOut_202 (lv_at hl 4 rfl) ?_
            refine lv_iload hx hb dX8_leastOut_204 (lv_at hl 5 rfl) ?_
            obtain ⟨h_71, V_73, e_72, h⟩ := wrI_some h
            refine g_iast S hW (k := 26) rfl rfl h_71 e_72 dX8_leastOut_206 (fun H locs hW => ?_)
            refine lv_iconst (v := 1) hx hb dX8_leastOut_207 (by decide) ?_
            refine lv_istore_n (lv' := [(3, .int 1), (0, .ref (al 0)), (1, .int x1), (2, .int x2), (4, .int x4), (6, .int x_63)]) hx hb dX8_leastOut_208 rfl hl (by decide) rfl (fun ls hl => ?_)
            obtain ⟨x_74, e_75, h⟩ := nmI_some h
            refine lv_iinc (v := x_74) (lv' := [(4, .int x_74), (3, .int 1), (0, .ref (al 0)), (1, .int x1), (2, .int x2), (6, .int x_63)]) hx hb dX8_leastOut_209 hl (k := 4) rfl (by rw [e_75]; rfl) (by decide) rfl (fun ls hl => ?_)
            refine lv_goto (tgt := 33) hx hb dX8_leastOut_212 (by decide) ?_
            exact ih 1 x_74 V_73 out _ _ _ h hW (lv_sub hl [2, 3, 4, 1, 0] rfl) k1
          · have h := if_f h c_70
            refine lv_iload hx hb dX8_leastOut_183 (lv_at hl 5 rfl) ?_
            refine lv_aload_n hx hb dX8_leastOut_185 rfl (lv_at hl 0 rfl) ?_
            refine tw_ref S hW 26 26 (by decide) rfl q1525 rfl dX8_leastOut_186 ?_
            refine lv_iload hx hb dX8_leastOut_189 (lv_at hl 4 rfl) ?_
            obtain ⟨h_77, x_76, e_78, h⟩ := rdI_some h
            refine g_iald S hW (k := 26) rfl rfl h_77 e_78 dX8_leastOut_191 ?_
            refine lv_icmp_lt (tgt := 198) hx hb dX8_leastOut_192 (by decide) (fun c_79 => ?_) (fun c_79 => ?_)
            · have h := if_t h c_79
              refine lv_aload_n hx hb dX8_leastOut_198 rfl (lv_at hl 0 rfl) ?_
              refine tw_ref S hW 26 26 (by decide) rfl q1525 rfl dX8_leastOut_199 ?_
              refine lv_iload hx hb dX8_leastOut_202 (lv_at hl 4 rfl) ?_
              refine lv_iload hx hb dX8_leastOut_204 (lv_at hl 5 rfl) ?_
              obtain ⟨h_80, V_82, e_81, h⟩ := wrI_some h
              refine g_iast S hW (k := 26) rfl rfl h_80 e_81 dX8_leastOut_206 (fun H locs hW => ?_)
              refine lv_iconst (v := 1) hx hb dX8_leastOut_207 (by decide) ?_
              refine lv_istore_n (lv' := [(3, .int 1), (0, .ref (al 0)), (1, .int x1), (2, .int x2), (4, .int x4), (6, .int x_63)]) hx hb dX8_leastOut_208 rfl hl (by decide) rfl (fun ls hl => ?_)
              obtain ⟨x_83, e_84, h⟩ := nmI_some h
              refine lv_iinc (v := x_83) (lv' := [(4, .int x_83), (3, .int 1), (0, .ref (al 0)), (1, .int x1), (2, .int x2), (6, .int x_63)]) hx hb dX8_leastOut_209 hl (k := 4) rfl (by rw [e_84]; rfl) (by decide) rfl (fun ls hl => ?_)
              refine lv_goto (tgt := 33) hx hb dX8_leastOut_212 (by decide) ?_
              exact ih 1 x_83 V_82 out _ _ _ h hW (lv_sub hl [2, 3, 4, 1, 0] rfl) k1
            · have h := if_f h c_79
              refine lv_goto (tgt := 209) hx hb dX8_leastOut_195 (by decide) ?_
              obtain ⟨x_85, e_86, h⟩ := nmI_some h
              refine lv_iinc (v := x_85) (lv' := [(4, .int x_85), (0, .ref (al 0)), (1, .int x1), (2, .int x2), (3, .int x3), (6, .int x_63)]) hx hb dX8_leastOut_209 hl (k := 4) rfl (by rw [e_86]; rfl) (by decide) rfl (fun ls hl => ?_)
              refine lv_goto (tgt := 33) hx hb dX8_leastOut_212 (by decide) ?_
              exact ih x3 x_85 V out _ _ _ h hW (lv_sub hl [1, 2, 3, 4, 0] rfl) k1
      have J55 : ∀ (x3 : Int32) (x4 : Int32) (z0 : Int32) (V : g_V) (H : Heap) (locs : List Loc) (ls : Array Slot), tw_leastOut_J55 (fun x3 x4 V => tw_leastOut_L33 x1 x2 n x3 x4 V) x1 x2 x3 x4 z0 V = some out → twW gp nx D K al s V L H locs → lv_has ls 9 [(0, .ref (al 0)), (1, .int x1), (2, .int x2), (3, .int x3), (4, .int x4)] → W p l e rmX8_leastOut s m ([.ref (al 0), .int a1, .int a2] : List Value).toArray below meth c H locs 0 0 (MQ below (twQi r nx D K al V' L0) ([.ref (al 0), .int a1, .int a2] : List Value).toArray s 0 0 (g_A al twSh)) (F0 m 55 ls [.int z0]) := by
        intro x3 x4 z0 V H locs ls h hW hl
        unfold tw_leastOut_J55 at h
        refine lv_istore (lv' := [(5, .int z0), (0, .ref (al 0)), (1, .int x1), (2, .int x2), (3, .int x3), (4, .int x4)]) hx hb dX8_leastOut_55 hl (by decide) rfl (fun ls hl => ?_)
        refine lv_aload_n hx hb dX8_leastOut_57 rfl (lv_at hl 1 rfl) ?_
        refine lv_iload hx hb dX8_leastOut_58 (lv_at hl 5 rfl) ?_
        obtain ⟨x_18, h_16, h⟩ := bnd_some h
        refine g_callVi (As := [.int x4]) (rest := []) S hW (metX8_isShaft h_16) (cwX8_isShaft S.2.2.2.2 q1827 ⟨Nat.le_of_ble_eq_true rfl, Nat.le_of_ble_eq_true rfl⟩) (k := 0) rfl rfl rfl hl.1 rfl (Nat.le_of_ble_eq_true rfl) dX8_leastOut_60 ⟨Nat.le_refl _, Nat.le_refl _⟩ (fun H locs hW => ?_)
        refine lv_if_ne (tgt := 209) hx hb dX8_leastOut_63 (by decide) (fun c_19 => ?_) (fun c_19 => ?_)
        · have h := if_f h c_19
          obtain ⟨x_20, e_21, h⟩ := nmI_some h
          refine lv_iinc (v := x_20) (lv' := [(4, .int x_20), (5, .int z0), (0, .ref (al 0)), (1, .int x1), (2, .int x2), (3, .int x3)]) hx hb dX8_leastOut_209 hl (k := 5) rfl (by rw [e_21]; rfl) (by decide) rfl (fun ls hl => ?_)
          refine lv_goto (tgt := 33) hx hb dX8_leastOut_212 (by decide) ?_
          exact ih x3 x_20 V out _ _ _ h hW (lv_sub hl [2, 3, 4, 5, 0] rfl) k1
        · have h := if_t h c_19
          refine lv_iload hx hb dX8_leastOut_66 (lv_at hl 0 rfl) ?_
          refine lv_iconst (v := (-1)) hx hb dX8_leastOut_68 (by decide) ?_
          refine lv_icmp_ne (tgt := 75) hx hb dX8_leastOut_69 (by decide) (fun c_22 => ?_) (fun c_22 => ?_)
          · have h := if_f h c_22
            refine lv_aload_n hx hb dX8_leastOut_75 rfl (lv_at hl 1 rfl) ?_
            refine lv_iload hx hb dX8_leastOut_76 (lv_at hl 5 rfl) ?_
            obtain ⟨x_25, h_23, h⟩ := bnd_some h
            refine g_callVi (As := [.int x4]) (rest := []) S hW (metX8_isBesideShaft h_23) (cwX8_isBesideShaft S.2.2.2.2 q1831 ⟨Nat.le_of_ble_eq_true rfl, Nat.le_of_ble_eq_true rfl⟩) (k := 0) rfl rfl rfl hl.1 rfl (Nat.le_of_ble_eq_true rfl) dX8_leastOut_78 ⟨Nat.le_refl _, Nat.le_refl _⟩ (fun H locs hW => ?_)
            refine lv_if_eq (tgt := 89) hx hb dX8_leastOut_81 (by decide) (fun c_26 => ?_) (fun c_26 => ?_)
            · have h := if_t h c_26
              refine lv_iconst (v := (-1)) hx hb dX8_leastOut_89 (by decide) ?_
              exact J90 x3 x4 z0 (-1) V _ _ _ h hW (lv_sub hl [1, 2, 3, 4, 5, 0] rfl)
            · have h := if_f h c_26
              refine lv_iload hx hb dX8_leastOut_84 (lv_at hl 0 rfl) ?_
              refine lv_goto (tgt := 90) hx hb dX8_leastOut_86 (by decide) ?_
              exact J90 x3 x4 z0 z0 V _ _ _ h hW (lv_sub hl [1, 2, 3, 4, 5, 0] rfl)
          · have h := if_t h c_22
            refine lv_goto (tgt := 209) hx hb dX8_leastOut_72 (by decide) ?_
            obtain ⟨x_87, e_88, h⟩ := nmI_some h
            refine lv_iinc (v := x_87) (lv' := [(4, .int x_87), (5, .int z0), (0, .ref (al 0)), (1, .int x1), (2, .int x2), (3, .int x3)]) hx hb dX8_leastOut_209 hl (k := 5) rfl (by rw [e_88]; rfl) (by decide) rfl (fun ls hl => ?_)
            refine lv_goto (tgt := 33) hx hb dX8_leastOut_212 (by decide) ?_
            exact ih x3 x_87 V out _ _ _ h hW (lv_sub hl [2, 3, 4, 5, 0] rfl) k1
      rw [tw_leastOut_L33_s] at h
      unfold tw_leastOut_B33 at h
      refine lv_iload hx hb dX8_leastOut_33 (lv_at hl 4 rfl) ?_
      refine lv_sipush (v := 144) hx hb dX8_leastOut_35 (by decide) ?_
      refine lv_icmp_ge (tgt := 215) hx hb dX8_leastOut_38 (by decide) (fun c_11 => ?_) (fun c_11 => ?_)
      · have h := if_t h c_11
        exact k1 _ _ (Option.some.inj h).symm _ _ _ hW (lv_sub hl [0, 1, 2, 3] rfl)
      · have h := if_f h c_11
        refine lv_aload_n hx hb dX8_leastOut_41 rfl (lv_at hl 0 rfl) ?_
        refine lv_iload hx hb dX8_leastOut_42 (lv_at hl 4 rfl) ?_
        obtain ⟨x_14, h_12, h⟩ := bnd_some h
        refine g_callVi (As := [.int x4]) (rest := []) S hW (metX8_isFrozen h_12) (cwX8_isFrozen S.2.2.2.2 q1789 ⟨Nat.le_of_ble_eq_true rfl, Nat.le_of_ble_eq_true rfl⟩) (k := 0) rfl rfl rfl hl.1 rfl (Nat.le_of_ble_eq_true rfl) dX8_leastOut_44 ⟨Nat.le_refl _, Nat.le_refl _⟩ (fun H locs hW => ?_)
        refine lv_if_eq (tgt := 54) hx hb dX8_leastOut_47 (by decide) (fun c_15 => ?_) (fun c_15 => ?_)
        · have h := if_t h c_15
          refine lv_iload_n hx hb dX8_leastOut_54 rfl (lv_at hl 2 rfl) ?_
          exact J55 x3 x4 x2 V _ _ _ h hW hl
        · have h := if_f h c_15
          refine lv_iload_n hx hb dX8_leastOut_50 rfl (lv_at hl 1 rfl) ?_
          refine lv_goto (tgt := 55) hx hb dX8_leastOut_51 (by decide) ?_
          exact J55 x3 x4 x1 V _ _ _ h hW hl
  have Lp24 : ∀ (x1 : Int32) (x2 : Int32) (L : g_L) (n : Nat) (x3 : Int32) (V : g_V) (out : (g_V)) (H : Heap) (locs : List Loc) (ls : Array Slot), tw_leastOut_L24 x1 x2 n x3 V = some out → twW gp nx D K al s V L H locs → lv_has ls 9 [(0, .ref (al 0)), (1, .int x1), (2, .int x2), (3, .int x3)] → (∀ (oV : g_V), out = oV → ∀ (H : Heap) (locs : List Loc) (ls : Array Slot), twW gp nx D K al s oV L H locs → lv_has ls 9 [(0, .ref (al 0))] → W p l e rmX8_leastOut s m ([.ref (al 0), .int a1, .int a2] : List Value).toArray below meth c H locs 0 0 (MQ below (twQi r nx D K al V' L0) ([.ref (al 0), .int a1, .int a2] : List Value).toArray s 0 0 (g_A al twSh)) (F0 m 218 ls [])) → W p l e rmX8_leastOut s m ([.ref (al 0), .int a1, .int a2] : List Value).toArray below meth c H locs 0 0 (MQ below (twQi r nx D K al V' L0) ([.ref (al 0), .int a1, .int a2] : List Value).toArray s 0 0 (g_A al twSh)) (F0 m 24 ls []) := by
    intro x1 x2 L n
    induction n with
    | zero =>
      intro x3 V out H locs ls h
      exact (lp_0 h).elim
    | succ n ih =>
      intro x3 V out H locs ls h hW hl k1
      rw [tw_leastOut_L24_s] at h
      unfold tw_leastOut_B24 at h
      refine lv_iload_n hx hb dX8_leastOut_24 rfl (lv_at hl 3 rfl) ?_
      refine lv_if_eq (tgt := 218) hx hb dX8_leastOut_25 (by decide) (fun c_10 => ?_) (fun c_10 => ?_)
      · have h := if_t h c_10
        exact k1 _ (Option.some.inj h).symm _ _ _ hW (lv_sub hl [0] rfl)
      · have h := if_f h c_10
        refine lv_iconst (v := 0) hx hb dX8_leastOut_28 (by decide) ?_
        refine lv_istore_n (lv' := [(3, .int 0), (0, .ref (al 0)), (1, .int x1), (2, .int x2)]) hx hb dX8_leastOut_29 rfl hl (by decide) rfl (fun ls hl => ?_)
        refine lv_iconst (v := 0) hx hb dX8_leastOut_30 (by decide) ?_
        refine lv_istore (lv' := [(4, .int 0), (3, .int 0), (0, .ref (al 0)), (1, .int x1), (2, .int x2)]) hx hb dX8_leastOut_31 hl (by decide) rfl (fun ls hl => ?_)
        obtain ⟨x_91, V_92, h_90, h⟩ := bnd2_some h
        refine Lp33 x1 x2 L 100000 0 0 V  _ _ _ _ h_90 hW (lv_sub hl [2, 3, 4, 1, 0] rfl) ?_
        intro w0 w1 eo H locs ls hW hl
        cases eo
        refine lv_goto (tgt := 24) hx hb dX8_leastOut_215 (by decide) ?_
        exact ih x_91 V_92 out _ _ _ h hW hl k1
  have Lp224 : ∀ (V : g_V) (L : g_L) (n : Nat) (x4 : Int32) (x5 : Int32) (out : (Int32)) (H : Heap) (locs : List Loc) (ls : Array Slot), tw_leastOut_L224 V n x4 x5 = some out → twW gp nx D K al s V L H locs → lv_has ls 9 [(0, .ref (al 0)), (4, .int x4), (5, .int x5)] → (∀ (o4 : Int32), out = o4 → ∀ (H : Heap) (locs : List Loc) (ls : Array Slot), twW gp nx D K al s V L H locs → lv_has ls 9 [(4, .int o4)] → W p l e rmX8_leastOut s m ([.ref (al 0), .int a1, .int a2] : List Value).toArray below meth c H locs 0 0 (MQ below (twQi r nx D K al V' L0) ([.ref (al 0), .int a1, .int a2] : List Value).toArray s 0 0 (g_A al twSh)) (F0 m 284 ls [])) → W p l e rmX8_leastOut s m ([.ref (al 0), .int a1, .int a2] : List Value).toArray below meth c H locs 0 0 (MQ below (twQi r nx D K al V' L0) ([.ref (al 0), .int a1, .int a2] : List Value).toArray s 0 0 (g_A al twSh)) (F0 m 224 ls []) := by
    intro V L n
    induction n with
    | zero =>
      intro x4 x5 out H locs ls h
      exact (lp_0 h).elim
    | succ n ih =>
      intro x4 x5 out H locs ls h hW hl k1
      rw [tw_leastOut_L224_s] at h
      unfold tw_leastOut_B224 at h
      refine lv_iload hx hb dX8_leastOut_224 (lv_at hl 2 rfl) ?_
      refine lv_sipush (v := 144) hx hb dX8_leastOut_226 (by decide) ?_
      refine lv_icmp_ge (tgt := 284) hx hb dX8_leastOut_229 (by decide) (fun c_96 => ?_) (fun c_96 => ?_)
      · have h := if_t h c_96
        exact k1 _ (Option.some.inj h).symm _ _ _ hW (lv_sub hl [1] rfl)
      · have h := if_f h c_96
        refine lv_iload hx hb dX8_leastOut_232 (lv_at hl 2 rfl) ?_
        obtain ⟨x_99, h_97, h⟩ := bnd_some h
        refine g_callSi (As := [.int x5]) (rest := []) S hW (metX8_isRim h_97) (cwX8_isRim S.2.2.2.2 q1835 ⟨Nat.le_of_ble_eq_true rfl, Nat.le_of_ble_eq_true rfl⟩) rfl hl.1 rfl (Nat.le_of_ble_eq_true rfl) dX8_leastOut_234 ⟨Nat.le_refl _, Nat.le_refl _⟩ (fun H locs hW => ?_)
        refine lv_if_eq (tgt := 278) hx hb dX8_leastOut_237 (by decide) (fun c_100 => ?_) (fun c_100 => ?_)
        · have h := if_t h c_100
          obtain ⟨x_101, e_102, h⟩ := nmI_some h
          refine lv_iinc (v := x_101) (lv' := [(5, .int x_101), (0, .ref (al 0)), (4, .int x4)]) hx hb dX8_leastOut_278 hl (k := 2) rfl (by rw [e_102]; rfl) (by decide) rfl (fun ls hl => ?_)
          refine lv_goto (tgt := 224) hx hb dX8_leastOut_281 (by decide) ?_
          exact ih x4 x_101 out _ _ _ h hW (lv_sub hl [1, 2, 0] rfl) k1
        · have h := if_f h c_100
          refine lv_aload_n hx hb dX8_leastOut_240 rfl (lv_at hl 0 rfl) ?_
          refine tw_ref S hW 26 26 (by decide) rfl q1525 rfl dX8_leastOut_241 ?_
          refine lv_iload hx hb dX8_leastOut_244 (lv_at hl 2 rfl) ?_
          obtain ⟨h_104, x_103, e_105, h⟩ := rdI_some h
          refine g_iald S hW (k := 26) rfl rfl h_104 e_105 dX8_leastOut_246 ?_
          refine lv_iconst (v := (-1)) hx hb dX8_leastOut_247 (by decide) ?_
          refine lv_icmp_eq (tgt := 278) hx hb dX8_leastOut_248 (by decide) (fun c_106 => ?_) (fun c_106 => ?_)
          · have h := if_t h c_106
            obtain ⟨x_107, e_108, h⟩ := nmI_some h
            refine lv_iinc (v := x_107) (lv' := [(5, .int x_107), (0, .ref (al 0)), (4, .int x4)]) hx hb dX8_leastOut_278 hl (k := 2) rfl (by rw [e_108]; rfl) (by decide) rfl (fun ls hl => ?_)
            refine lv_goto (tgt := 224) hx hb dX8_leastOut_281 (by decide) ?_
            exact ih x4 x_107 out _ _ _ h hW (lv_sub hl [1, 2, 0] rfl) k1
          · have h := if_f h c_106
            refine lv_iload hx hb dX8_leastOut_251 (lv_at hl 1 rfl) ?_
            refine lv_iconst (v := (-1)) hx hb dX8_leastOut_253 (by decide) ?_
            refine lv_icmp_eq (tgt := 269) hx hb dX8_leastOut_254 (by decide) (fun c_109 => ?_) (fun c_109 => ?_)
            · have h := if_t h c_109
              refine lv_aload_n hx hb dX8_leastOut_269 rfl (lv_at hl 0 rfl) ?_
              refine tw_ref S hW 26 26 (by decide) rfl q1525 rfl dX8_leastOut_270 ?_
              refine lv_iload hx hb dX8_leastOut_273 (lv_at hl 2 rfl) ?_
              obtain ⟨h_111, x_110, e_112, h⟩ := rdI_some h
              refine g_iald S hW (k := 26) rfl rfl h_111 e_112 dX8_leastOut_275 ?_
              refine lv_istore (lv' := [(4, .int x_110), (0, .ref (al 0)), (5, .int x5)]) hx hb dX8_leastOut_276 hl (by decide) rfl (fun ls hl => ?_)
              obtain ⟨x_113, e_114, h⟩ := nmI_some h
              refine lv_iinc (v := x_113) (lv' := [(5, .int x_113), (4, .int x_110), (0, .ref (al 0))]) hx hb dX8_leastOut_278 hl (k := 2) rfl (by rw [e_114]; rfl) (by decide) rfl (fun ls hl => ?_)
              refine lv_goto (tgt := 224) hx hb dX8_leastOut_281 (by decide) ?_
              exact ih x_110 x_113 out _ _ _ h hW (lv_sub hl [2, 1, 0] rfl) k1
            · have h := if_f h c_109
              refine lv_aload_n hx hb dX8_leastOut_257 rfl (lv_at hl 0 rfl) ?_
              refine tw_ref S hW 26 26 (by decide) rfl q1525 rfl dX8_leastOut_258 ?_
              refine lv_iload hx hb dX8_leastOut_261 (lv_at hl 2 rfl) ?_
              obtain ⟨h_116, x_115, e_117, h⟩ := rdI_some h
              refine g_iald S hW (k := 26) rfl rfl h_116 e_117 dX8_leastOut_263 ?_
              refine lv_iload hx hb dX8_leastOut_264 (lv_at hl 1 rfl) ?_
              refine lv_icmp_ge (tgt := 278) hx hb dX8_leastOut_266 (by decide) (fun c_118 => ?_) (fun c_118 => ?_)
              · have h := if_t h c_118
                obtain ⟨x_119, e_120, h⟩ := nmI_some h
                refine lv_iinc (v := x_119) (lv' := [(5, .int x_119), (0, .ref (al 0)), (4, .int x4)]) hx hb dX8_leastOut_278 hl (k := 2) rfl (by rw [e_120]; rfl) (by decide) rfl (fun ls hl => ?_)
                refine lv_goto (tgt := 224) hx hb dX8_leastOut_281 (by decide) ?_
                exact ih x4 x_119 out _ _ _ h hW (lv_sub hl [1, 2, 0] rfl) k1
              · have h := if_f h c_118
                refine lv_aload_n hx hb dX8_leastOut_269 rfl (lv_at hl 0 rfl) ?_
                refine tw_ref S hW 26 26 (by decide) rfl q1525 rfl dX8_leastOut_270 ?_
                refine lv_iload hx hb dX8_leastOut_273 (lv_at hl 2 rfl) ?_
                obtain ⟨h_122, x_121, e_123, h⟩ := rdI_some h
                refine g_iald S hW (k := 26) rfl rfl h_122 e_123 dX8_leastOut_275 ?_
                refine lv_istore (lv' := [(4, .int x_121), (0, .ref (al 0)), (5, .int x5)]) hx hb dX8_leastOut_276 hl (by decide) rfl (fun ls hl => ?_)
                obtain ⟨x_124, e_125, h⟩ := nmI_some h
                refine lv_iinc (v := x_124) (lv' := [(5, .int x_124), (4, .int x_121), (0, .ref (al 0))]) hx hb dX8_leastOut_278 hl (k := 2) rfl (by rw [e_125]; rfl) (by decide) rfl (fun ls hl => ?_)
                refine lv_goto (tgt := 224) hx hb dX8_leastOut_281 (by decide) ?_
                exact ih x_121 x_124 out _ _ _ h hW (lv_sub hl [2, 1, 0] rfl) k1
  unfold tw_leastOut at h
  refine lv_iconst (v := 0) hx hb dX8_leastOut_0 (by decide) ?_
  refine lv_istore_n (lv' := [(3, .int 0), (0, .ref (al 0)), (1, .int a1), (2, .int a2)]) hx hb dX8_leastOut_1 rfl hl (by decide) rfl (fun ls hl => ?_)
  obtain ⟨V_9, h_8, h⟩ := bnd_some h
  refine Lp2 a1 a2 L0 100000 0 V0  _ _ _ _ h_8 hW (lv_sub hl [1, 2, 3, 0] rfl) ?_
  intro w0 eo H locs ls hW hl
  subst eo
  refine lv_iconst (v := 1) hx hb dX8_leastOut_22 (by decide) ?_
  refine lv_istore_n (lv' := [(3, .int 1), (0, .ref (al 0)), (1, .int a1), (2, .int a2)]) hx hb dX8_leastOut_23 rfl hl (by decide) rfl (fun ls hl => ?_)
  obtain ⟨V_95, h_94, h⟩ := bnd_some h
  refine Lp24 a1 a2 L0 100000 1 V_9  _ _ _ _ h_94 hW (lv_sub hl [1, 2, 3, 0] rfl) ?_
  intro w0 eo H locs ls hW hl
  subst eo
  refine lv_iconst (v := (-1)) hx hb dX8_leastOut_218 (by decide) ?_
  refine lv_istore (lv' := [(4, .int (-1)), (0, .ref (al 0))]) hx hb dX8_leastOut_219 hl (by decide) rfl (fun ls hl => ?_)
  refine lv_iconst (v := 0) hx hb dX8_leastOut_221 (by decide) ?_
  refine lv_istore (lv' := [(5, .int 0), (4, .int (-1)), (0, .ref (al 0))]) hx hb dX8_leastOut_222 hl (by decide) rfl (fun ls hl => ?_)
  obtain ⟨x_128, h_127, h⟩ := bnd_some h
  refine Lp224 V_95 L0 100000 (-1) 0  _ _ _ _ h_127 hW (lv_sub hl [2, 1, 0] rfl) ?_
  intro w0 eo H locs ls hW hl
  subst eo
  refine lv_iload hx hb dX8_leastOut_284 (lv_at hl 0 rfl) ?_
  cases h
  exact g_iret S hr hlk hW dX8_leastOut_286
theorem cwX8_leastOut {R : Room} {s : State} {args : Array Value} {index : Nat} (hts : ∀ w ∈ lw_all, w.before args s = true) (hl : Cond.methodLink RX8 index yX8_leastOut ∈ lw_all) (hR : rmX8_leastOut.frames + 1 ≤ R.frames ∧ 8 + (9 + 11) + rmX8_leastOut.locals ≤ R.locals) : CallW R s args RX8 RX8 index yX8_leastOut cX8_leastOut 9 (some .int) (ws_ yX8_leastOut cX8_leastOut 9 (some .int)) rmX8_leastOut 0 0 2 := cwV 2 hts (lw_V hl q1825 qs86 q122 q1826) rfl rfl rfl (by decide +kernel) hR
def tw_way (V0 : g_V) : Option (Int32 × g_V) :=
  bnd (tw_hasShaft V0) (fun x_3 => if x_3 = 0 then (some ((-6), V0)) else (bnd (tw_leastOut V0 (-1) 1) (un2 fun x_7 V_8 => some (x_7, V_8))))
abbrev rmX8_way : Room := rm_ 5 120
set_option maxHeartbeats 4000000 in
theorem metX8_way {l : Launch} {gp : Nat → Nat} {nx : Nat} {D : va_G} {K : Nat → ClassId} {al : Nat → Nat} {V0 : g_V} {L0 : g_L} {r : Int32} {V' : g_V} (h : tw_way V0 = some (r, V')) : Met l yX8_way (ws_ yX8_way cX8_way 1 (some .int)) rmX8_way (twPc gp nx [.ref (al 0)] D K al V0 L0) (twQi r nx D K al V' L0) 0 0 (g_A al twSh) := by
  refine g_met rfl (Nat.le_of_ble_eq_true rfl) ?_
  intro p e s m below meth c ls S hr hlk hnm hl hW
  have S : CallFix p m c cX8_way 1 s ([.ref (al 0)] : List Value).toArray lw_all RX8 := S
  have hx := S.1
  have hb := S.2.1
  have hl : lv_has ls 1 [(0, .ref (al 0))] := hl
  unfold tw_way at h
  refine lv_aload_n hx hb dX8_way_0 rfl (lv_at hl 0 rfl) ?_
  obtain ⟨x_3, h_1, h⟩ := bnd_some h
  refine g_callVi (As := []) (rest := []) S hW (metX8_hasShaft h_1) (cwX8_hasShaft S.2.2.2.2 q1873 ⟨Nat.le_of_ble_eq_true rfl, Nat.le_of_ble_eq_true rfl⟩) (k := 0) rfl rfl rfl hl.1 rfl (Nat.le_of_ble_eq_true rfl) dX8_way_1 ⟨Nat.le_refl _, Nat.le_refl _⟩ (fun H locs hW => ?_)
  refine lv_if_eq (tgt := 16) hx hb dX8_way_4 (by decide) (fun c_4 => ?_) (fun c_4 => ?_)
  · have h := if_t h c_4
    refine lv_bipush (v := (-6)) hx hb dX8_way_16 (by decide) ?_
    cases h
    exact g_iret S hr hlk hW dX8_way_18
  · have h := if_f h c_4
    refine lv_aload_n hx hb dX8_way_7 rfl (lv_at hl 0 rfl) ?_
    refine lv_iconst (v := (-1)) hx hb dX8_way_8 (by decide) ?_
    refine lv_iconst (v := 1) hx hb dX8_way_9 (by decide) ?_
    obtain ⟨x_7, V_8, h_5, h⟩ := bnd2_some h
    refine g_callVi (As := [.int (-1), .int 1]) (rest := []) S hW (metX8_leastOut h_5) (cwX8_leastOut S.2.2.2.2 q1823 ⟨Nat.le_of_ble_eq_true rfl, Nat.le_of_ble_eq_true rfl⟩) (k := 0) rfl rfl rfl hl.1 rfl (Nat.le_of_ble_eq_true rfl) dX8_way_10 ⟨Nat.le_refl _, Nat.le_refl _⟩ (fun H locs hW => ?_)
    refine lv_goto (tgt := 18) hx hb dX8_way_13 (by decide) ?_
    cases h
    exact g_iret S hr hlk hW dX8_way_18
theorem cwX8_way {R : Room} {s : State} {args : Array Value} {index : Nat} (hts : ∀ w ∈ lw_all, w.before args s = true) (hl : Cond.methodLink RX8 index yX8_way ∈ lw_all) (hR : rmX8_way.frames + 1 ≤ R.frames ∧ 8 + (1 + 11) + rmX8_way.locals ≤ R.locals) : CallW R s args RX8 RX8 index yX8_way cX8_way 1 (some .int) (ws_ yX8_way cX8_way 1 (some .int)) rmX8_way 0 0 0 := cwV 0 hts (lw_V hl q1878 q1879 q122 q1880) rfl rfl rfl (by decide +kernel) hR
def tw_thick (V0 : g_V) : Option (Int32 × g_V) :=
  bnd (tw_hasShaft V0) (fun x_3 => if x_3 = 0 then (some ((-6), V0)) else (bnd (tw_leastOut V0 1 0) (un2 fun x_7 V_8 => some (x_7, V_8))))
abbrev rmX8_thick : Room := rm_ 5 120
set_option maxHeartbeats 4000000 in
theorem metX8_thick {l : Launch} {gp : Nat → Nat} {nx : Nat} {D : va_G} {K : Nat → ClassId} {al : Nat → Nat} {V0 : g_V} {L0 : g_L} {r : Int32} {V' : g_V} (h : tw_thick V0 = some (r, V')) : Met l yX8_thick (ws_ yX8_thick cX8_thick 1 (some .int)) rmX8_thick (twPc gp nx [.ref (al 0)] D K al V0 L0) (twQi r nx D K al V' L0) 0 0 (g_A al twSh) := by
  refine g_met rfl (Nat.le_of_ble_eq_true rfl) ?_
  intro p e s m below meth c ls S hr hlk hnm hl hW
  have S : CallFix p m c cX8_thick 1 s ([.ref (al 0)] : List Value).toArray lw_all RX8 := S
  have hx := S.1
  have hb := S.2.1
  have hl : lv_has ls 1 [(0, .ref (al 0))] := hl
  unfold tw_thick at h
  refine lv_aload_n hx hb dX8_thick_0 rfl (lv_at hl 0 rfl) ?_
  obtain ⟨x_3, h_1, h⟩ := bnd_some h
  refine g_callVi (As := []) (rest := []) S hW (metX8_hasShaft h_1) (cwX8_hasShaft S.2.2.2.2 q1873 ⟨Nat.le_of_ble_eq_true rfl, Nat.le_of_ble_eq_true rfl⟩) (k := 0) rfl rfl rfl hl.1 rfl (Nat.le_of_ble_eq_true rfl) dX8_thick_1 ⟨Nat.le_refl _, Nat.le_refl _⟩ (fun H locs hW => ?_)
  refine lv_if_eq (tgt := 16) hx hb dX8_thick_4 (by decide) (fun c_4 => ?_) (fun c_4 => ?_)
  · have h := if_t h c_4
    refine lv_bipush (v := (-6)) hx hb dX8_thick_16 (by decide) ?_
    cases h
    exact g_iret S hr hlk hW dX8_thick_18
  · have h := if_f h c_4
    refine lv_aload_n hx hb dX8_thick_7 rfl (lv_at hl 0 rfl) ?_
    refine lv_iconst (v := 1) hx hb dX8_thick_8 (by decide) ?_
    refine lv_iconst (v := 0) hx hb dX8_thick_9 (by decide) ?_
    obtain ⟨x_7, V_8, h_5, h⟩ := bnd2_some h
    refine g_callVi (As := [.int 1, .int 0]) (rest := []) S hW (metX8_leastOut h_5) (cwX8_leastOut S.2.2.2.2 q1823 ⟨Nat.le_of_ble_eq_true rfl, Nat.le_of_ble_eq_true rfl⟩) (k := 0) rfl rfl rfl hl.1 rfl (Nat.le_of_ble_eq_true rfl) dX8_thick_10 ⟨Nat.le_refl _, Nat.le_refl _⟩ (fun H locs hW => ?_)
    refine lv_goto (tgt := 18) hx hb dX8_thick_13 (by decide) ?_
    cases h
    exact g_iret S hr hlk hW dX8_thick_18
theorem cwX8_thick {R : Room} {s : State} {args : Array Value} {index : Nat} (hts : ∀ w ∈ lw_all, w.before args s = true) (hl : Cond.methodLink RX8 index yX8_thick ∈ lw_all) (hR : rmX8_thick.frames + 1 ≤ R.frames ∧ 8 + (1 + 11) + rmX8_thick.locals ≤ R.locals) : CallW R s args RX8 RX8 index yX8_thick cX8_thick 1 (some .int) (ws_ yX8_thick cX8_thick 1 (some .int)) rmX8_thick 0 0 0 := cwV 0 hts (lw_V hl q1882 q1883 q122 q1884) rfl rfl rfl (by decide +kernel) hR
def tw_search_B2 (rec : Int32 → g_V → Option (g_V)) (x1 : Int32) (V : g_V) : Option (g_V) :=
  if 288 ≤ x1 then (some V) else (wrI V 29 288 x1 (-1) fun V_4 => nmI (x1 + 1) fun x_5 => rec x_5 V_4)
abbrev tw_search_F2 : ((Int32 × g_V) → Option (g_V)) → (Int32 × g_V) → Option (g_V) := fun rec s => tw_search_B2 (fun x1 V => rec (x1, V)) s.1 s.2
def tw_search_L2 (n : Nat) (x1 : Int32) (V : g_V) : Option (g_V) := lp (tw_search_F2) n (x1, V)
theorem tw_search_L2_s (n : Nat) (x1 : Int32) (V : g_V) : tw_search_L2 (n + 1) x1 V = tw_search_B2 (fun x1 V => tw_search_L2 n x1 V) x1 V := lp_s (tw_search_F2) n (x1, V)
def tw_search_B29 (rec : Int32 → g_V → Option (g_V)) (x1 : Int32) (V : g_V) : Option (g_V) :=
  if 144 ≤ x1 then (some V) else (bnd (tw_isOpen V x1) (fun x_15 => if x_15 = 0 then (nmI (x1 + 1) fun x_17 => rec x_17 V) else (bnd (tw_isBesideShaft V x1) (fun x_21 => if x_21 = 0 then (nmI (x1 + 1) fun x_23 => rec x_23 V) else (bnd (tw_reach V (2 * x1) 1000) (fun V_27 => nmI (x1 + 1) fun x_28 => rec x_28 V_27))))))
abbrev tw_search_F29 : ((Int32 × g_V) → Option (g_V)) → (Int32 × g_V) → Option (g_V) := fun rec s => tw_search_B29 (fun x1 V => rec (x1, V)) s.1 s.2
def tw_search_L29 (n : Nat) (x1 : Int32) (V : g_V) : Option (g_V) := lp (tw_search_F29) n (x1, V)
theorem tw_search_L29_s (n : Nat) (x1 : Int32) (V : g_V) : tw_search_L29 (n + 1) x1 V = tw_search_B29 (fun x1 V => tw_search_L29 n x1 V) x1 V := lp_s (tw_search_F29) n (x1, V)
def tw_search_B204 (x1 : Int32) (x2 : Int32) (x3 : Int32) (rec : Int32 → g_V → Option (g_V)) (x4 : Int32) (V : g_V) : Option (g_V) :=
  if 4 ≤ x4 then (some V) else (bnd (tw_beside x3 x4) (fun x_50 => if x_50 = (-1) then (nmI (x4 + 1) fun x_52 => rec x_52 V) else (bnd (tw_isOpen V x_50) (fun x_56 => if x_56 = 0 then (nmI (x4 + 1) fun x_58 => rec x_58 V) else (rdI (V 28) 576 ((4 * x_50) + (x4 ^^^ 1)) fun x_60 => if x_60 = 0 then (nmI (x4 + 1) fun x_64 => rec x_64 V) else (bnd (tw_reach V ((2 * x_50) + 1) x2) (fun V_68 => nmI (x4 + 1) fun x_69 => rec x_69 V_68)))))))
abbrev tw_search_F204 (x1 : Int32) (x2 : Int32) (x3 : Int32) : ((Int32 × g_V) → Option (g_V)) → (Int32 × g_V) → Option (g_V) := fun rec s => tw_search_B204 x1 x2 x3 (fun x4 V => rec (x4, V)) s.1 s.2
def tw_search_L204 (x1 : Int32) (x2 : Int32) (x3 : Int32) (n : Nat) (x4 : Int32) (V : g_V) : Option (g_V) := lp (tw_search_F204 x1 x2 x3) n (x4, V)
theorem tw_search_L204_s (x1 : Int32) (x2 : Int32) (x3 : Int32) (n : Nat) (x4 : Int32) (V : g_V) : tw_search_L204 x1 x2 x3 (n + 1) x4 V = tw_search_B204 x1 x2 x3 (fun x4 V => tw_search_L204 x1 x2 x3 n x4 V) x4 V := lp_s (tw_search_F204 x1 x2 x3) n (x4, V)
def tw_search_J201 (rec : Int32 → g_V → Option ((g_V) ⊕ (Int32 × g_V))) (x1 : Int32) (x2 : Int32) (x3 : Int32) (V : g_V) : Option ((g_V) ⊕ (Int32 × g_V)) :=
  bnd (tw_search_L204 x1 x2 x3 1000 0 V) (fun V_73 => rec x1 V_73)
def tw_search_B135 (x1 : Int32) (x2 : Int32) (x3 : Int32) (rec : Int32 → g_V → Option (g_V)) (x4 : Int32) (V : g_V) : Option (g_V) :=
  if 4 ≤ x4 then (some V) else (bnd (tw_beside x3 x4) (fun x_84 => if x_84 = (-1) then (nmI (x4 + 1) fun x_86 => rec x_86 V) else (bnd (tw_isOpen V x_84) (fun x_90 => if x_90 = 0 then (nmI (x4 + 1) fun x_92 => rec x_92 V) else (bnd (tw_reach V (2 * x_84) x2) (fun V_96 => nmI (x4 + 1) fun x_97 => rec x_97 V_96))))))
abbrev tw_search_F135 (x1 : Int32) (x2 : Int32) (x3 : Int32) : ((Int32 × g_V) → Option (g_V)) → (Int32 × g_V) → Option (g_V) := fun rec s => tw_search_B135 x1 x2 x3 (fun x4 V => rec (x4, V)) s.1 s.2
def tw_search_L135 (x1 : Int32) (x2 : Int32) (x3 : Int32) (n : Nat) (x4 : Int32) (V : g_V) : Option (g_V) := lp (tw_search_F135 x1 x2 x3) n (x4, V)
theorem tw_search_L135_s (x1 : Int32) (x2 : Int32) (x3 : Int32) (n : Nat) (x4 : Int32) (V : g_V) : tw_search_L135 x1 x2 x3 (n + 1) x4 V = tw_search_B135 x1 x2 x3 (fun x4 V => tw_search_L135 x1 x2 x3 n x4 V) x4 V := lp_s (tw_search_F135 x1 x2 x3) n (x4, V)
def tw_search_J132 (rec : Int32 → g_V → Option ((g_V) ⊕ (Int32 × g_V))) (x1 : Int32) (x2 : Int32) (x3 : Int32) (V : g_V) : Option ((g_V) ⊕ (Int32 × g_V)) :=
  bnd (tw_search_L135 x1 x2 x3 1000 0 V) (fun V_101 => rec x1 V_101)
def tw_search_J108 (rec : Int32 → g_V → Option ((g_V) ⊕ (Int32 × g_V))) (x1 : Int32) (x2 : Int32) (x3 : Int32) (V : g_V) : Option ((g_V) ⊕ (Int32 × g_V)) :=
  if (x2 - x2 / 2 * 2) = 1 then (rdI (V 27) 144 x3 fun x_77 => if x_77 = 0 then (tw_search_J132 rec x1 x2 x3 V) else (bnd (tw_reach V (2 * x3) x2) (fun V_104 => tw_search_J132 rec x1 x2 x3 V_104))) else (rdI (V 27) 144 x3 fun x_43 => if x_43 = 0 then (bnd (tw_reach V ((2 * x3) + 1) x2) (fun V_76 => tw_search_J201 rec x1 x2 x3 V_76)) else (tw_search_J201 rec x1 x2 x3 V))
def tw_search_B70 (rec : Int32 → g_V → Option ((g_V) ⊕ (Int32 × g_V))) (x1 : Int32) (V : g_V) : Option ((g_V) ⊕ (Int32 × g_V)) :=
  if (V 0 31) ≤ x1 then (some (.inl V)) else (rdI (V 30) 288 x1 fun x_34 => nmI (x1 + 1) fun x_37 => nmI (x_34 / 2) fun x_39 => if (x_34 - x_34 / 2 * 2) = 1 then (bnd (tw_isRim x_39) (fun x_107 => if x_107 = 0 then (tw_search_J108 rec x_37 x_34 x_39 V) else (some (.inr (x_34, V))))) else (tw_search_J108 rec x_37 x_34 x_39 V))
abbrev tw_search_F70 : ((Int32 × g_V) → Option ((g_V) ⊕ (Int32 × g_V))) → (Int32 × g_V) → Option ((g_V) ⊕ (Int32 × g_V)) := fun rec s => tw_search_B70 (fun x1 V => rec (x1, V)) s.1 s.2
def tw_search_L70 (n : Nat) (x1 : Int32) (V : g_V) : Option ((g_V) ⊕ (Int32 × g_V)) := lp (tw_search_F70) n (x1, V)
theorem tw_search_L70_s (n : Nat) (x1 : Int32) (V : g_V) : tw_search_L70 (n + 1) x1 V = tw_search_B70 (fun x1 V => tw_search_L70 n x1 V) x1 V := lp_s (tw_search_F70) n (x1, V)
def tw_search (V0 : g_V) : Option (Int32 × g_V) :=
  bnd (tw_search_L2 1000 0 V0) (fun V_9 => ptI V_9 0 31 0 fun V_10 => bnd (tw_search_L29 1000 0 V_10) (fun V_32 => bnd (tw_search_L70 1000 0 V_32) (cs2 (fun V_111 => some ((-1), V_111)) (un2 fun x_112 V_113 => some (x_112, V_113)))))
abbrev rmX8_search : Room := rm_ 4 92
set_option maxHeartbeats 4000000 in
theorem metX8_search {l : Launch} {gp : Nat → Nat} {nx : Nat} {D : va_G} {K : Nat → ClassId} {al : Nat → Nat} {V0 : g_V} {L0 : g_L} {r : Int32} {V' : g_V} (h : tw_search V0 = some (r, V')) : Met l yX8_search (ws_ yX8_search cX8_search 6 (some .int)) rmX8_search (twPc gp nx [.ref (al 0)] D K al V0 L0) (twQi r nx D K al V' L0) 0 0 (g_A al twSh) := by
  refine g_met rfl (Nat.le_of_ble_eq_true rfl) ?_
  intro p e s m below meth c ls S hr hlk hnm hl hW
  have S : CallFix p m c cX8_search 6 s ([.ref (al 0)] : List Value).toArray lw_all RX8 := S
  have hx := S.1
  have hb := S.2.1
  have hl : lv_has ls 6 [(0, .ref (al 0))] := hl
  have Lp2 : ∀ (L : g_L) (n : Nat) (x1 : Int32) (V : g_V) (out : (g_V)) (H : Heap) (locs : List Loc) (ls : Array Slot), tw_search_L2 n x1 V = some out → twW gp nx D K al s V L H locs → lv_has ls 6 [(0, .ref (al 0)), (1, .int x1)] → (∀ (oV : g_V), out = oV → ∀ (H : Heap) (locs : List Loc) (ls : Array Slot), twW gp nx D K al s oV L H locs → lv_has ls 6 [(0, .ref (al 0))] → W p l e rmX8_search s m ([.ref (al 0)] : List Value).toArray below meth c H locs 0 0 (MQ below (twQi r nx D K al V' L0) ([.ref (al 0)] : List Value).toArray s 0 0 (g_A al twSh)) (F0 m 22 ls [])) → W p l e rmX8_search s m ([.ref (al 0)] : List Value).toArray below meth c H locs 0 0 (MQ below (twQi r nx D K al V' L0) ([.ref (al 0)] : List Value).toArray s 0 0 (g_A al twSh)) (F0 m 2 ls []) := by
    intro L n
    induction n with
    | zero =>
      intro x1 V out H locs ls h
      exact (lp_0 h).elim
    | succ n ih =>
      intro x1 V out H locs ls h hW hl k1
      rw [tw_search_L2_s] at h
      unfold tw_search_B2 at h
      refine lv_iload_n hx hb dX8_search_2 rfl (lv_at hl 1 rfl) ?_
      refine lv_sipush (v := 288) hx hb dX8_search_3 (by decide) ?_
      refine lv_icmp_ge (tgt := 22) hx hb dX8_search_6 (by decide) (fun c_1 => ?_) (fun c_1 => ?_)
      · have h := if_t h c_1
        exact k1 _ (Option.some.inj h).symm _ _ _ hW (lv_sub hl [0] rfl)
      · have h := if_f h c_1
        refine lv_aload_n hx hb dX8_search_9 rfl (lv_at hl 0 rfl) ?_
        refine tw_ref S hW 29 29 (by decide) rfl q1528 rfl dX8_search_10 ?_
        refine lv_iload_n hx hb dX8_search_13 rfl (lv_at hl 1 rfl) ?_
        refine lv_iconst (v := (-1)) hx hb dX8_search_14 (by decide) ?_
        obtain ⟨h_2, V_4, e_3, h⟩ := wrI_some h
        refine g_iast S hW (k := 29) rfl rfl h_2 e_3 dX8_search_15 (fun H locs hW => ?_)
        obtain ⟨x_5, e_6, h⟩ := nmI_some h
        refine lv_iinc (v := x_5) (lv' := [(1, .int x_5), (0, .ref (al 0))]) hx hb dX8_search_16 hl (k := 1) rfl (by rw [e_6]; rfl) (by decide) rfl (fun ls hl => ?_)
        refine lv_goto (tgt := 2) hx hb dX8_search_19 (by decide) ?_
        exact ih x_5 V_4 out _ _ _ h hW (lv_sub hl [1, 0] rfl) k1
  have Lp29 : ∀ (L : g_L) (n : Nat) (x1 : Int32) (V : g_V) (out : (g_V)) (H : Heap) (locs : List Loc) (ls : Array Slot), tw_search_L29 n x1 V = some out → twW gp nx D K al s V L H locs → lv_has ls 6 [(0, .ref (al 0)), (1, .int x1)] → (∀ (oV : g_V), out = oV → ∀ (H : Heap) (locs : List Loc) (ls : Array Slot), twW gp nx D K al s oV L H locs → lv_has ls 6 [(0, .ref (al 0))] → W p l e rmX8_search s m ([.ref (al 0)] : List Value).toArray below meth c H locs 0 0 (MQ below (twQi r nx D K al V' L0) ([.ref (al 0)] : List Value).toArray s 0 0 (g_A al twSh)) (F0 m 68 ls [])) → W p l e rmX8_search s m ([.ref (al 0)] : List Value).toArray below meth c H locs 0 0 (MQ below (twQi r nx D K al V' L0) ([.ref (al 0)] : List Value).toArray s 0 0 (g_A al twSh)) (F0 m 29 ls []) := by
    intro L n
    induction n with
    | zero =>
      intro x1 V out H locs ls h
      exact (lp_0 h).elim
    | succ n ih =>
      intro x1 V out H locs ls h hW hl k1
      rw [tw_search_L29_s] at h
      unfold tw_search_B29 at h
      refine lv_iload_n hx hb dX8_search_29 rfl (lv_at hl 1 rfl) ?_
      refine lv_sipush (v := 144) hx hb dX8_search_30 (by decide) ?_
      refine lv_icmp_ge (tgt := 68) hx hb dX8_search_33 (by decide) (fun c_12 => ?_) (fun c_12 => ?_)
      · have h := if_t h c_12
        exact k1 _ (Option.some.inj h).symm _ _ _ hW (lv_sub hl [0] rfl)
      · have h := if_f h c_12
        refine lv_aload_n hx hb dX8_search_36 rfl (lv_at hl 0 rfl) ?_
        refine lv_iload_n hx hb dX8_search_37 rfl (lv_at hl 1 rfl) ?_
        obtain ⟨x_15, h_13, h⟩ := bnd_some h
        refine g_callVi (As := [.int x1]) (rest := []) S hW (metX8_isOpen h_13) (cwX8_isOpen S.2.2.2.2 q1897 ⟨Nat.le_of_ble_eq_true rfl, Nat.le_of_ble_eq_true rfl⟩) (k := 0) rfl rfl rfl hl.1 rfl (Nat.le_of_ble_eq_true rfl) dX8_search_38 ⟨Nat.le_refl _, Nat.le_refl _⟩ (fun H locs hW => ?_)
        refine lv_if_eq (tgt := 62) hx hb dX8_search_41 (by decide) (fun c_16 => ?_) (fun c_16 => ?_)
        · have h := if_t h c_16
          obtain ⟨x_17, e_18, h⟩ := nmI_some h
          refine lv_iinc (v := x_17) (lv' := [(1, .int x_17), (0, .ref (al 0))]) hx hb dX8_search_62 hl (k := 1) rfl (by rw [e_18]; rfl) (by decide) rfl (fun ls hl => ?_)
          refine lv_goto (tgt := 29) hx hb dX8_search_65 (by decide) ?_
          exact ih x_17 V out _ _ _ h hW (lv_sub hl [1, 0] rfl) k1
        · have h := if_f h c_16
          refine lv_aload_n hx hb dX8_search_44 rfl (lv_at hl 0 rfl) ?_
          refine lv_iload_n hx hb dX8_search_45 rfl (lv_at hl 1 rfl) ?_
          obtain ⟨x_21, h_19, h⟩ := bnd_some h
          refine g_callVi (As := [.int x1]) (rest := []) S hW (metX8_isBesideShaft h_19) (cwX8_isBesideShaft S.2.2.2.2 q1831 ⟨Nat.le_of_ble_eq_true rfl, Nat.le_of_ble_eq_true rfl⟩) (k := 0) rfl rfl rfl hl.1 rfl (Nat.le_of_ble_eq_true rfl) dX8_search_46 ⟨Nat.le_refl _, Nat.le_refl _⟩ (fun H locs hW => ?_)
          refine lv_if_eq (tgt := 62) hx hb dX8_search_49 (by decide) (fun c_22 => ?_) (fun c_22 => ?_)
          · have h := if_t h c_22
            obtain ⟨x_23, e_24, h⟩ := nmI_some h
            refine lv_iinc (v := x_23) (lv' := [(1, .int x_23), (0, .ref (al 0))]) hx hb dX8_search_62 hl (k := 1) rfl (by rw [e_24]; rfl) (by decide) rfl (fun ls hl => ?_)
            refine lv_goto (tgt := 29) hx hb dX8_search_65 (by decide) ?_
            exact ih x_23 V out _ _ _ h hW (lv_sub hl [1, 0] rfl) k1
          · have h := if_f h c_22
            refine lv_aload_n hx hb dX8_search_52 rfl (lv_at hl 0 rfl) ?_
            refine lv_iconst (v := 2) hx hb dX8_search_53 (by decide) ?_
            refine lv_iload_n hx hb dX8_search_54 rfl (lv_at hl 1 rfl) ?_
            refine lv_imul hx hb dX8_search_55 ?_
            refine lv_sipush (v := 1000) hx hb dX8_search_56 (by decide) ?_
            obtain ⟨V_27, h_25, h⟩ := bnd_some h
            refine g_callVv (As := [.int (2 * x1), .int 1000]) (rest := []) S hW (metX8_reach h_25) (cwX8_reach S.2.2.2.2 q1901 ⟨Nat.le_of_ble_eq_true rfl, Nat.le_of_ble_eq_true rfl⟩) (k := 0) rfl rfl rfl hl.1 rfl (Nat.le_of_ble_eq_true rfl) dX8_search_59 ⟨Nat.le_refl _, Nat.le_refl _⟩ (fun H locs hW => ?_)
            obtain ⟨x_28, e_29, h⟩ := nmI_some h
            refine lv_iinc (v := x_28) (lv' := [(1, .int x_28), (0, .ref (al 0))]) hx hb dX8_search_62 hl (k := 1) rfl (by rw [e_29]; rfl) (by decide) rfl (fun ls hl => ?_)
            refine lv_goto (tgt := 29) hx hb dX8_search_65 (by decide) ?_
            exact ih x_28 V_27 out _ _ _ h hW (lv_sub hl [1, 0] rfl) k1
  have Lp204 : ∀ (x1 : Int32) (x2 : Int32) (x3 : Int32) (L : g_L) (n : Nat) (x4 : Int32) (V : g_V) (out : (g_V)) (H : Heap) (locs : List Loc) (ls : Array Slot), tw_search_L204 x1 x2 x3 n x4 V = some out → twW gp nx D K al s V L H locs → lv_has ls 6 [(0, .ref (al 0)), (1, .int x1), (2, .int x2), (3, .int x3), (4, .int x4)] → (∀ (oV : g_V), out = oV → ∀ (H : Heap) (locs : List Loc) (ls : Array Slot), twW gp nx D K al s oV L H locs → lv_has ls 6 [(0, .ref (al 0)), (1, .int x1)] → W p l e rmX8_search s m ([.ref (al 0)] : List Value).toArray below meth c H locs 0 0 (MQ below (twQi r nx D K al V' L0) ([.ref (al 0)] : List Value).toArray s 0 0 (g_A al twSh)) (F0 m 267 ls [])) → W p l e rmX8_search s m ([.ref (al 0)] : List Value).toArray below meth c H locs 0 0 (MQ below (twQi r nx D K al V' L0) ([.ref (al 0)] : List Value).toArray s 0 0 (g_A al twSh)) (F0 m 204 ls []) := by
    intro x1 x2 x3 L n
    induction n with
    | zero =>
      intro x4 V out H locs ls h
      exact (lp_0 h).elim
    | succ n ih =>
      intro x4 V out H locs ls h hW hl k1
      rw [tw_search_L204_s] at h
      unfold tw_search_B204 at h
      refine lv_iload hx hb dX8_search_204 (lv_at hl 4 rfl) ?_
      refine lv_iconst (v := 4) hx hb dX8_search_206 (by decide) ?_
      refine lv_icmp_ge (tgt := 267) hx hb dX8_search_207 (by decide) (fun c_47 => ?_) (fun c_47 => ?_)
      · have h := if_t h c_47
        exact k1 _ (Option.some.inj h).symm _ _ _ hW (lv_sub hl [0, 1] rfl)
      · have h := if_f h c_47
        refine lv_iload_n hx hb dX8_search_210 rfl (lv_at hl 3 rfl) ?_
        refine lv_iload hx hb dX8_search_211 (lv_at hl 4 rfl) ?_
        obtain ⟨x_50, h_48, h⟩ := bnd_some h
        refine g_callSi (As := [.int x3, .int x4]) (rest := []) S hW (metX8_beside h_48) (cwX8_beside S.2.2.2.2 q1779 ⟨Nat.le_of_ble_eq_true rfl, Nat.le_of_ble_eq_true rfl⟩) rfl hl.1 rfl (Nat.le_of_ble_eq_true rfl) dX8_search_213 ⟨Nat.le_refl _, Nat.le_refl _⟩ (fun H locs hW => ?_)
        refine lv_istore (lv' := [(5, .int x_50), (0, .ref (al 0)), (1, .int x1), (2, .int x2), (3, .int x3), (4, .int x4)]) hx hb dX8_search_216 hl (by decide) rfl (fun ls hl => ?_)
        refine lv_iload hx hb dX8_search_218 (lv_at hl 0 rfl) ?_
        refine lv_iconst (v := (-1)) hx hb dX8_search_220 (by decide) ?_
        refine lv_icmp_eq (tgt := 261) hx hb dX8_search_221 (by decide) (fun c_51 => ?_) (fun c_51 => ?_)
        · have h := if_t h c_51
          obtain ⟨x_52, e_53, h⟩ := nmI_some h
          refine lv_iinc (v := x_52) (lv' := [(4, .int x_52), (5, .int x_50), (0, .ref (al 0)), (1, .int x1), (2, .int x2), (3, .int x3)]) hx hb dX8_search_261 hl (k := 5) rfl (by rw [e_53]; rfl) (by decide) rfl (fun ls hl => ?_)
          refine lv_goto (tgt := 204) hx hb dX8_search_264 (by decide) ?_
          exact ih x_52 V out _ _ _ h hW (lv_sub hl [2, 3, 4, 5, 0] rfl) k1
        · have h := if_f h c_51
          refine lv_aload_n hx hb dX8_search_224 rfl (lv_at hl 1 rfl) ?_
          refine lv_iload hx hb dX8_search_225 (lv_at hl 0 rfl) ?_
          obtain ⟨x_56, h_54, h⟩ := bnd_some h
          refine g_callVi (As := [.int x_50]) (rest := []) S hW (metX8_isOpen h_54) (cwX8_isOpen S.2.2.2.2 q1897 ⟨Nat.le_of_ble_eq_true rfl, Nat.le_of_ble_eq_true rfl⟩) (k := 0) rfl rfl rfl hl.1 rfl (Nat.le_of_ble_eq_true rfl) dX8_search_227 ⟨Nat.le_refl _, Nat.le_refl _⟩ (fun H locs hW => ?_)
          refine lv_if_eq (tgt := 261) hx hb dX8_search_230 (by decide) (fun c_57 => ?_) (fun c_57 => ?_)
          · have h := if_t h c_57
            obtain ⟨x_58, e_59, h⟩ := nmI_some h
            refine lv_iinc (v := x_58) (lv' := [(4, .int x_58), (5, .int x_50), (0, .ref (al 0)), (1, .int x1), (2, .int x2), (3, .int x3)]) hx hb dX8_search_261 hl (k := 5) rfl (by rw [e_59]; rfl) (by decide) rfl (fun ls hl => ?_)
            refine lv_goto (tgt := 204) hx hb dX8_search_264 (by decide) ?_
            exact ih x_58 V out _ _ _ h hW (lv_sub hl [2, 3, 4, 5, 0] rfl) k1
          · have h := if_f h c_57
            refine lv_aload_n hx hb dX8_search_233 rfl (lv_at hl 1 rfl) ?_
            refine tw_ref S hW 28 28 (by decide) rfl q1527 rfl dX8_search_234 ?_
            refine lv_iconst (v := 4) hx hb dX8_search_237 (by decide) ?_
            refine lv_iload hx hb dX8_search_238 (lv_at hl 0 rfl) ?_
            refine lv_imul hx hb dX8_search_240 ?_
            refine lv_iload hx hb dX8_search_241 (lv_at hl 5 rfl) ?_
            refine lv_iconst (v := 1) hx hb dX8_search_243 (by decide) ?_
            refine lv_ixor hx hb dX8_search_244 ?_
            refine lv_iadd hx hb dX8_search_245 ?_
            obtain ⟨h_61, x_60, e_62, h⟩ := rdI_some h
            refine g_zald S hW (k := 28) rfl rfl h_61 e_62 dX8_search_246 ?_
            refine lv_if_eq (tgt := 261) hx hb dX8_search_247 (by decide) (fun c_63 => ?_) (fun c_63 => ?_)
            · have h := if_t h c_63
              obtain ⟨x_64, e_65, h⟩ := nmI_some h
              refine lv_iinc (v := x_64) (lv' := [(4, .int x_64), (5, .int x_50), (0, .ref (al 0)), (1, .int x1), (2, .int x2), (3, .int x3)]) hx hb dX8_search_261 hl (k := 5) rfl (by rw [e_65]; rfl) (by decide) rfl (fun ls hl => ?_)
              refine lv_goto (tgt := 204) hx hb dX8_search_264 (by decide) ?_
              exact ih x_64 V out _ _ _ h hW (lv_sub hl [2, 3, 4, 5, 0] rfl) k1
            · have h := if_f h c_63
              refine lv_aload_n hx hb dX8_search_250 rfl (lv_at hl 1 rfl) ?_
              refine lv_iconst (v := 2) hx hb dX8_search_251 (by decide) ?_
              refine lv_iload hx hb dX8_search_252 (lv_at hl 0 rfl) ?_
              refine lv_imul hx hb dX8_search_254 ?_
              refine lv_iconst (v := 1) hx hb dX8_search_255 (by decide) ?_
              refine lv_iadd hx hb dX8_search_256 ?_
              refine lv_iload_n hx hb dX8_search_257 rfl (lv_at hl 3 rfl) ?_
              obtain ⟨V_68, h_66, h⟩ := bnd_some h
              refine g_callVv (As := [.int ((2 * x_50) + 1), .int x2]) (rest := []) S hW (metX8_reach h_66) (cwX8_reach S.2.2.2.2 q1901 ⟨Nat.le_of_ble_eq_true rfl, Nat.le_of_ble_eq_true rfl⟩) (k := 0) rfl rfl rfl hl.1 rfl (Nat.le_of_ble_eq_true rfl) dX8_search_258 ⟨Nat.le_refl _, Nat.le_refl _⟩ (fun H locs hW => ?_)
              obtain ⟨x_69, e_70, h⟩ := nmI_some h
              refine lv_iinc (v := x_69) (lv' := [(4, .int x_69), (5, .int x_50), (0, .ref (al 0)), (1, .int x1), (2, .int x2), (3, .int x3)]) hx hb dX8_search_261 hl (k := 5) rfl (by rw [e_70]; rfl) (by decide) rfl (fun ls hl => ?_)
              refine lv_goto (tgt := 204) hx hb dX8_search_264 (by decide) ?_
              exact ih x_69 V_68 out _ _ _ h hW (lv_sub hl [2, 3, 4, 5, 0] rfl) k1
  have Lp135 : ∀ (x1 : Int32) (x2 : Int32) (x3 : Int32) (L : g_L) (n : Nat) (x4 : Int32) (V : g_V) (out : (g_V)) (H : Heap) (locs : List Loc) (ls : Array Slot), tw_search_L135 x1 x2 x3 n x4 V = some out → twW gp nx D K al s V L H locs → lv_has ls 6 [(0, .ref (al 0)), (1, .int x1), (2, .int x2), (3, .int x3), (4, .int x4)] → (∀ (oV : g_V), out = oV → ∀ (H : Heap) (locs : List Loc) (ls : Array Slot), twW gp nx D K al s oV L H locs → lv_has ls 6 [(0, .ref (al 0)), (1, .int x1)] → W p l e rmX8_search s m ([.ref (al 0)] : List Value).toArray below meth c H locs 0 0 (MQ below (twQi r nx D K al V' L0) ([.ref (al 0)] : List Value).toArray s 0 0 (g_A al twSh)) (F0 m 179 ls [])) → W p l e rmX8_search s m ([.ref (al 0)] : List Value).toArray below meth c H locs 0 0 (MQ below (twQi r nx D K al V' L0) ([.ref (al 0)] : List Value).toArray s 0 0 (g_A al twSh)) (F0 m 135 ls []) := by
    intro x1 x2 x3 L n
    induction n with
    | zero =>
      intro x4 V out H locs ls h
      exact (lp_0 h).elim
    | succ n ih =>
      intro x4 V out H locs ls h hW hl k1
      rw [tw_search_L135_s] at h
      unfold tw_search_B135 at h
      refine lv_iload hx hb dX8_search_135 (lv_at hl 4 rfl) ?_
      refine lv_iconst (v := 4) hx hb dX8_search_137 (by decide) ?_
      refine lv_icmp_ge (tgt := 179) hx hb dX8_search_138 (by decide) (fun c_81 => ?_) (fun c_81 => ?_)
      · have h := if_t h c_81
        exact k1 _ (Option.some.inj h).symm _ _ _ hW (lv_sub hl [0, 1] rfl)
      · have h := if_f h c_81
        refine lv_iload_n hx hb dX8_search_141 rfl (lv_at hl 3 rfl) ?_
        refine lv_iload hx hb dX8_search_142 (lv_at hl 4 rfl) ?_
        obtain ⟨x_84, h_82, h⟩ := bnd_some h
        refine g_callSi (As := [.int x3, .int x4]) (rest := []) S hW (metX8_beside h_82) (cwX8_beside S.2.2.2.2 q1779 ⟨Nat.le_of_ble_eq_true rfl, Nat.le_of_ble_eq_true rfl⟩) rfl hl.1 rfl (Nat.le_of_ble_eq_true rfl) dX8_search_144 ⟨Nat.le_refl _, Nat.le_refl _⟩ (fun H locs hW => ?_)
        refine lv_istore (lv' := [(5, .int x_84), (0, .ref (al 0)), (1, .int x1), (2, .int x2), (3, .int x3), (4, .int x4)]) hx hb dX8_search_147 hl (by decide) rfl (fun ls hl => ?_)
        refine lv_iload hx hb dX8_search_149 (lv_at hl 0 rfl) ?_
        refine lv_iconst (v := (-1)) hx hb dX8_search_151 (by decide) ?_
        refine lv_icmp_eq (tgt := 173) hx hb dX8_search_152 (by decide) (fun c_85 => ?_) (fun c_85 => ?_)
        · have h := if_t h c_85
          obtain ⟨x_86, e_87, h⟩ := nmI_some h
          refine lv_iinc (v := x_86) (lv' := [(4, .int x_86), (5, .int x_84), (0, .ref (al 0)), (1, .int x1), (2, .int x2), (3, .int x3)]) hx hb dX8_search_173 hl (k := 5) rfl (by rw [e_87]; rfl) (by decide) rfl (fun ls hl => ?_)
          refine lv_goto (tgt := 135) hx hb dX8_search_176 (by decide) ?_
          exact ih x_86 V out _ _ _ h hW (lv_sub hl [2, 3, 4, 5, 0] rfl) k1
        · have h := if_f h c_85
          refine lv_aload_n hx hb dX8_search_155 rfl (lv_at hl 1 rfl) ?_
          refine lv_iload hx hb dX8_search_156 (lv_at hl 0 rfl) ?_
          obtain ⟨x_90, h_88, h⟩ := bnd_some h
          refine g_callVi (As := [.int x_84]) (rest := []) S hW (metX8_isOpen h_88) (cwX8_isOpen S.2.2.2.2 q1897 ⟨Nat.le_of_ble_eq_true rfl, Nat.le_of_ble_eq_true rfl⟩) (k := 0) rfl rfl rfl hl.1 rfl (Nat.le_of_ble_eq_true rfl) dX8_search_158 ⟨Nat.le_refl _, Nat.le_refl _⟩ (fun H locs hW => ?_)
          refine lv_if_eq (tgt := 173) hx hb dX8_search_161 (by decide) (fun c_91 => ?_) (fun c_91 => ?_)
          · have h := if_t h c_91
            obtain ⟨x_92, e_93, h⟩ := nmI_some h
            refine lv_iinc (v := x_92) (lv' := [(4, .int x_92), (5, .int x_84), (0, .ref (al 0)), (1, .int x1), (2, .int x2), (3, .int x3)]) hx hb dX8_search_173 hl (k := 5) rfl (by rw [e_93]; rfl) (by decide) rfl (fun ls hl => ?_)
            refine lv_goto (tgt := 135) hx hb dX8_search_176 (by decide) ?_
            exact ih x_92 V out _ _ _ h hW (lv_sub hl [2, 3, 4, 5, 0] rfl) k1
          · have h := if_f h c_91
            refine lv_aload_n hx hb dX8_search_164 rfl (lv_at hl 1 rfl) ?_
            refine lv_iconst (v := 2) hx hb dX8_search_165 (by decide) ?_
            refine lv_iload hx hb dX8_search_166 (lv_at hl 0 rfl) ?_
            refine lv_imul hx hb dX8_search_168 ?_
            refine lv_iload_n hx hb dX8_search_169 rfl (lv_at hl 3 rfl) ?_
            obtain ⟨V_96, h_94, h⟩ := bnd_some h
            refine g_callVv (As := [.int (2 * x_84), .int x2]) (rest := []) S hW (metX8_reach h_94) (cwX8_reach S.2.2.2.2 q1901 ⟨Nat.le_of_ble_eq_true rfl, Nat.le_of_ble_eq_true rfl⟩) (k := 0) rfl rfl rfl hl.1 rfl (Nat.le_of_ble_eq_true rfl) dX8_search_170 ⟨Nat.le_refl _, Nat.le_refl _⟩ (fun H locs hW => ?_)
            obtain ⟨x_97, e_98, h⟩ := nmI_some h
            refine lv_iinc (v := x_97) (lv' := [(4, .int x_97), (5, .int x_84), (0, .ref (al 0)), (1, .int x1), (2, .int x2), (3, .int x3)]) hx hb dX8_search_173 hl (k := 5) rfl (by rw [e_98]; rfl) (by decide) rfl (fun ls hl => ?_)
            refine lv_goto (tgt := 135) hx hb dX8_search_176 (by decide) ?_
            exact ih x_97 V_96 out _ _ _ h hW (lv_sub hl [2, 3, 4, 5, 0] rfl) k1
  have Lp70 : ∀ (L : g_L) (n : Nat) (x1 : Int32) (V : g_V) (out : ((g_V) ⊕ (Int32 × g_V))) (H : Heap) (locs : List Loc) (ls : Array Slot), tw_search_L70 n x1 V = some out → twW gp nx D K al s V L H locs → lv_has ls 6 [(0, .ref (al 0)), (1, .int x1)] → (∀ (oV : g_V), out = (.inl oV) → ∀ (H : Heap) (locs : List Loc) (ls : Array Slot), twW gp nx D K al s oV L H locs → lv_has ls 6 [] → W p l e rmX8_search s m ([.ref (al 0)] : List Value).toArray below meth c H locs 0 0 (MQ below (twQi r nx D K al V' L0) ([.ref (al 0)] : List Value).toArray s 0 0 (g_A al twSh)) (F0 m 270 ls [])) → (∀ (o2 : Int32) (oV : g_V), out = (.inr (o2, oV)) → ∀ (H : Heap) (locs : List Loc) (ls : Array Slot), twW gp nx D K al s oV L H locs → lv_has ls 6 [(2, .int o2)] → W p l e rmX8_search s m ([.ref (al 0)] : List Value).toArray below meth c H locs 0 0 (MQ below (twQi r nx D K al V' L0) ([.ref (al 0)] : List Value).toArray s 0 0 (g_A al twSh)) (F0 m 106 ls [])) → W p l e rmX8_search s m ([.ref (al 0)] : List Value).toArray below meth c H locs 0 0 (MQ below (twQi r nx D K al V' L0) ([.ref (al 0)] : List Value).toArray s 0 0 (g_A al twSh)) (F0 m 70 ls []) := by
    intro L n
    induction n with
    | zero =>
      intro x1 V out H locs ls h
      exact (lp_0 h).elim
    | succ n ih =>
      intro x1 V out H locs ls h hW hl k1 k2
      have J201 : ∀ (x1 : Int32) (x2 : Int32) (x3 : Int32) (V : g_V) (H : Heap) (locs : List Loc) (ls : Array Slot), tw_search_J201 (fun x1 V => tw_search_L70 n x1 V) x1 x2 x3 V = some out → twW gp nx D K al s V L H locs → lv_has ls 6 [(0, .ref (al 0)), (1, .int x1), (2, .int x2), (3, .int x3)] → W p l e rmX8_search s m ([.ref (al 0)] : List Value).toArray below meth c H locs 0 0 (MQ below (twQi r nx D K al V' L0) ([.ref (al 0)] : List Value).toArray s 0 0 (g_A al twSh)) (F0 m 201 ls []) := by
        intro x1 x2 x3 V H locs ls h hW hl
        unfold tw_search_J201 at h
        refine lv_iconst (v := 0) hx hb dX8_search_201 (by decide) ?_
        refine lv_istore (lv' := [(4, .int 0), (0, .ref (al 0)), (1, .int x1), (2, .int x2), (3, .int x3)]) hx hb dX8_search_202 hl (by decide) rfl (fun ls hl => ?_)
        obtain ⟨V_73, h_72, h⟩ := bnd_some h
        refine Lp204 x1 x2 x3 L 1000 0 V  _ _ _ _ h_72 hW (lv_sub hl [1, 2, 3, 4, 0] rfl) ?_
        intro w0 eo H locs ls hW hl
        subst eo
        refine lv_goto (tgt := 70) hx hb dX8_search_267 (by decide) ?_
        exact ih x1 V_73 out _ _ _ h hW hl k1 k2
      have J132 : ∀ (x1 : Int32) (x2 : Int32) (x3 : Int32) (V : g_V) (H : Heap) (locs : List Loc) (ls : Array Slot), tw_search_J132 (fun x1 V => tw_search_L70 n x1 V) x1 x2 x3 V = some out → twW gp nx D K al s V L H locs → lv_has ls 6 [(0, .ref (al 0)), (1, .int x1), (2, .int x2), (3, .int x3)] → W p l e rmX8_search s m ([.ref (al 0)] : List Value).toArray below meth c H locs 0 0 (MQ below (twQi r nx D K al V' L0) ([.ref (al 0)] : List Value).toArray s 0 0 (g_A al twSh)) (F0 m 132 ls []) := by
        intro x1 x2 x3 V H locs ls h hW hl
        unfold tw_search_J132 at h
        refine lv_iconst (v := 0) hx hb dX8_search_132 (by decide) ?_
        refine lv_istore (lv' := [(4, .int 0), (0, .ref (al 0)), (1, .int x1), (2, .int x2), (3, .int x3)]) hx hb dX8_search_133 hl (by decide) rfl (fun ls hl => ?_)
        obtain ⟨V_101, h_100, h⟩ := bnd_some h
        refine Lp135 x1 x2 x3 L 1000 0 V  _ _ _ _ h_100 hW (lv_sub hl [1, 2, 3, 4, 0] rfl) ?_
        intro w0 eo H locs ls hW hl
        subst eo
        refine lv_goto (tgt := 267) hx hb dX8_search_179 (by decide) ?_
        refine lv_goto (tgt := 70) hx hb dX8_search_267 (by decide) ?_
        exact ih x1 V_101 out _ _ _ h hW hl k1 k2
      have J108 : ∀ (x1 : Int32) (x2 : Int32) (x3 : Int32) (V : g_V) (H : Heap) (locs : List Loc) (ls : Array Slot), tw_search_J108 (fun x1 V => tw_search_L70 n x1 V) x1 x2 x3 V = some out → twW gp nx D K al s V L H locs → lv_has ls 6 [(0, .ref (al 0)), (1, .int x1), (2, .int x2), (3, .int x3)] → W p l e rmX8_search s m ([.ref (al 0)] : List Value).toArray below meth c H locs 0 0 (MQ below (twQi r nx D K al V' L0) ([.ref (al 0)] : List Value).toArray s 0 0 (g_A al twSh)) (F0 m 108 ls []) := by
        intro x1 x2 x3 V H locs ls h hW hl
        unfold tw_search_J108 at h
        refine lv_iload_n hx hb dX8_search_108 rfl (lv_at hl 2 rfl) ?_
        refine lv_iconst (v := 2) hx hb dX8_search_109 (by decide) ?_
        refine lv_irem hx hb dX8_search_110 (by decide) ?_
        refine lv_iconst (v := 1) hx hb dX8_search_111 (by decide) ?_
        refine lv_icmp_ne (tgt := 182) hx hb dX8_search_112 (by decide) (fun c_42 => ?_) (fun c_42 => ?_)
        · have h := if_f h c_42
          refine lv_aload_n hx hb dX8_search_182 rfl (lv_at hl 0 rfl) ?_
          refine tw_ref S hW 27 27 (by decide) rfl q1526 rfl dX8_search_183 ?_
          refine lv_iload_n hx hb dX8_search_186 rfl (lv_at hl 3 rfl) ?_
          obtain ⟨h_44, x_43, e_45, h⟩ := rdI_some h
          refine g_zald S hW (k := 27) rfl rfl h_44 e_45 dX8_search_187 ?_
          refine lv_if_ne (tgt := 201) hx hb dX8_search_188 (by decide) (fun c_46 => ?_) (fun c_46 => ?_)
          · have h := if_f h c_46
            exact J201 x1 x2 x3 V _ _ _ h hW hl
          · have h := if_t h c_46
            refine lv_aload_n hx hb dX8_search_191 rfl (lv_at hl 0 rfl) ?_
            refine lv_iconst (v := 2) hx hb dX8_search_192 (by decide) ?_
            refine lv_iload_n hx hb dX8_search_193 rfl (lv_at hl 3 rfl) ?_
            refine lv_imul hx hb dX8_search_194 ?_
            refine lv_iconst (v := 1) hx hb dX8_search_195 (by decide) ?_
            refine lv_iadd hx hb dX8_search_196 ?_
            refine lv_iload_n hx hb dX8_search_197 rfl (lv_at hl 2 rfl) ?_
            obtain ⟨V_76, h_74, h⟩ := bnd_some h
            refine g_callVv (As := [.int ((2 * x3) + 1), .int x2]) (rest := []) S hW (metX8_reach h_74) (cwX8_reach S.2.2.2.2 q1901 ⟨Nat.le_of_ble_eq_true rfl, Nat.le_of_ble_eq_true rfl⟩) (k := 0) rfl rfl rfl hl.1 rfl (Nat.le_of_ble_eq_true rfl) dX8_search_198 ⟨Nat.le_refl _, Nat.le_refl _⟩ (fun H locs hW => ?_)
            exact J201 x1 x2 x3 V_76 _ _ _ h hW hl
        · have h := if_t h c_42
          refine lv_aload_n hx hb dX8_search_115 rfl (lv_at hl 0 rfl) ?_
          refine tw_ref S hW 27 27 (by decide) rfl q1526 rfl dX8_search_116 ?_
          refine lv_iload_n hx hb dX8_search_119 rfl (lv_at hl 3 rfl) ?_
          obtain ⟨h_78, x_77, e_79, h⟩ := rdI_some h
          refine g_zald S hW (k := 27) rfl rfl h_78 e_79 dX8_search_120 ?_
          refine lv_if_eq (tgt := 132) hx hb dX8_search_121 (by decide) (fun c_80 => ?_) (fun c_80 => ?_)
          · have h := if_t h c_80
            exact J132 x1 x2 x3 V _ _ _ h hW hl
          · have h := if_f h c_80
            refine lv_aload_n hx hb dX8_search_124 rfl (lv_at hl 0 rfl) ?_
            refine lv_iconst (v := 2) hx hb dX8_search_125 (by decide) ?_
            refine lv_iload_n hx hb dX8_search_126 rfl (lv_at hl 3 rfl) ?_
            refine lv_imul hx hb dX8_search_127 ?_
            refine lv_iload_n hx hb dX8_search_128 rfl (lv_at hl 2 rfl) ?_
            obtain ⟨V_104, h_102, h⟩ := bnd_some h
            refine g_callVv (As := [.int (2 * x3), .int x2]) (rest := []) S hW (metX8_reach h_102) (cwX8_reach S.2.2.2.2 q1901 ⟨Nat.le_of_ble_eq_true rfl, Nat.le_of_ble_eq_true rfl⟩) (k := 0) rfl rfl rfl hl.1 rfl (Nat.le_of_ble_eq_true rfl) dX8_search_129 ⟨Nat.le_refl _, Nat.le_refl _⟩ (fun H locs hW => ?_)
            exact J132 x1 x2 x3 V_104 _ _ _ h hW hl
      rw [tw_search_L70_s] at h
      unfold tw_search_B70 at h
      refine lv_iload_n hx hb dX8_search_70 rfl (lv_at hl 1 rfl) ?_
      refine lv_aload_n hx hb dX8_search_71 rfl (lv_at hl 0 rfl) ?_
      refine tw_int S hW 31 (by decide) rfl q1530 rfl dX8_search_72 ?_
      refine lv_icmp_ge (tgt := 270) hx hb dX8_search_75 (by decide) (fun c_33 => ?_) (fun c_33 => ?_)
      · have h := if_t h c_33
        exact k1 _ (Option.some.inj h).symm _ _ _ hW (lv_sub hl [] rfl)
      · have h := if_f h c_33
        refine lv_aload_n hx hb dX8_search_78 rfl (lv_at hl 0 rfl) ?_
        refine tw_ref S hW 30 30 (by decide) rfl q1529 rfl dX8_search_79 ?_
        refine lv_iload_n hx hb dX8_search_82 rfl (lv_at hl 1 rfl) ?_
        obtain ⟨h_35, x_34, e_36, h⟩ := rdI_some h
        refine g_iald S hW (k := 30) rfl rfl h_35 e_36 dX8_search_83 ?_
        refine lv_istore_n (lv' := [(2, .int x_34), (0, .ref (al 0)), (1, .int x1)]) hx hb dX8_search_84 rfl hl (by decide) rfl (fun ls hl => ?_)
        obtain ⟨x_37, e_38, h⟩ := nmI_some h
        refine lv_iinc (v := x_37) (lv' := [(1, .int x_37), (2, .int x_34), (0, .ref (al 0))]) hx hb dX8_search_85 hl (k := 2) rfl (by rw [e_38]; rfl) (by decide) rfl (fun ls hl => ?_)
        refine lv_iload_n hx hb dX8_search_88 rfl (lv_at hl 1 rfl) ?_
        refine lv_iconst (v := 2) hx hb dX8_search_89 (by decide) ?_
        refine lv_idiv hx hb dX8_search_90 (by decide) ?_
        obtain ⟨x_39, e_40, h⟩ := nmI_some h
        refine g_nmi e_40 ?_
        refine lv_istore_n (lv' := [(3, .int x_39), (1, .int x_37), (2, .int x_34), (0, .ref (al 0))]) hx hb dX8_search_91 rfl hl (by decide) rfl (fun ls hl => ?_)
        refine lv_iload_n hx hb dX8_search_92 rfl (lv_at hl 2 rfl) ?_
        refine lv_iconst (v := 2) hx hb dX8_search_93 (by decide) ?_
        refine lv_irem hx hb dX8_search_94 (by decide) ?_
        refine lv_iconst (v := 1) hx hb dX8_search_95 (by decide) ?_
        refine lv_icmp_ne (tgt := 108) hx hb dX8_search_96 (by decide) (fun c_41 => ?_) (fun c_41 => ?_)
        · have h := if_f h c_41
          exact J108 x_37 x_34 x_39 V _ _ _ h hW (lv_sub hl [3, 1, 2, 0] rfl)
        · have h := if_t h c_41
          refine lv_iload_n hx hb dX8_search_99 rfl (lv_at hl 0 rfl) ?_
          obtain ⟨x_107, h_105, h⟩ := bnd_some h
          refine g_callSi (As := [.int x_39]) (rest := []) S hW (metX8_isRim h_105) (cwX8_isRim S.2.2.2.2 q1835 ⟨Nat.le_of_ble_eq_true rfl, Nat.le_of_ble_eq_true rfl⟩) rfl hl.1 rfl (Nat.le_of_ble_eq_true rfl) dX8_search_100 ⟨Nat.le_refl _, Nat.le_refl _⟩ (fun H locs hW => ?_)
          refine lv_if_eq (tgt := 108) hx hb dX8_search_103 (by decide) (fun c_108 => ?_) (fun c_108 => ?_)
          · have h := if_t h c_108
            exact J108 x_37 x_34 x_39 V _ _ _ h hW (lv_sub hl [3, 1, 2, 0] rfl)
          · have h := if_f h c_108
            exact k2 _ _ (Option.some.inj h).symm _ _ _ hW (lv_sub hl [2] rfl)
  unfold tw_search at h
  refine lv_iconst (v := 0) hx hb dX8_search_0 (by decide) ?_
  refine lv_istore_n (lv' := [(1, .int 0), (0, .ref (al 0))]) hx hb dX8_search_1 rfl hl (by decide) rfl (fun ls hl => ?_)
  obtain ⟨V_9, h_8, h⟩ := bnd_some h
  refine Lp2 L0 1000 0 V0  _ _ _ _ h_8 hW (lv_sub hl [1, 0] rfl) ?_
  intro w0 eo H locs ls hW hl
  subst eo
  refine lv_aload_n hx hb dX8_search_22 rfl (lv_at hl 0 rfl) ?_
  refine lv_iconst (v := 0) hx hb dX8_search_23 (by decide) ?_
  obtain ⟨V_10, e_11, h⟩ := ptI_some h
  refine tw_puti S hW 31 (by decide) rfl rfl rfl rfl rfl q1530 e_11 dX8_search_24 (fun H locs hW => ?_)
  refine lv_iconst (v := 0) hx hb dX8_search_27 (by decide) ?_
  refine lv_istore_n (lv' := [(1, .int 0), (0, .ref (al 0))]) hx hb dX8_search_28 rfl hl (by decide) rfl (fun ls hl => ?_)
  obtain ⟨V_32, h_31, h⟩ := bnd_some h
  refine Lp29 L0 1000 0 V_10  _ _ _ _ h_31 hW (lv_sub hl [1, 0] rfl) ?_
  intro w0 eo H locs ls hW hl
  subst eo
  refine lv_iconst (v := 0) hx hb dX8_search_68 (by decide) ?_
  refine lv_istore_n (lv' := [(1, .int 0), (0, .ref (al 0))]) hx hb dX8_search_69 rfl hl (by decide) rfl (fun ls hl => ?_)
  obtain ⟨o_109, h_110, h⟩ := bnd_some h
  have h9 := cs2_some h
  clear h
  rcases h9 with ⟨q, rfl, h⟩ | ⟨q, rfl, h⟩
  · obtain ⟨V_111, rfl⟩ : ∃ z, z = q := ⟨q, rfl⟩
    refine Lp70 L0 1000 0 V_32  _ _ _ _ h_110 hW (lv_sub hl [1, 0] rfl) ?_ (fun _ _ eo => by cases eo)
    intro w0 eo H locs ls hW hl
    cases eo
    refine lv_iconst (v := (-1)) hx hb dX8_search_270 (by decide) ?_
    cases h
    exact g_iret S hr hlk hW dX8_search_271
  · have h9 := un2_some h
    clear h
    obtain ⟨x_112, V_113, rfl, h⟩ := h9
    refine Lp70 L0 1000 0 V_32  _ _ _ _ h_110 hW (lv_sub hl [1, 0] rfl) (fun _ eo => by cases eo) ?_
    intro w0 w1 eo H locs ls hW hl
    cases eo
    refine lv_iload_n hx hb dX8_search_106 rfl (lv_at hl 0 rfl) ?_
    cases h
    exact g_iret S hr hlk hW dX8_search_107
theorem cwX8_search {R : Room} {s : State} {args : Array Value} {index : Nat} (hts : ∀ w ∈ lw_all, w.before args s = true) (hl : Cond.methodLink RX8 index yX8_search ∈ lw_all) (hR : rmX8_search.frames + 1 ≤ R.frames ∧ 8 + (6 + 11) + rmX8_search.locals ≤ R.locals) : CallW R s args RX8 RX8 index yX8_search cX8_search 6 (some .int) (ws_ yX8_search cX8_search 6 (some .int)) rmX8_search 0 0 0 := cwV 0 hts (lw_V hl q1895 qs93 q122 q1896) rfl rfl rfl (by decide +kernel) hR
