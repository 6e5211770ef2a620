/-! walks of the reference: X8_goes X8_readGround X8_comesBeside X8_isShut X8_shut X8_findGaps X8_wordOf X8_pump X8_readLine -/
set_option maxRecDepth 100000
def tw_goes_B2 (rec : Int32 → g_V → Option (g_V)) (x2 : Int32) (V : g_V) : Option (g_V) :=
  rdI (V 29) 288 x2 fun x_1 => if x_1 = 1000 then (some V) else (rdI (V 29) 288 x2 fun x_5 => nmI (x_5 / 2) fun x_8 => nmI (x2 / 2) fun x_10 => if x_8 = x_10 then (if (x2 - x2 / 2 * 2) = 1 then (wrI V 27 144 x_8 1 fun V_32 => rec x_5 V_32) else (wrI V 27 144 x_8 0 fun V_29 => rec x_5 V_29)) else (if (x2 - x2 / 2 * 2) = 0 then (bnd (tw_wayTo x_8 x_10) (fun x_22 => wrI V 28 576 ((4 * x_8) + x_22) 1 fun V_25 => rec x_5 V_25)) else (bnd (tw_wayTo x_10 x_8) (fun x_16 => wrI V 28 576 ((4 * x_10) + x_16) 0 fun V_19 => rec x_5 V_19))))
abbrev tw_goes_F2 : ((Int32 × g_V) → Option (g_V)) → (Int32 × g_V) → Option (g_V) := fun rec s => tw_goes_B2 (fun x2 V => rec (x2, V)) s.1 s.2
def tw_goes_L2 (n : Nat) (x2 : Int32) (V : g_V) : Option (g_V) := lp (tw_goes_F2) n (x2, V)
theorem tw_goes_L2_s (n : Nat) (x2 : Int32) (V : g_V) : tw_goes_L2 (n + 1) x2 V = tw_goes_B2 (fun x2 V => tw_goes_L2 n x2 V) x2 V := lp_s (tw_goes_F2) n (x2, V)
def tw_goes (V0 : g_V) (a1 : Int32) : Option (g_V) :=
  bnd (tw_goes_L2 1000 a1 V0) (fun V_35 => some V_35)
abbrev rmX8_goes : Room := rm_ 4 91
set_option maxHeartbeats 4000000 in
theorem metX8_goes {l : Launch} {gp : Nat → Nat} {nx : Nat} {D : va_G} {K : Nat → ClassId} {al : Nat → Nat} {V0 : g_V} {L0 : g_L} {a1 : Int32} {V' : g_V} (h : tw_goes V0 a1 = some V') : Met l yX8_goes (ws_ yX8_goes cX8_goes 6 (none)) rmX8_goes (twPc gp nx [.ref (al 0), .int a1] D K al V0 L0) (twQv nx D K al V' L0) 0 0 (g_A al twSh) := by
  refine g_met rfl (Nat.le_of_ble_eq_true rfl) ?_
  intro p e s m below meth c ls S hr hlk hnm hl hW
  have S : CallFix p m c cX8_goes 6 s ([.ref (al 0), .int a1] : List Value).toArray lw_all RX8 := S
  have hx := S.1
  have hb := S.2.1
  have hl : lv_has ls 6 [(0, .ref (al 0)), (1, .int a1)] := hl
  have Lp2 : ∀ (L : g_L) (n : Nat) (x2 : Int32) (V : g_V) (out : (g_V)) (H : Heap) (locs : List Loc) (ls : Array Slot), tw_goes_L2 n x2 V = some out → twW gp nx D K al s V L H locs → lv_has ls 6 [(0, .ref (al 0)), (2, .int x2)] → (∀ (oV : g_V), out = oV → ∀ (H : Heap) (locs : List Loc) (ls : Array Slot), twW gp nx D K al s oV L H locs → lv_has ls 6 [] → W p l e rmX8_goes s m ([.ref (al 0), .int a1] : List Value).toArray below meth c H locs 0 0 (MQ below (twQv nx D K al V' L0) ([.ref (al 0), .int a1] : List Value).toArray s 0 0 (g_A al twSh)) (F0 m 110 ls [])) → W p l e rmX8_goes s m ([.ref (al 0), .int a1] : List Value).toArray below meth c H locs 0 0 (MQ below (twQv nx D K al V' L0) ([.ref (al 0), .int a1] : List Value).toArray s 0 0 (g_A al twSh)) (F0 m 2 ls []) := by
    intro L n
    induction n with
    | zero =>
      intro x2 V out H locs ls h
      exact (lp_0 h).elim
    | succ n ih =>
      intro x2 V out H locs ls h hW hl k1
      rw [tw_goes_L2_s] at h
      unfold tw_goes_B2 at h
      refine lv_aload_n hx hb dX8_goes_2 rfl (lv_at hl 0 rfl) ?_
      refine tw_ref S hW 29 29 (by decide) rfl q1528 rfl dX8_goes_3 ?_
      refine lv_iload_n hx hb dX8_goes_6 rfl (lv_at hl 1 rfl) ?_
      obtain ⟨h_2, x_1, e_3, h⟩ := rdI_some h
      refine g_iald S hW (k := 29) rfl rfl h_2 e_3 dX8_goes_7 ?_
      refine lv_sipush (v := 1000) hx hb dX8_goes_8 (by decide) ?_
      refine lv_icmp_eq (tgt := 110) hx hb dX8_goes_11 (by decide) (fun c_4 => ?_) (fun c_4 => ?_)
      · have h := if_t h c_4
        exact k1 _ (Option.some.inj h).symm _ _ _ hW (lv_sub hl [] rfl)
      · have h := if_f h c_4
        refine lv_aload_n hx hb dX8_goes_14 rfl (lv_at hl 0 rfl) ?_
        refine tw_ref S hW 29 29 (by decide) rfl q1528 rfl dX8_goes_15 ?_
        refine lv_iload_n hx hb dX8_goes_18 rfl (lv_at hl 1 rfl) ?_
        obtain ⟨h_6, x_5, e_7, h⟩ := rdI_some h
        refine g_iald S hW (k := 29) rfl rfl h_6 e_7 dX8_goes_19 ?_
        refine lv_istore_n (lv' := [(3, .int x_5), (0, .ref (al 0)), (2, .int x2)]) hx hb dX8_goes_20 rfl hl (by decide) rfl (fun ls hl => ?_)
        refine lv_iload_n hx hb dX8_goes_21 rfl (lv_at hl 0 rfl) ?_
        refine lv_iconst (v := 2) hx hb dX8_goes_22 (by decide) ?_
        refine lv_idiv hx hb dX8_goes_23 (by decide) ?_
        obtain ⟨x_8, e_9, h⟩ := nmI_some h
        refine g_nmi e_9 ?_
        refine lv_istore (lv' := [(4, .int x_8), (3, .int x_5), (0, .ref (al 0)), (2, .int x2)]) hx hb dX8_goes_24 hl (by decide) rfl (fun ls hl => ?_)
        refine lv_iload_n hx hb dX8_goes_26 rfl (lv_at hl 3 rfl) ?_
        refine lv_iconst (v := 2) hx hb dX8_goes_27 (by decide) ?_
        refine lv_idiv hx hb dX8_goes_28 (by decide) ?_
        obtain ⟨x_10, e_11, h⟩ := nmI_some h
        refine g_nmi e_11 ?_
        refine lv_istore (lv' := [(5, .int x_10), (4, .int x_8), (3, .int x_5), (0, .ref (al 0)), (2, .int x2)]) hx hb dX8_goes_29 hl (by decide) rfl (fun ls hl => ?_)
        refine lv_iload hx hb dX8_goes_31 (lv_at hl 1 rfl) ?_
        refine lv_iload hx hb dX8_goes_33 (lv_at hl 0 rfl) ?_
        refine lv_icmp_ne (tgt := 60) hx hb dX8_goes_35 (by decide) (fun c_12 => ?_) (fun c_12 => ?_)
        · have h := if_f h c_12
          refine lv_iload_n hx hb dX8_goes_60 rfl (lv_at hl 4 rfl) ?_
          refine lv_iconst (v := 2) hx hb dX8_goes_61 (by decide) ?_
          refine lv_irem hx hb dX8_goes_62 (by decide) ?_
          refine lv_if_ne (tgt := 87) hx hb dX8_goes_63 (by decide) (fun c_13 => ?_) (fun c_13 => ?_)
          · have h := if_f h c_13
            refine lv_aload_n hx hb dX8_goes_87 rfl (lv_at hl 3 rfl) ?_
            refine tw_ref S hW 28 28 (by decide) rfl q1527 rfl dX8_goes_88 ?_
            refine lv_iconst (v := 4) hx hb dX8_goes_91 (by decide) ?_
            refine lv_iload hx hb dX8_goes_92 (lv_at hl 0 rfl) ?_
            refine lv_imul hx hb dX8_goes_94 ?_
            refine lv_iload hx hb dX8_goes_95 (lv_at hl 0 rfl) ?_
            refine lv_iload hx hb dX8_goes_97 (lv_at hl 1 rfl) ?_
            obtain ⟨x_16, h_14, h⟩ := bnd_some h
            refine g_callSi (As := [.int x_10, .int x_8]) (rest := [.int (4 * x_10), .ref (al 28)]) S hW (metX8_wayTo h_14) (cwX8_wayTo S.2.2.2.2 q1909 ⟨Nat.le_of_ble_eq_true rfl, Nat.le_of_ble_eq_true rfl⟩) rfl hl.1 rfl (Nat.le_of_ble_eq_true rfl) dX8_goes_99 ⟨Nat.le_refl _, Nat.le_refl _⟩ (fun H locs hW => ?_)
            refine lv_iadd hx hb dX8_goes_102 ?_
            refine lv_iconst (v := 0) hx hb dX8_goes_103 (by decide) ?_
            obtain ⟨h_17, V_19, e_18, h⟩ := wrI_some h
            refine g_zast S hW (k := 28) rfl rfl h_17 e_18 (by decide) dX8_goes_104 (fun H locs hW => ?_)
            refine lv_iload_n hx hb dX8_goes_105 rfl (lv_at hl 2 rfl) ?_
            refine lv_istore_n (lv' := [(2, .int x_5), (5, .int x_10), (4, .int x_8), (3, .int x_5), (0, .ref (al 0))]) hx hb dX8_goes_106 rfl hl (by decide) rfl (fun ls hl => ?_)
            refine lv_goto (tgt := 2) hx hb dX8_goes_107 (by decide) ?_
            exact ih x_5 V_19 out _ _ _ h hW (lv_sub hl [4, 0] rfl) k1
          · have h := if_t h c_13
            refine lv_aload_n hx hb dX8_goes_66 rfl (lv_at hl 3 rfl) ?_
            refine tw_ref S hW 28 28 (by decide) rfl q1527 rfl dX8_goes_67 ?_
            refine lv_iconst (v := 4) hx hb dX8_goes_70 (by decide) ?_
            refine lv_iload hx hb dX8_goes_71 (lv_at hl 1 rfl) ?_
            refine lv_imul hx hb dX8_goes_73 ?_
            refine lv_iload hx hb dX8_goes_74 (lv_at hl 1 rfl) ?_
            refine lv_iload hx hb dX8_goes_76 (lv_at hl 0 rfl) ?_
            obtain ⟨x_22, h_20, h⟩ := bnd_some h
            refine g_callSi (As := [.int x_8, .int x_10]) (rest := [.int (4 * x_8), .ref (al 28)]) S hW (metX8_wayTo h_20) (cwX8_wayTo S.2.2.2.2 q1909 ⟨Nat.le_of_ble_eq_true rfl, Nat.le_of_ble_eq_true rfl⟩) rfl hl.1 rfl (Nat.le_of_ble_eq_true rfl) dX8_goes_78 ⟨Nat.le_refl _, Nat.le_refl _⟩ (fun H locs hW => ?_)
            refine lv_iadd hx hb dX8_goes_81 ?_
            refine lv_iconst (v := 1) hx hb dX8_goes_82 (by decide) ?_
            obtain ⟨h_23, V_25, e_24, h⟩ := wrI_some h
            refine g_zast S hW (k := 28) rfl rfl h_23 e_24 (by decide) dX8_goes_83 (fun H locs hW => ?_)
            refine lv_goto (tgt := 105) hx hb dX8_goes_84 (by decide) ?_
            refine lv_iload_n hx hb dX8_goes_105 rfl (lv_at hl 2 rfl) ?_
            refine lv_istore_n (lv' := [(2, .int x_5), (5, .int x_10), (4, .int x_8), (3, .int x_5), (0, .ref (al 0))]) hx hb dX8_goes_106 rfl hl (by decide) rfl (fun ls hl => ?_)
            refine lv_goto (tgt := 2) hx hb dX8_goes_107 (by decide) ?_
            exact ih x_5 V_25 out _ _ _ h hW (lv_sub hl [4, 0] rfl) k1
        · have h := if_t h c_12
          refine lv_aload_n hx hb dX8_goes_38 rfl (lv_at hl 3 rfl) ?_
          refine tw_ref S hW 27 27 (by decide) rfl q1526 rfl dX8_goes_39 ?_
          refine lv_iload hx hb dX8_goes_42 (lv_at hl 1 rfl) ?_
          refine lv_iload_n hx hb dX8_goes_44 rfl (lv_at hl 4 rfl) ?_
          refine lv_iconst (v := 2) hx hb dX8_goes_45 (by decide) ?_
          refine lv_irem hx hb dX8_goes_46 (by decide) ?_
          refine lv_iconst (v := 1) hx hb dX8_goes_47 (by decide) ?_
          refine lv_icmp_ne (tgt := 55) hx hb dX8_goes_48 (by decide) (fun c_26 => ?_) (fun c_26 => ?_)
          · have h := if_f h c_26
            refine lv_iconst (v := 0) hx hb dX8_goes_55 (by decide) ?_
            obtain ⟨h_27, V_29, e_28, h⟩ := wrI_some h
            refine g_zast S hW (k := 27) rfl rfl h_27 e_28 (by decide) dX8_goes_56 (fun H locs hW => ?_)
            refine lv_goto (tgt := 105) hx hb dX8_goes_57 (by decide) ?_
            refine lv_iload_n hx hb dX8_goes_105 rfl (lv_at hl 2 rfl) ?_
            refine lv_istore_n (lv' := [(2, .int x_5), (5, .int x_10), (4, .int x_8), (3, .int x_5), (0, .ref (al 0))]) hx hb dX8_goes_106 rfl hl (by decide) rfl (fun ls hl => ?_)
            refine lv_goto (tgt := 2) hx hb dX8_goes_107 (by decide) ?_
            exact ih x_5 V_29 out _ _ _ h hW (lv_sub hl [4, 0] rfl) k1
          · have h := if_t h c_26
            refine lv_iconst (v := 1) hx hb dX8_goes_51 (by decide) ?_
            refine lv_goto (tgt := 56) hx hb dX8_goes_52 (by decide) ?_
            obtain ⟨h_30, V_32, e_31, h⟩ := wrI_some h
            refine g_zast S hW (k := 27) rfl rfl h_30 e_31 (by decide) dX8_goes_56 (fun H locs hW => ?_)
            refine lv_goto (tgt := 105) hx hb dX8_goes_57 (by decide) ?_
            refine lv_iload_n hx hb dX8_goes_105 rfl (lv_at hl 2 rfl) ?_
            refine lv_istore_n (lv' := [(2, .int x_5), (5, .int x_10), (4, .int x_8), (3, .int x_5), (0, .ref (al 0))]) hx hb dX8_goes_106 rfl hl (by decide) rfl (fun ls hl => ?_)
            refine lv_goto (tgt := 2) hx hb dX8_goes_107 (by decide) ?_
            exact ih x_5 V_32 out _ _ _ h hW (lv_sub hl [4, 0] rfl) k1
  unfold tw_goes at h
  refine lv_iload_n hx hb dX8_goes_0 rfl (lv_at hl 1 rfl) ?_
  refine lv_istore_n (lv' := [(2, .int a1), (0, .ref (al 0)), (1, .int a1)]) hx hb dX8_goes_1 rfl hl (by decide) rfl (fun ls hl => ?_)
  obtain ⟨V_35, h_34, h⟩ := bnd_some h
  refine Lp2 L0 1000 a1 V0  _ _ _ _ h_34 hW (lv_sub hl [1, 0] rfl) ?_
  intro w0 eo H locs ls hW hl
  subst eo
  cases h
  exact g_vret S hr hlk hW dX8_goes_110
theorem cwX8_goes {R : Room} {s : State} {args : Array Value} {index : Nat} (hts : ∀ w ∈ lw_all, w.before args s = true) (hl : Cond.methodLink RX8 index yX8_goes ∈ lw_all) (hR : rmX8_goes.frames + 1 ≤ R.frames ∧ 8 + (6 + 11) + rmX8_goes.locals ≤ R.locals) : CallW R s args RX8 RX8 index yX8_goes cX8_goes 6 (none) (ws_ yX8_goes cX8_goes 6 (none)) rmX8_goes 0 0 1 := cwV 1 hts (lw_V hl q1907 qs96 q122 q1908) rfl rfl rfl (by decide +kernel) hR
def tw_readGround_J47 (V : g_V) : Option (g_V) :=
  bnd (tw_number V 0 3) (un2 fun x_7 V_8 => bnd (tw_good V_8) (fun x_11 => if x_11 = 0 then (some V_8) else (wrI V_8 16 4 x_7 1 fun V_15 => bnd (tw_told 13 V_15 0 15) (un2 fun x_18 V_19 => wrI V_19 15 810 (20 + (4 * x_7)) x_18 fun V_22 => bnd (tw_told 14 V_22 0 15) (un2 fun x_25 V_26 => wrI V_26 15 810 ((20 + (4 * x_7)) + 1) x_25 fun V_29 => bnd (tw_told 15 V_29 1 999) (un2 fun x_32 V_33 => wrI V_33 15 810 ((20 + (4 * x_7)) + 2) x_32 fun V_36 => bnd (tw_below 16 V_36 (-30)) (un2 fun x_39 V_40 => wrI V_40 15 810 ((20 + (4 * x_7)) + 3) x_39 fun V_43 => some V_43)))))))
def tw_readGround (V0 : g_V) : Option (g_V) :=
  bnd (tw_good V0) (fun x_3 => if x_3 = 0 then (tw_readGround_J47 V0) else (if (V0 0 11) = 2 then (bnd (tw_in ((V0 0 12).toInt64) 0 3) (fun x_47 => if x_47 = 0 then (tw_readGround_J47 V0) else (rdI (V0 16) 4 (V0 0 12) fun x_49 => if x_49 = 0 then (tw_readGround_J47 V0) else (bnd (tw_wrong V0 2) (fun V_55 => tw_readGround_J47 V_55))))) else (tw_readGround_J47 V0)))
abbrev rmX8_readGround : Room := rm_ 8 200
set_option maxHeartbeats 4000000 in
theorem metX8_readGround {l : Launch} {gp : Nat → Nat} {nx : Nat} {D : va_G} {K : Nat → ClassId} {al : Nat → Nat} {V0 : g_V} {L0 : g_L} {V' : g_V} (h : tw_readGround V0 = some V') : Met l yX8_readGround (ws_ yX8_readGround cX8_readGround 2 (none)) rmX8_readGround (twPc gp nx [.ref (al 0)] D K al V0 L0) (twQv nx D K al V' L0) 0 0 (g_A al twSh) := by
  refine g_met rfl (Nat.le_of_ble_eq_true rfl) ?_
  intro p e s m below meth c ls S hr hlk hnm hl hW
  have S : CallFix p m c cX8_readGround 2 s ([.ref (al 0)] : List Value).toArray lw_all RX8 := S
  have hx := S.1
  have hb := S.2.1
  have hl : lv_has ls 2 [(0, .ref (al 0))] := hl
  have J47 : ∀ (V : g_V) (H : Heap) (locs : List Loc) (ls : Array Slot), tw_readGround_J47 V = some V' → twW gp nx D K al s V L0 H locs → lv_has ls 2 [(0, .ref (al 0))] → W p l e rmX8_readGround s m ([.ref (al 0)] : List Value).toArray below meth c H locs 0 0 (MQ below (twQv nx D K al V' L0) ([.ref (al 0)] : List Value).toArray s 0 0 (g_A al twSh)) (F0 m 47 ls []) := by
    intro V H locs ls h hW hl
    unfold tw_readGround_J47 at h
    refine lv_aload_n hx hb dX8_readGround_47 rfl (lv_at hl 0 rfl) ?_
    refine lv_iconst (v := 0) hx hb dX8_readGround_48 (by decide) ?_
    refine lv_iconst (v := 3) hx hb dX8_readGround_49 (by decide) ?_
    obtain ⟨x_7, V_8, h_5, h⟩ := bnd2_some h
    refine g_callVi (As := [.int 0, .int 3]) (rest := []) S hW (metX8_number h_5) (cwX8_number S.2.2.2.2 q1694 ⟨Nat.le_of_ble_eq_true rfl, Nat.le_of_ble_eq_true rfl⟩) (k := 0) rfl rfl rfl hl.1 rfl (Nat.le_of_ble_eq_true rfl) dX8_readGround_50 ⟨Nat.le_refl _, Nat.le_refl _⟩ (fun H locs hW => ?_)
    refine lv_istore_n (lv' := [(1, .int x_7), (0, .ref (al 0))]) hx hb dX8_readGround_53 rfl hl (by decide) rfl (fun ls hl => ?_)
    refine lv_aload_n hx hb dX8_readGround_54 rfl (lv_at hl 1 rfl) ?_
    obtain ⟨x_11, h_9, h⟩ := bnd_some h
    refine g_callVi (As := []) (rest := []) S hW (metX8_good h_9) (cwX8_good S.2.2.2.2 q1658 ⟨Nat.le_of_ble_eq_true rfl, Nat.le_of_ble_eq_true rfl⟩) (k := 0) rfl rfl rfl hl.1 rfl (Nat.le_of_ble_eq_true rfl) dX8_readGround_55 ⟨Nat.le_refl _, Nat.le_refl _⟩ (fun H locs hW => ?_)
    refine lv_if_ne (tgt := 62) hx hb dX8_readGround_58 (by decide) (fun c_12 => ?_) (fun c_12 => ?_)
    · have h := if_f h c_12
      refine lv_aload_n hx hb dX8_readGround_62 rfl (lv_at hl 1 rfl) ?_
      refine tw_ref S hW 16 16 (by decide) rfl q1515 rfl dX8_readGround_63 ?_
      refine lv_iload_n hx hb dX8_readGround_66 rfl (lv_at hl 0 rfl) ?_
      refine lv_iconst (v := 1) hx hb dX8_readGround_67 (by decide) ?_
      obtain ⟨h_13, V_15, e_14, h⟩ := wrI_some h
      refine g_zast S hW (k := 16) rfl rfl h_13 e_14 (by decide) dX8_readGround_68 (fun H locs hW => ?_)
      refine lv_aload_n hx hb dX8_readGround_69 rfl (lv_at hl 1 rfl) ?_
      refine tw_ref S hW 15 15 (by decide) rfl q1514 rfl dX8_readGround_70 ?_
      refine lv_bipush (v := 20) hx hb dX8_readGround_73 (by decide) ?_
      refine lv_iconst (v := 4) hx hb dX8_readGround_75 (by decide) ?_
      refine lv_iload_n hx hb dX8_readGround_76 rfl (lv_at hl 0 rfl) ?_
      refine lv_imul hx hb dX8_readGround_77 ?_
      refine lv_iadd hx hb dX8_readGround_78 ?_
      refine lv_aload_n hx hb dX8_readGround_79 rfl (lv_at hl 1 rfl) ?_
      refine g_ldcS (w := 13) (tx := "lead") S hW (List.mem_of_getElem? (i := 24) rfl) dX8_readGround_80 ?_
      refine lv_iconst (v := 0) hx hb dX8_readGround_82 (by decide) ?_
      refine lv_bipush (v := 15) hx hb dX8_readGround_83 (by decide) ?_
      obtain ⟨x_18, V_19, h_16, h⟩ := bnd2_some h
      refine g_callVi (As := [.ref (gp 13), .int 0, .int 15]) (rest := [.int (20 + (4 * x_7)), .ref (al 15)]) S hW (metX8_told (by decide) h_16) (cwX8_told S.2.2.2.2 q1699 ⟨Nat.le_of_ble_eq_true rfl, Nat.le_of_ble_eq_true rfl⟩) (k := 0) rfl rfl rfl hl.1 rfl (Nat.le_of_ble_eq_true rfl) dX8_readGround_85 ⟨Nat.le_refl _, Nat.le_refl _⟩ (fun H locs hW => ?_)
      obtain ⟨h_20, V_22, e_21, h⟩ := wrI_some h
      refine g_iast S hW (k := 15) rfl rfl h_20 e_21 dX8_readGround_88 (fun H locs hW => ?_)
      refine lv_aload_n hx hb dX8_readGround_89 rfl (lv_at hl 1 rfl) ?_
      refine tw_ref S hW 15 15 (by decide) rfl q1514 rfl dX8_readGround_90 ?_
      refine lv_bipush (v := 20) hx hb dX8_readGround_93 (by decide) ?_
      refine lv_iconst (v := 4) hx hb dX8_readGround_95 (by decide) ?_
      refine lv_iload_n hx hb dX8_readGround_96 rfl (lv_at hl 0 rfl) ?_
      refine lv_imul hx hb dX8_readGround_97 ?_
      refine lv_iadd hx hb dX8_readGround_98 ?_
      refine lv_iconst (v := 1) hx hb dX8_readGround_99 (by decide) ?_
      refine lv_iadd hx hb dX8_readGround_100 ?_
      refine lv_aload_n hx hb dX8_readGround_101 rfl (lv_at hl 1 rfl) ?_
      refine g_ldcS (w := 14) (tx := "ice") S hW (List.mem_of_getElem? (i := 25) rfl) dX8_readGround_102 ?_
      refine lv_iconst (v := 0) hx hb dX8_readGround_104 (by decide) ?_
      refine lv_bipush (v := 15) hx hb dX8_readGround_105 (by decide) ?_
      obtain ⟨x_25, V_26, h_23, h⟩ := bnd2_some h
      refine g_callVi (As := [.ref (gp 14), .int 0, .int 15]) (rest := [.int ((20 + (4 * x_7)) + 1), .ref (al 15)]) S hW (metX8_told (by decide) h_23) (cwX8_told S.2.2.2.2 q1699 ⟨Nat.le_of_ble_eq_true rfl, Nat.le_of_ble_eq_true rfl⟩) (k := 0) rfl rfl rfl hl.1 rfl (Nat.le_of_ble_eq_true rfl) dX8_readGround_107 ⟨Nat.le_refl _, Nat.le_refl _⟩ (fun H locs hW => ?_)
      obtain ⟨h_27, V_29, e_28, h⟩ := wrI_some h
      refine g_iast S hW (k := 15) rfl rfl h_27 e_28 dX8_readGround_110 (fun H locs hW => ?_)
      refine lv_aload_n hx hb dX8_readGround_111 rfl (lv_at hl 1 rfl) ?_
      refine tw_ref S hW 15 15 (by decide) rfl q1514 rfl dX8_readGround_112 ?_
      refine lv_bipush (v := 20) hx hb dX8_readGround_115 (by decide) ?_
      refine lv_iconst (v := 4) hx hb dX8_readGround_117 (by decide) ?_
      refine lv_iload_n hx hb dX8_readGround_118 rfl (lv_at hl 0 rfl) ?_
      refine lv_imul hx hb dX8_readGround_119 ?_
      refine lv_iadd hx hb dX8_readGround_120 ?_
      refine lv_iconst (v := 2) hx hb dX8_readGround_121 (by decide) ?_
      refine lv_iadd hx hb dX8_readGround_122 ?_
      refine lv_aload_n hx hb dX8_readGround_123 rfl (lv_at hl 1 rfl) ?_
      refine g_ldcS (w := 15) (tx := "latent") S hW (List.mem_of_getElem? (i := 26) rfl) dX8_readGround_124 ?_
      refine lv_iconst (v := 1) hx hb dX8_readGround_126 (by decide) ?_
      refine lv_sipush (v := 999) hx hb dX8_readGround_127 (by decide) ?_
      obtain ⟨x_32, V_33, h_30, h⟩ := bnd2_some h
      refine g_callVi (As := [.ref (gp 15), .int 1, .int 999]) (rest := [.int ((20 + (4 * x_7)) + 2), .ref (al 15)]) S hW (metX8_told (by decide) h_30) (cwX8_told S.2.2.2.2 q1699 ⟨Nat.le_of_ble_eq_true rfl, Nat.le_of_ble_eq_true rfl⟩) (k := 0) rfl rfl rfl hl.1 rfl (Nat.le_of_ble_eq_true rfl) dX8_readGround_130 ⟨Nat.le_refl _, Nat.le_refl _⟩ (fun H locs hW => ?_)
      obtain ⟨h_34, V_36, e_35, h⟩ := wrI_some h
      refine g_iast S hW (k := 15) rfl rfl h_34 e_35 dX8_readGround_133 (fun H locs hW => ?_)
      refine lv_aload_n hx hb dX8_readGround_134 rfl (lv_at hl 1 rfl) ?_
      refine tw_ref S hW 15 15 (by decide) rfl q1514 rfl dX8_readGround_135 ?_
      refine lv_bipush (v := 20) hx hb dX8_readGround_138 (by decide) ?_
      refine lv_iconst (v := 4) hx hb dX8_readGround_140 (by decide) ?_
      refine lv_iload_n hx hb dX8_readGround_141 rfl (lv_at hl 0 rfl) ?_
      refine lv_imul hx hb dX8_readGround_142 ?_
      refine lv_iadd hx hb dX8_readGround_143 ?_
      refine lv_iconst (v := 3) hx hb dX8_readGround_144 (by decide) ?_
      refine lv_iadd hx hb dX8_readGround_145 ?_
      refine lv_aload_n hx hb dX8_readGround_146 rfl (lv_at hl 1 rfl) ?_
      refine g_ldcS (w := 16) (tx := "mark") S hW (List.mem_of_getElem? (i := 27) rfl) dX8_readGround_147 ?_
      refine lv_bipush (v := (-30)) hx hb dX8_readGround_149 (by decide) ?_
      obtain ⟨x_39, V_40, h_37, h⟩ := bnd2_some h
      refine g_callVi (As := [.ref (gp 16), .int (-30)]) (rest := [.int ((20 + (4 * x_7)) + 3), .ref (al 15)]) S hW (metX8_below (by decide) h_37) (cwX8_below S.2.2.2.2 q1710 ⟨Nat.le_of_ble_eq_true rfl, Nat.le_of_ble_eq_true rfl⟩) (k := 0) rfl rfl rfl hl.1 rfl (Nat.le_of_ble_eq_true rfl) dX8_readGround_151 ⟨Nat.le_refl _, Nat.le_refl _⟩ (fun H locs hW => ?_)
      obtain ⟨h_41, V_43, e_42, h⟩ := wrI_some h
      refine g_iast S hW (k := 15) rfl rfl h_41 e_42 dX8_readGround_154 (fun H locs hW => ?_)
      cases h
      exact g_vret S hr hlk hW dX8_readGround_155
    · have h := if_t h c_12
      cases h
      exact g_vret S hr hlk hW dX8_readGround_61
  unfold tw_readGround at h
  refine lv_aload_n hx hb dX8_readGround_0 rfl (lv_at hl 0 rfl) ?_
  obtain ⟨x_3, h_1, h⟩ := bnd_some h
  refine g_callVi (As := []) (rest := []) S hW (metX8_good h_1) (cwX8_good S.2.2.2.2 q1658 ⟨Nat.le_of_ble_eq_true rfl, Nat.le_of_ble_eq_true rfl⟩) (k := 0) rfl rfl rfl hl.1 rfl (Nat.le_of_ble_eq_true rfl) dX8_readGround_1 ⟨Nat.le_refl _, Nat.le_refl _⟩ (fun H locs hW => ?_)
  refine lv_if_eq (tgt := 47) hx hb dX8_readGround_4 (by decide) (fun c_4 => ?_) (fun c_4 => ?_)
  · have h := if_t h c_4
    exact J47 V0 _ _ _ h hW hl
  · have h := if_f h c_4
    refine lv_aload_n hx hb dX8_readGround_7 rfl (lv_at hl 0 rfl) ?_
    refine tw_int S hW 11 (by decide) rfl q1510 rfl dX8_readGround_8 ?_
    refine lv_iconst (v := 2) hx hb dX8_readGround_11 (by decide) ?_
    refine lv_icmp_ne (tgt := 47) hx hb dX8_readGround_12 (by decide) (fun c_44 => ?_) (fun c_44 => ?_)
    · have h := if_f h c_44
      exact J47 V0 _ _ _ h hW hl
    · have h := if_t h c_44
      refine lv_aload_n hx hb dX8_readGround_15 rfl (lv_at hl 0 rfl) ?_
      refine tw_int S hW 12 (by decide) rfl q1511 rfl dX8_readGround_16 ?_
      refine lv_i2l (v := (V0 0 12).toInt64) hx hb dX8_readGround_19 rfl ?_
      refine lv_lconst (v := 0) hx hb dX8_readGround_20 (by decide) ?_
      refine lv_ldc2 (v := 3) hx hb S.2.2.2.1 (S.2.2.2.2 _ q1693) dX8_readGround_21 ?_
      obtain ⟨x_47, h_45, h⟩ := bnd_some h
      refine g_callSi (As := [.long ((V0 0 12).toInt64), .long 0, .long 3]) (rest := []) S hW (metX8_in h_45) (cwX8_in S.2.2.2.2 q1625 ⟨Nat.le_of_ble_eq_true rfl, Nat.le_of_ble_eq_true rfl⟩) rfl hl.1 rfl (Nat.le_of_ble_eq_true rfl) dX8_readGround_24 ⟨Nat.le_refl _, Nat.le_refl _⟩ (fun H locs hW => ?_)
      refine lv_if_eq (tgt := 47) hx hb dX8_readGround_27 (by decide) (fun c_48 => ?_) (fun c_48 => ?_)
      · have h := if_t h c_48
        exact J47 V0 _ _ _ h hW hl
      · have h := if_f h c_48
        refine lv_aload_n hx hb dX8_readGround_30 rfl (lv_at hl 0 rfl) ?_
        refine tw_ref S hW 16 16 (by decide) rfl q1515 rfl dX8_readGround_31 ?_
        refine lv_aload_n hx hb dX8_readGround_34 rfl (lv_at hl 0 rfl) ?_
        refine tw_int S hW 12 (by decide) rfl q1511 rfl dX8_readGround_35 ?_
        obtain ⟨h_50, x_49, e_51, h⟩ := rdI_some h
        refine g_zald S hW (k := 16) rfl rfl h_50 e_51 dX8_readGround_38 ?_
        refine lv_if_eq (tgt := 47) hx hb dX8_readGround_39 (by decide) (fun c_52 => ?_) (fun c_52 => ?_)
        · have h := if_t h c_52
          exact J47 V0 _ _ _ h hW hl
        · have h := if_f h c_52
          refine lv_aload_n hx hb dX8_readGround_42 rfl (lv_at hl 0 rfl) ?_
          refine lv_iconst (v := 2) hx hb dX8_readGround_43 (by decide) ?_
          obtain ⟨V_55, h_53, h⟩ := bnd_some h
          refine g_callVv (As := [.int 2]) (rest := []) S hW (metX8_wrong h_53) (cwX8_wrong S.2.2.2.2 q1681 ⟨Nat.le_of_ble_eq_true rfl, Nat.le_of_ble_eq_true rfl⟩) (k := 0) rfl rfl rfl hl.1 rfl (Nat.le_of_ble_eq_true rfl) dX8_readGround_44 ⟨Nat.le_refl _, Nat.le_refl _⟩ (fun H locs hW => ?_)
          exact J47 V_55 _ _ _ h hW hl
theorem cwX8_readGround {R : Room} {s : State} {args : Array Value} {index : Nat} (hts : ∀ w ∈ lw_all, w.before args s = true) (hl : Cond.methodLink RX8 index yX8_readGround ∈ lw_all) (hR : rmX8_readGround.frames + 1 ≤ R.frames ∧ 8 + (2 + 11) + rmX8_readGround.locals ≤ R.locals) : CallW R s args RX8 RX8 index yX8_readGround cX8_readGround 2 (none) (ws_ yX8_readGround cX8_readGround 2 (none)) rmX8_readGround 0 0 0 := cwV 0 hts (lw_V hl q1691 qs61 q122 q1692) rfl rfl rfl (by decide +kernel) hR
def tw_comesBeside_B2 (x1 : Int32) (rec : Int32 → g_V → Option (g_V)) (x2 : Int32) (V : g_V) : Option (g_V) :=
  if 4 ≤ x2 then (some V) else (bnd (tw_beside x1 x2) (fun x_4 => if x_4 = (-1) then (rdI (V 1) 810 5 fun x_34 => rdI (V 1) 810 (192 + x1) fun x_37 => bnd (tw_leadOf V x1) (fun x_42 => nmI (((x_34 - x_37) * x_42) / 100) fun x_43 => rdI (V 24) 144 x1 fun x_45 => wrI V 24 144 x1 (x_45 + x_43) fun V_50 => rdI (V_50 1) 810 15 fun x_51 => wrI V_50 1 810 15 (x_51 + x_43) fun V_56 => nmI (x2 + 1) fun x_57 => rec x_57 V_56)) else (bnd (tw_isDug V x_4) (fun x_8 => if x_8 = 0 then (rdI (V 24) 144 x1 fun x_12 => rdI (V 1) 810 (192 + x_4) fun x_15 => rdI (V 1) 810 (192 + x1) fun x_18 => bnd (tw_leadOf V x1) (fun x_23 => bnd (tw_leadOf V x_4) (fun x_26 => nmI (if x_26 < x_23 then x_26 else x_23) fun x_27 => wrI V 24 144 x1 (x_12 + (((x_15 - x_18) * x_27) / 100)) fun V_31 => nmI (x2 + 1) fun x_32 => rec x_32 V_31))) else (nmI (x2 + 1) fun x_10 => rec x_10 V)))))
abbrev tw_comesBeside_F2 (x1 : Int32) : ((Int32 × g_V) → Option (g_V)) → (Int32 × g_V) → Option (g_V) := fun rec s => tw_comesBeside_B2 x1 (fun x2 V => rec (x2, V)) s.1 s.2
def tw_comesBeside_L2 (x1 : Int32) (n : Nat) (x2 : Int32) (V : g_V) : Option (g_V) := lp (tw_comesBeside_F2 x1) n (x2, V)
theorem tw_comesBeside_L2_s (x1 : Int32) (n : Nat) (x2 : Int32) (V : g_V) : tw_comesBeside_L2 x1 (n + 1) x2 V = tw_comesBeside_B2 x1 (fun x2 V => tw_comesBeside_L2 x1 n x2 V) x2 V := lp_s (tw_comesBeside_F2 x1) n (x2, V)
def tw_comesBeside (V0 : g_V) (a1 : Int32) : Option (g_V) :=
  bnd (tw_comesBeside_L2 a1 1000 0 V0) (fun V_61 => some V_61)
abbrev rmX8_comesBeside : Room := rm_ 3 69
set_option maxHeartbeats 4000000 in
theorem metX8_comesBeside {l : Launch} {gp : Nat → Nat} {nx : Nat} {D : va_G} {K : Nat → ClassId} {al : Nat → Nat} {V0 : g_V} {L0 : g_L} {a1 : Int32} {V' : g_V} (h : tw_comesBeside V0 a1 = some V') : Met l yX8_comesBeside (ws_ yX8_comesBeside cX8_comesBeside 5 (none)) rmX8_comesBeside (twPc gp nx [.ref (al 0), .int a1] D K al V0 L0) (twQv nx D K al V' L0) 0 0 (g_A al twSh) := by
  refine g_met rfl (Nat.le_of_ble_eq_true rfl) ?_
  intro p e s m below meth c ls S hr hlk hnm hl hW
  have S : CallFix p m c cX8_comesBeside 5 s ([.ref (al 0), .int a1] : List Value).toArray lw_all RX8 := S
  have hx := S.1
  have hb := S.2.1
  have hl : lv_has ls 5 [(0, .ref (al 0)), (1, .int a1)] := hl
  have Lp2 : ∀ (x1 : Int32) (L : g_L) (n : Nat) (x2 : Int32) (V : g_V) (out : (g_V)) (H : Heap) (locs : List Loc) (ls : Array Slot), tw_comesBeside_L2 x1 n x2 V = some out → twW gp nx D K al s V L H locs → lv_has ls 5 [(0, .ref (al 0)), (1, .int x1), (2, .int x2)] → (∀ (oV : g_V), out = oV → ∀ (H : Heap) (locs : List Loc) (ls : Array Slot), twW gp nx D K al s oV L H locs → lv_has ls 5 [] → W p l e rmX8_comesBeside s m ([.ref (al 0), .int a1] : List Value).toArray below meth c H locs 0 0 (MQ below (twQv nx D K al V' L0) ([.ref (al 0), .int a1] : List Value).toArray s 0 0 (g_A al twSh)) (F0 m 133 ls [])) → W p l e rmX8_comesBeside s m ([.ref (al 0), .int a1] : List Value).toArray below meth c H locs 0 0 (MQ below (twQv nx D K al V' L0) ([.ref (al 0), .int a1] : List Value).toArray s 0 0 (g_A al twSh)) (F0 m 2 ls []) := by
    intro x1 L n
    induction n with
    | zero =>
      intro x2 V out H locs ls h
      exact (lp_0 h).elim
    | succ n ih =>
      intro x2 V out H locs ls h hW hl k1
      rw [tw_comesBeside_L2_s] at h
      unfold tw_comesBeside_B2 at h
      refine lv_iload_n hx hb dX8_comesBeside_2 rfl (lv_at hl 2 rfl) ?_
      refine lv_iconst (v := 4) hx hb dX8_comesBeside_3 (by decide) ?_
      refine lv_icmp_ge (tgt := 133) hx hb dX8_comesBeside_4 (by decide) (fun c_1 => ?_) (fun c_1 => ?_)
      · have h := if_t h c_1
        exact k1 _ (Option.some.inj h).symm _ _ _ hW (lv_sub hl [] rfl)
      · have h := if_f h c_1
        refine lv_iload_n hx hb dX8_comesBeside_7 rfl (lv_at hl 1 rfl) ?_
        refine lv_iload_n hx hb dX8_comesBeside_8 rfl (lv_at hl 2 rfl) ?_
        obtain ⟨x_4, h_2, h⟩ := bnd_some h
        refine g_callSi (As := [.int x1, .int x2]) (rest := []) S hW (metX8_beside h_2) (cwX8_beside S.2.2.2.2 q1779 ⟨Nat.le_of_ble_eq_true rfl, Nat.le_of_ble_eq_true rfl⟩) rfl hl.1 rfl (Nat.le_of_ble_eq_true rfl) dX8_comesBeside_9 ⟨Nat.le_refl _, Nat.le_refl _⟩ (fun H locs hW => ?_)
        refine lv_istore_n (lv' := [(3, .int x_4), (0, .ref (al 0)), (1, .int x1), (2, .int x2)]) hx hb dX8_comesBeside_12 rfl hl (by decide) rfl (fun ls hl => ?_)
        refine lv_iload_n hx hb dX8_comesBeside_13 rfl (lv_at hl 0 rfl) ?_
        refine lv_iconst (v := (-1)) hx hb dX8_comesBeside_14 (by decide) ?_
        refine lv_icmp_ne (tgt := 72) hx hb dX8_comesBeside_15 (by decide) (fun c_5 => ?_) (fun c_5 => ?_)
        · have h := if_f h c_5
          refine lv_aload_n hx hb dX8_comesBeside_72 rfl (lv_at hl 1 rfl) ?_
          refine lv_iload_n hx hb dX8_comesBeside_73 rfl (lv_at hl 0 rfl) ?_
          obtain ⟨x_8, h_6, h⟩ := bnd_some h
          refine g_callVi (As := [.int x_4]) (rest := []) S hW (metX8_isDug h_6) (cwX8_isDug S.2.2.2.2 q1771 ⟨Nat.le_of_ble_eq_true rfl, Nat.le_of_ble_eq_true rfl⟩) (k := 0) rfl rfl rfl hl.1 rfl (Nat.le_of_ble_eq_true rfl) dX8_comesBeside_74 ⟨Nat.le_refl _, Nat.le_refl _⟩ (fun H locs hW => ?_)
          refine lv_if_ne (tgt := 127) hx hb dX8_comesBeside_77 (by decide) (fun c_9 => ?_) (fun c_9 => ?_)
          · have h := if_f h c_9
            obtain ⟨x_10, e_11, h⟩ := nmI_some h
            refine lv_iinc (v := x_10) (lv' := [(2, .int x_10), (3, .int x_4), (0, .ref (al 0)), (1, .int x1)]) hx hb dX8_comesBeside_127 hl (k := 3) rfl (by rw [e_11]; rfl) (by decide) rfl (fun ls hl => ?_)
            refine lv_goto (tgt := 2) hx hb dX8_comesBeside_130 (by decide) ?_
            exact ih x_10 V out _ _ _ h hW (lv_sub hl [2, 3, 0] rfl) k1
          · have h := if_t h c_9
            refine lv_aload_n hx hb dX8_comesBeside_80 rfl (lv_at hl 1 rfl) ?_
            refine tw_ref S hW 24 24 (by decide) rfl q1523 rfl dX8_comesBeside_81 ?_
            refine lv_iload_n hx hb dX8_comesBeside_84 rfl (lv_at hl 2 rfl) ?_
            refine lv_dup2_11 hx hb dX8_comesBeside_85 rfl rfl ?_
            obtain ⟨h_13, x_12, e_14, h⟩ := rdI_some h
            refine g_iald S hW (k := 24) rfl rfl h_13 e_14 dX8_comesBeside_86 ?_
            refine lv_aload_n hx hb dX8_comesBeside_87 rfl (lv_at hl 1 rfl) ?_
            refine tw_ref S hW 1 1 (by decide) rfl q1500 rfl dX8_comesBeside_88 ?_
            refine lv_sipush (v := 192) hx hb dX8_comesBeside_91 (by decide) ?_
            refine lv_iload_n hx hb dX8_comesBeside_94 rfl (lv_at hl 0 rfl) ?_
            refine lv_iadd hx hb dX8_comesBeside_95 ?_
            obtain ⟨h_16, x_15, e_17, h⟩ := rdI_some h
            refine g_iald S hW (k := 1) rfl rfl h_16 e_17 dX8_comesBeside_96 ?_
            refine lv_aload_n hx hb dX8_comesBeside_97 rfl (lv_at hl 1 rfl) ?_
            refine tw_ref S hW 1 1 (by decide) rfl q1500 rfl dX8_comesBeside_98 ?_
            refine lv_sipush (v := 192) hx hb dX8_comesBeside_101 (by decide) ?_
            refine lv_iload_n hx hb dX8_comesBeside_104 rfl (lv_at hl 2 rfl) ?_
            refine lv_iadd hx hb dX8_comesBeside_105 ?_
            obtain ⟨h_19, x_18, e_20, h⟩ := rdI_some h
            refine g_iald S hW (k := 1) rfl rfl h_19 e_20 dX8_comesBeside_106 ?_
            refine lv_isub hx hb dX8_comesBeside_107 ?_
            refine lv_aload_n hx hb dX8_comesBeside_108 rfl (lv_at hl 1 rfl) ?_
            refine lv_iload_n hx hb dX8_comesBeside_109 rfl (lv_at hl 2 rfl) ?_
            obtain ⟨x_23, h_21, h⟩ := bnd_some h
            refine g_callVi (As := [.int x1]) (rest := [.int (x_15 - x_18), .int x_12, .int x1, .ref (al 24)]) S hW (metX8_leadOf h_21) (cwX8_leadOf S.2.2.2.2 q1785 ⟨Nat.le_of_ble_eq_true rfl, Nat.le_of_ble_eq_true rfl⟩) (k := 0) rfl rfl rfl hl.1 rfl (Nat.le_of_ble_eq_true rfl) dX8_comesBeside_110 ⟨Nat.le_refl _, Nat.le_refl _⟩ (fun H locs hW => ?_)
            refine lv_aload_n hx hb dX8_comesBeside_113 rfl (lv_at hl 1 rfl) ?_
            refine lv_iload_n hx hb dX8_comesBeside_114 rfl (lv_at hl 0 rfl) ?_
            obtain ⟨x_26, h_24, h⟩ := bnd_some h
            refine g_callVi (As := [.int x_4]) (rest := [.int x_23, .int (x_15 - x_18), .int x_12, .int x1, .ref (al 24)]) S hW (metX8_leadOf h_24) (cwX8_leadOf S.2.2.2.2 q1785 ⟨Nat.le_of_ble_eq_true rfl, Nat.le_of_ble_eq_true rfl⟩) (k := 0) rfl rfl rfl hl.1 rfl (Nat.le_of_ble_eq_true rfl) dX8_comesBeside_115 ⟨Nat.le_refl _, Nat.le_refl _⟩ (fun H locs hW => ?_)
            refine va_mmin hx hb (S.2.2.1.trans hl.1.symm) S.2.2.2.1 (S.2.2.2.2 _ q1657) (S.2.2.2.2 _ q633) (S.2.2.2.2 _ q117) (S.2.2.2.2 _ mc_min) (Nat.le_of_ble_eq_true rfl) (Nat.le_of_ble_eq_true rfl) (Nat.le_refl _) (Nat.le_refl _) dX8_comesBeside_118 ?_
            obtain ⟨x_27, e_28, h⟩ := nmI_some h
            refine g_nmi e_28 ?_
            refine lv_imul hx hb dX8_comesBeside_121 ?_
            refine lv_bipush (v := 100) hx hb dX8_comesBeside_122 (by decide) ?_
            refine lv_idiv hx hb dX8_comesBeside_124 (by decide) ?_
            refine lv_iadd hx hb dX8_comesBeside_125 ?_
            obtain ⟨h_29, V_31, e_30, h⟩ := wrI_some h
            refine g_iast S hW (k := 24) rfl rfl h_29 e_30 dX8_comesBeside_126 (fun H locs hW => ?_)
            obtain ⟨x_32, e_33, h⟩ := nmI_some h
            refine lv_iinc (v := x_32) (lv' := [(2, .int x_32), (3, .int x_4), (0, .ref (al 0)), (1, .int x1)]) hx hb dX8_comesBeside_127 hl (k := 3) rfl (by rw [e_33]; rfl) (by decide) rfl (fun ls hl => ?_)
            refine lv_goto (tgt := 2) hx hb dX8_comesBeside_130 (by decide) ?_
            exact ih x_32 V_31 out _ _ _ h hW (lv_sub hl [2, 3, 0] rfl) k1
        · have h := if_t h c_5
          refine lv_aload_n hx hb dX8_comesBeside_18 rfl (lv_at hl 1 rfl) ?_
          refine tw_ref S hW 1 1 (by decide) rfl q1500 rfl dX8_comesBeside_19 ?_
          refine lv_iconst (v := 5) hx hb dX8_comesBeside_22 (by decide) ?_
          obtain ⟨h_35, x_34, e_36, h⟩ := rdI_some h
          refine g_iald S hW (k := 1) rfl rfl h_35 e_36 dX8_comesBeside_23 ?_
          refine lv_aload_n hx hb dX8_comesBeside_24 rfl (lv_at hl 1 rfl) ?_
          refine tw_ref S hW 1 1 (by decide) rfl q1500 rfl dX8_comesBeside_25 ?_
          refine lv_sipush (v := 192) hx hb dX8_comesBeside_28 (by decide) ?_
          refine lv_iload_n hx hb dX8_comesBeside_31 rfl (lv_at hl 2 rfl) ?_
          refine lv_iadd hx hb dX8_comesBeside_32 ?_
          obtain ⟨h_38, x_37, e_39, h⟩ := rdI_some h
          refine g_iald S hW (k := 1) rfl rfl h_38 e_39 dX8_comesBeside_33 ?_
          refine lv_isub hx hb dX8_comesBeside_34 ?_
          refine lv_aload_n hx hb dX8_comesBeside_35 rfl (lv_at hl 1 rfl) ?_
          refine lv_iload_n hx hb dX8_comesBeside_36 rfl (lv_at hl 2 rfl) ?_
          obtain ⟨x_42, h_40, h⟩ := bnd_some h
          refine g_callVi (As := [.int x1]) (rest := [.int (x_34 - x_37)]) S hW (metX8_leadOf h_40) (cwX8_leadOf S.2.2.2.2 q1785 ⟨Nat.le_of_ble_eq_true rfl, Nat.le_of_ble_eq_true rfl⟩) (k := 0) rfl rfl rfl hl.1 rfl (Nat.le_of_ble_eq_true rfl) dX8_comesBeside_37 ⟨Nat.le_refl _, Nat.le_refl _⟩ (fun H locs hW => ?_)
          refine lv_imul hx hb dX8_comesBeside_40 ?_
          refine lv_bipush (v := 100) hx hb dX8_comesBeside_41 (by decide) ?_
          refine lv_idiv hx hb dX8_comesBeside_43 (by decide) ?_
          obtain ⟨x_43, e_44, h⟩ := nmI_some h
          refine g_nmi e_44 ?_
          refine lv_istore (lv' := [(4, .int x_43), (3, .int x_4), (0, .ref (al 0)), (1, .int x1), (2, .int x2)]) hx hb dX8_comesBeside_44 hl (by decide) rfl (fun ls hl => ?_)
          refine lv_aload_n hx hb dX8_comesBeside_46 rfl (lv_at hl 2 rfl) ?_
          refine tw_ref S hW 24 24 (by decide) rfl q1523 rfl dX8_comesBeside_47 ?_
          refine lv_iload_n hx hb dX8_comesBeside_50 rfl (lv_at hl 3 rfl) ?_
          refine lv_dup2_11 hx hb dX8_comesBeside_51 rfl rfl ?_
          obtain ⟨h_46, x_45, e_47, h⟩ := rdI_some h
          refine g_iald S hW (k := 24) rfl rfl h_46 e_47 dX8_comesBeside_52 ?_
          refine lv_iload hx hb dX8_comesBeside_53 (lv_at hl 0 rfl) ?_
          refine lv_iadd hx hb dX8_comesBeside_55 ?_
          obtain ⟨h_48, V_50, e_49, h⟩ := wrI_some h
          refine g_iast S hW (k := 24) rfl rfl h_48 e_49 dX8_comesBeside_56 (fun H locs hW => ?_)
          refine lv_aload_n hx hb dX8_comesBeside_57 rfl (lv_at hl 2 rfl) ?_
          refine tw_ref S hW 1 1 (by decide) rfl q1500 rfl dX8_comesBeside_58 ?_
          refine lv_bipush (v := 15) hx hb dX8_comesBeside_61 (by decide) ?_
          refine lv_dup2_11 hx hb dX8_comesBeside_63 rfl rfl ?_
          obtain ⟨h_52, x_51, e_53, h⟩ := rdI_some h
          refine g_iald S hW (k := 1) rfl rfl h_52 e_53 dX8_comesBeside_64 ?_
          refine lv_iload hx hb dX8_comesBeside_65 (lv_at hl 0 rfl) ?_
          refine lv_iadd hx hb dX8_comesBeside_67 ?_
          obtain ⟨h_54, V_56, e_55, h⟩ := wrI_some h
          refine g_iast S hW (k := 1) rfl rfl h_54 e_55 dX8_comesBeside_68 (fun H locs hW => ?_)
          refine lv_goto (tgt := 127) hx hb dX8_comesBeside_69 (by decide) ?_
          obtain ⟨x_57, e_58, h⟩ := nmI_some h
          refine lv_iinc (v := x_57) (lv' := [(2, .int x_57), (4, .int x_43), (3, .int x_4), (0, .ref (al 0)), (1, .int x1)]) hx hb dX8_comesBeside_127 hl (k := 4) rfl (by rw [e_58]; rfl) (by decide) rfl (fun ls hl => ?_)
          refine lv_goto (tgt := 2) hx hb dX8_comesBeside_130 (by decide) ?_
          exact ih x_57 V_56 out _ _ _ h hW (lv_sub hl [3, 4, 0] rfl) k1
  unfold tw_comesBeside at h
  refine lv_iconst (v := 0) hx hb dX8_comesBeside_0 (by decide) ?_
  refine lv_istore_n (lv' := [(2, .int 0), (0, .ref (al 0)), (1, .int a1)]) hx hb dX8_comesBeside_1 rfl hl (by decide) rfl (fun ls hl => ?_)
  obtain ⟨V_61, h_60, h⟩ := bnd_some h
  refine Lp2 a1 L0 1000 0 V0  _ _ _ _ h_60 hW (lv_sub hl [1, 2, 0] rfl) ?_
  intro w0 eo H locs ls hW hl
  subst eo
  cases h
  exact g_vret S hr hlk hW dX8_comesBeside_133
theorem cwX8_comesBeside {R : Room} {s : State} {args : Array Value} {index : Nat} (hts : ∀ w ∈ lw_all, w.before args s = true) (hl : Cond.methodLink RX8 index yX8_comesBeside ∈ lw_all) (hR : rmX8_comesBeside.frames + 1 ≤ R.frames ∧ 8 + (5 + 11) + rmX8_comesBeside.locals ≤ R.locals) : CallW R s args RX8 RX8 index yX8_comesBeside cX8_comesBeside 5 (none) (ws_ yX8_comesBeside cX8_comesBeside 5 (none)) rmX8_comesBeside 0 0 1 := cwV 1 hts (lw_V hl q1777 qs76 q122 q1778) rfl rfl rfl (by decide +kernel) hR
def tw_isShut (V0 : g_V) : Option (Int32 × g_V) :=
  bnd (tw_leastOut V0 (-1) 1) (un2 fun x_3 V_4 => if x_3 = (-1) then (some (1, V_4)) else (some (0, V_4)))
abbrev rmX8_isShut : Room := rm_ 5 120
set_option maxHeartbeats 4000000 in
theorem metX8_isShut {l : Launch} {gp : Nat → Nat} {nx : Nat} {D : va_G} {K : Nat → ClassId} {al : Nat → Nat} {V0 : g_V} {L0 : g_L} {r : Int32} {V' : g_V} (h : tw_isShut V0 = some (r, V')) : Met l yX8_isShut (ws_ yX8_isShut cX8_isShut 1 (some .boolean)) rmX8_isShut (twPc gp nx [.ref (al 0)] D K al V0 L0) (twQi r nx D K al V' L0) 0 0 (g_A al twSh) := by
  refine g_met rfl (Nat.le_of_ble_eq_true rfl) ?_
  intro p e s m below meth c ls S hr hlk hnm hl hW
  have S : CallFix p m c cX8_isShut 1 s ([.ref (al 0)] : List Value).toArray lw_all RX8 := S
  have hx := S.1
  have hb := S.2.1
  have hl : lv_has ls 1 [(0, .ref (al 0))] := hl
  unfold tw_isShut at h
  refine lv_aload_n hx hb dX8_isShut_0 rfl (lv_at hl 0 rfl) ?_
  refine lv_iconst (v := (-1)) hx hb dX8_isShut_1 (by decide) ?_
  refine lv_iconst (v := 1) hx hb dX8_isShut_2 (by decide) ?_
  obtain ⟨x_3, V_4, h_1, h⟩ := bnd2_some h
  refine g_callVi (As := [.int (-1), .int 1]) (rest := []) S hW (metX8_leastOut h_1) (cwX8_leastOut S.2.2.2.2 q1823 ⟨Nat.le_of_ble_eq_true rfl, Nat.le_of_ble_eq_true rfl⟩) (k := 0) rfl rfl rfl hl.1 rfl (Nat.le_of_ble_eq_true rfl) dX8_isShut_3 ⟨Nat.le_refl _, Nat.le_refl _⟩ (fun H locs hW => ?_)
  refine lv_iconst (v := (-1)) hx hb dX8_isShut_6 (by decide) ?_
  refine lv_icmp_ne (tgt := 14) hx hb dX8_isShut_7 (by decide) (fun c_5 => ?_) (fun c_5 => ?_)
  · have h := if_f h c_5
    refine lv_iconst (v := 0) hx hb dX8_isShut_14 (by decide) ?_
    cases h
    exact g_zret S hr hlk rfl hW dX8_isShut_15
  · have h := if_t h c_5
    refine lv_iconst (v := 1) hx hb dX8_isShut_10 (by decide) ?_
    refine lv_goto (tgt := 15) hx hb dX8_isShut_11 (by decide) ?_
    cases h
    exact g_zret S hr hlk rfl hW dX8_isShut_15
theorem cwX8_isShut {R : Room} {s : State} {args : Array Value} {index : Nat} (hts : ∀ w ∈ lw_all, w.before args s = true) (hl : Cond.methodLink RX8 index yX8_isShut ∈ lw_all) (hR : rmX8_isShut.frames + 1 ≤ R.frames ∧ 8 + (1 + 11) + rmX8_isShut.locals ≤ R.locals) : CallW R s args RX8 RX8 index yX8_isShut cX8_isShut 1 (some .boolean) (ws_ yX8_isShut cX8_isShut 1 (some .boolean)) rmX8_isShut 0 0 0 := cwV 0 hts (lw_V hl q1821 qs85 q122 q1822) rfl rfl rfl (by decide +kernel) hR
def tw_shut (V0 : g_V) : Option (Int32 × g_V) :=
  bnd (tw_hasShaft V0) (fun x_3 => if x_3 = 0 then (some ((-6), V0)) else (bnd (tw_isShut V0) (un2 fun x_7 V_8 => if x_7 = 0 then (some (0, V_8)) else (some (1, V_8)))))
abbrev rmX8_shut : Room := rm_ 6 140
set_option maxHeartbeats 4000000 in
theorem metX8_shut {l : Launch} {gp : Nat → Nat} {nx : Nat} {D : va_G} {K : Nat → ClassId} {al : Nat → Nat} {V0 : g_V} {L0 : g_L} {r : Int32} {V' : g_V} (h : tw_shut V0 = some (r, V')) : Met l yX8_shut (ws_ yX8_shut cX8_shut 1 (some .int)) rmX8_shut (twPc gp nx [.ref (al 0)] D K al V0 L0) (twQi r nx D K al V' L0) 0 0 (g_A al twSh) := by
  refine g_met rfl (Nat.le_of_ble_eq_true rfl) ?_
  intro p e s m below meth c ls S hr hlk hnm hl hW
  have S : CallFix p m c cX8_shut 1 s ([.ref (al 0)] : List Value).toArray lw_all RX8 := S
  have hx := S.1
  have hb := S.2.1
  have hl : lv_has ls 1 [(0, .ref (al 0))] := hl
  unfold tw_shut at h
  refine lv_aload_n hx hb dX8_shut_0 rfl (lv_at hl 0 rfl) ?_
  obtain ⟨x_3, h_1, h⟩ := bnd_some h
  refine g_callVi (As := []) (rest := []) S hW (metX8_hasShaft h_1) (cwX8_hasShaft S.2.2.2.2 q1873 ⟨Nat.le_of_ble_eq_true rfl, Nat.le_of_ble_eq_true rfl⟩) (k := 0) rfl rfl rfl hl.1 rfl (Nat.le_of_ble_eq_true rfl) dX8_shut_1 ⟨Nat.le_refl _, Nat.le_refl _⟩ (fun H locs hW => ?_)
  refine lv_if_ne (tgt := 12) hx hb dX8_shut_4 (by decide) (fun c_4 => ?_) (fun c_4 => ?_)
  · have h := if_f h c_4
    refine lv_aload_n hx hb dX8_shut_12 rfl (lv_at hl 0 rfl) ?_
    obtain ⟨x_7, V_8, h_5, h⟩ := bnd2_some h
    refine g_callVi (As := []) (rest := []) S hW (metX8_isShut h_5) (cwX8_isShut S.2.2.2.2 q1819 ⟨Nat.le_of_ble_eq_true rfl, Nat.le_of_ble_eq_true rfl⟩) (k := 0) rfl rfl rfl hl.1 rfl (Nat.le_of_ble_eq_true rfl) dX8_shut_13 ⟨Nat.le_refl _, Nat.le_refl _⟩ (fun H locs hW => ?_)
    refine lv_if_eq (tgt := 23) hx hb dX8_shut_16 (by decide) (fun c_9 => ?_) (fun c_9 => ?_)
    · have h := if_t h c_9
      refine lv_iconst (v := 0) hx hb dX8_shut_23 (by decide) ?_
      cases h
      exact g_iret S hr hlk hW dX8_shut_24
    · have h := if_f h c_9
      refine lv_iconst (v := 1) hx hb dX8_shut_19 (by decide) ?_
      refine lv_goto (tgt := 24) hx hb dX8_shut_20 (by decide) ?_
      cases h
      exact g_iret S hr hlk hW dX8_shut_24
  · have h := if_t h c_4
    refine lv_bipush (v := (-6)) hx hb dX8_shut_7 (by decide) ?_
    refine lv_goto (tgt := 24) hx hb dX8_shut_9 (by decide) ?_
    cases h
    exact g_iret S hr hlk hW dX8_shut_24
theorem cwX8_shut {R : Room} {s : State} {args : Array Value} {index : Nat} (hts : ∀ w ∈ lw_all, w.before args s = true) (hl : Cond.methodLink RX8 index yX8_shut ∈ lw_all) (hR : rmX8_shut.frames + 1 ≤ R.frames ∧ 8 + (1 + 11) + rmX8_shut.locals ≤ R.locals) : CallW R s args RX8 RX8 index yX8_shut cX8_shut 1 (some .int) (ws_ yX8_shut cX8_shut 1 (some .int)) rmX8_shut 0 0 0 := cwV 0 hts (lw_V hl q1870 q1871 q122 q1872) rfl rfl rfl (by decide +kernel) hR
def tw_findGaps_B18 (x1 : Int32) (rec : Int32 → g_V → Option (g_V)) (x2 : Int32) (V : g_V) : Option (g_V) :=
  if 4 ≤ x2 then (some V) else (wrI V 28 576 ((4 * x1) + x2) 0 fun V_8 => nmI (x2 + 1) fun x_9 => rec x_9 V_8)
abbrev tw_findGaps_F18 (x1 : Int32) : ((Int32 × g_V) → Option (g_V)) → (Int32 × g_V) → Option (g_V) := fun rec s => tw_findGaps_B18 x1 (fun x2 V => rec (x2, V)) s.1 s.2
def tw_findGaps_L18 (x1 : Int32) (n : Nat) (x2 : Int32) (V : g_V) : Option (g_V) := lp (tw_findGaps_F18 x1) n (x2, V)
theorem tw_findGaps_L18_s (x1 : Int32) (n : Nat) (x2 : Int32) (V : g_V) : tw_findGaps_L18 x1 (n + 1) x2 V = tw_findGaps_B18 x1 (fun x2 V => tw_findGaps_L18 x1 n x2 V) x2 V := lp_s (tw_findGaps_F18 x1) n (x2, V)
def tw_findGaps_B2 (rec : Int32 → g_V → Option (g_V)) (x1 : Int32) (V : g_V) : Option (g_V) :=
  if 144 ≤ x1 then (some V) else (wrI V 27 144 x1 0 fun V_4 => bnd (tw_findGaps_L18 x1 1000 0 V_4) (fun V_13 => nmI (x1 + 1) fun x_14 => rec x_14 V_13))
abbrev tw_findGaps_F2 : ((Int32 × g_V) → Option (g_V)) → (Int32 × g_V) → Option (g_V) := fun rec s => tw_findGaps_B2 (fun x1 V => rec (x1, V)) s.1 s.2
def tw_findGaps_L2 (n : Nat) (x1 : Int32) (V : g_V) : Option (g_V) := lp (tw_findGaps_F2) n (x1, V)
theorem tw_findGaps_L2_s (n : Nat) (x1 : Int32) (V : g_V) : tw_findGaps_L2 (n + 1) x1 V = tw_findGaps_B2 (fun x1 V => tw_findGaps_L2 n x1 V) x1 V := lp_s (tw_findGaps_F2) n (x1, V)
def tw_findGaps_B53 (rec : Int32 → Int32 → g_V → Option (Int32 × g_V)) (x1 : Int32) (x2 : Int32) (V : g_V) : Option (Int32 × g_V) :=
  if x2 = (-1) then (some (x1, V)) else (bnd (tw_goes V x2) (fun V_26 => nmI (x1 + 1) fun x_27 => bnd (tw_search V_26) (un2 fun x_31 V_32 => rec x_27 x_31 V_32)))
abbrev tw_findGaps_F53 : ((Int32 × Int32 × g_V) → Option (Int32 × g_V)) → (Int32 × Int32 × g_V) → Option (Int32 × g_V) := fun rec s => tw_findGaps_B53 (fun x1 x2 V => rec (x1, x2, V)) s.1 s.2.1 s.2.2
def tw_findGaps_L53 (n : Nat) (x1 : Int32) (x2 : Int32) (V : g_V) : Option (Int32 × g_V) := lp (tw_findGaps_F53) n (x1, x2, V)
theorem tw_findGaps_L53_s (n : Nat) (x1 : Int32) (x2 : Int32) (V : g_V) : tw_findGaps_L53 (n + 1) x1 x2 V = tw_findGaps_B53 (fun x1 x2 V => tw_findGaps_L53 n x1 x2 V) x1 x2 V := lp_s (tw_findGaps_F53) n (x1, x2, V)
def tw_findGaps_B76 (x1 : Int32) (rec : Int32 → g_V → Option (g_V)) (x3 : Int32) (V : g_V) : Option (g_V) :=
  if 144 ≤ x3 then (some V) else (rdI (V 29) 288 (2 * x3) fun x_38 => if x_38 = (-1) then (wrI V 32 144 x3 0 fun V_44 => nmI (x3 + 1) fun x_45 => rec x_45 V_44) else (rdI (V 29) 288 ((2 * x3) + 1) fun x_47 => if x_47 = (-1) then (wrI V 32 144 x3 1 fun V_58 => nmI (x3 + 1) fun x_59 => rec x_59 V_58) else (wrI V 32 144 x3 0 fun V_53 => nmI (x3 + 1) fun x_54 => rec x_54 V_53)))
abbrev tw_findGaps_F76 (x1 : Int32) : ((Int32 × g_V) → Option (g_V)) → (Int32 × g_V) → Option (g_V) := fun rec s => tw_findGaps_B76 x1 (fun x3 V => rec (x3, V)) s.1 s.2
def tw_findGaps_L76 (x1 : Int32) (n : Nat) (x3 : Int32) (V : g_V) : Option (g_V) := lp (tw_findGaps_F76 x1) n (x3, V)
theorem tw_findGaps_L76_s (x1 : Int32) (n : Nat) (x3 : Int32) (V : g_V) : tw_findGaps_L76 x1 (n + 1) x3 V = tw_findGaps_B76 x1 (fun x3 V => tw_findGaps_L76 x1 n x3 V) x3 V := lp_s (tw_findGaps_F76 x1) n (x3, V)
def tw_findGaps (V0 : g_V) : Option (Int32 × g_V) :=
  bnd (tw_findGaps_L2 1000 0 V0) (fun V_18 => bnd (tw_search V_18) (un2 fun x_21 V_22 => bnd (tw_findGaps_L53 1000 0 x_21 V_22) (un2 fun x_35 V_36 => bnd (tw_findGaps_L76 x_35 1000 0 V_36) (fun V_63 => some (x_35, V_63)))))
abbrev rmX8_findGaps : Room := rm_ 5 117
set_option maxHeartbeats 4000000 in
theorem metX8_findGaps {l : Launch} {gp : Nat → Nat} {nx : Nat} {D : va_G} {K : Nat → ClassId} {al : Nat → Nat} {V0 : g_V} {L0 : g_L} {r : Int32} {V' : g_V} (h : tw_findGaps V0 = some (r, V')) : Met l yX8_findGaps (ws_ yX8_findGaps cX8_findGaps 4 (some .int)) rmX8_findGaps (twPc gp nx [.ref (al 0)] D K al V0 L0) (twQi r nx D K al V' L0) 0 0 (g_A al twSh) := by
  refine g_met rfl (Nat.le_of_ble_eq_true rfl) ?_
  intro p e s m below meth c ls S hr hlk hnm hl hW
  have S : CallFix p m c cX8_findGaps 4 s ([.ref (al 0)] : List Value).toArray lw_all RX8 := S
  have hx := S.1
  have hb := S.2.1
  have hl : lv_has ls 4 [(0, .ref (al 0))] := hl
  have Lp18 : ∀ (x1 : Int32) (L : g_L) (n : Nat) (x2 : Int32) (V : g_V) (out : (g_V)) (H : Heap) (locs : List Loc) (ls : Array Slot), tw_findGaps_L18 x1 n x2 V = some out → twW gp nx D K al s V L H locs → lv_has ls 4 [(0, .ref (al 0)), (1, .int x1), (2, .int x2)] → (∀ (oV : g_V), out = oV → ∀ (H : Heap) (locs : List Loc) (ls : Array Slot), twW gp nx D K al s oV L H locs → lv_has ls 4 [(0, .ref (al 0)), (1, .int x1)] → W p l e rmX8_findGaps s m ([.ref (al 0)] : List Value).toArray below meth c H locs 0 0 (MQ below (twQi r nx D K al V' L0) ([.ref (al 0)] : List Value).toArray s 0 0 (g_A al twSh)) (F0 m 40 ls [])) → W p l e rmX8_findGaps s m ([.ref (al 0)] : List Value).toArray below meth c H locs 0 0 (MQ below (twQi r nx D K al V' L0) ([.ref (al 0)] : List Value).toArray s 0 0 (g_A al twSh)) (F0 m 18 ls []) := by
    intro x1 L n
    induction n with
    | zero =>
      intro x2 V out H locs ls h
      exact (lp_0 h).elim
    | succ n ih =>
      intro x2 V out H locs ls h hW hl k1
      rw [tw_findGaps_L18_s] at h
      unfold tw_findGaps_B18 at h
      refine lv_iload_n hx hb dX8_findGaps_18 rfl (lv_at hl 2 rfl) ?_
      refine lv_iconst (v := 4) hx hb dX8_findGaps_19 (by decide) ?_
      refine lv_icmp_ge (tgt := 40) hx hb dX8_findGaps_20 (by decide) (fun c_5 => ?_) (fun c_5 => ?_)
      · have h := if_t h c_5
        exact k1 _ (Option.some.inj h).symm _ _ _ hW (lv_sub hl [0, 1] rfl)
      · have h := if_f h c_5
        refine lv_aload_n hx hb dX8_findGaps_23 rfl (lv_at hl 0 rfl) ?_
        refine tw_ref S hW 28 28 (by decide) rfl q1527 rfl dX8_findGaps_24 ?_
        refine lv_iconst (v := 4) hx hb dX8_findGaps_27 (by decide) ?_
        refine lv_iload_n hx hb dX8_findGaps_28 rfl (lv_at hl 1 rfl) ?_
        refine lv_imul hx hb dX8_findGaps_29 ?_
        refine lv_iload_n hx hb dX8_findGaps_30 rfl (lv_at hl 2 rfl) ?_
        refine lv_iadd hx hb dX8_findGaps_31 ?_
        refine lv_iconst (v := 0) hx hb dX8_findGaps_32 (by decide) ?_
        obtain ⟨h_6, V_8, e_7, h⟩ := wrI_some h
        refine g_zast S hW (k := 28) rfl rfl h_6 e_7 (by decide) dX8_findGaps_33 (fun H locs hW => ?_)
        obtain ⟨x_9, e_10, h⟩ := nmI_some h
        refine lv_iinc (v := x_9) (lv' := [(2, .int x_9), (0, .ref (al 0)), (1, .int x1)]) hx hb dX8_findGaps_34 hl (k := 2) rfl (by rw [e_10]; rfl) (by decide) rfl (fun ls hl => ?_)
        refine lv_goto (tgt := 18) hx hb dX8_findGaps_37 (by decide) ?_
        exact ih x_9 V_8 out _ _ _ h hW (lv_sub hl [1, 2, 0] rfl) k1
  have Lp2 : ∀ (L : g_L) (n : Nat) (x1 : Int32) (V : g_V) (out : (g_V)) (H : Heap) (locs : List Loc) (ls : Array Slot), tw_findGaps_L2 n x1 V = some out → twW gp nx D K al s V L H locs → lv_has ls 4 [(0, .ref (al 0)), (1, .int x1)] → (∀ (oV : g_V), out = oV → ∀ (H : Heap) (locs : List Loc) (ls : Array Slot), twW gp nx D K al s oV L H locs → lv_has ls 4 [(0, .ref (al 0))] → W p l e rmX8_findGaps s m ([.ref (al 0)] : List Value).toArray below meth c H locs 0 0 (MQ below (twQi r nx D K al V' L0) ([.ref (al 0)] : List Value).toArray s 0 0 (g_A al twSh)) (F0 m 46 ls [])) → W p l e rmX8_findGaps s m ([.ref (al 0)] : List Value).toArray below meth c H locs 0 0 (MQ below (twQi r nx D K al V' L0) ([.ref (al 0)] : List Value).toArray s 0 0 (g_A al twSh)) (F0 m 2 ls []) := by
    intro L n
    induction n with
    | zero =>
      intro x1 V out H locs ls h
      exact (lp_0 h).elim
    | succ n ih =>
      intro x1 V out H locs ls h hW hl k1
      rw [tw_findGaps_L2_s] at h
      unfold tw_findGaps_B2 at h
      refine lv_iload_n hx hb dX8_findGaps_2 rfl (lv_at hl 1 rfl) ?_
      refine lv_sipush (v := 144) hx hb dX8_findGaps_3 (by decide) ?_
      refine lv_icmp_ge (tgt := 46) hx hb dX8_findGaps_6 (by decide) (fun c_1 => ?_) (fun c_1 => ?_)
      · have h := if_t h c_1
        exact k1 _ (Option.some.inj h).symm _ _ _ hW (lv_sub hl [0] rfl)
      · have h := if_f h c_1
        refine lv_aload_n hx hb dX8_findGaps_9 rfl (lv_at hl 0 rfl) ?_
        refine tw_ref S hW 27 27 (by decide) rfl q1526 rfl dX8_findGaps_10 ?_
        refine lv_iload_n hx hb dX8_findGaps_13 rfl (lv_at hl 1 rfl) ?_
        refine lv_iconst (v := 0) hx hb dX8_findGaps_14 (by decide) ?_
        obtain ⟨h_2, V_4, e_3, h⟩ := wrI_some h
        refine g_zast S hW (k := 27) rfl rfl h_2 e_3 (by decide) dX8_findGaps_15 (fun H locs hW => ?_)
        refine lv_iconst (v := 0) hx hb dX8_findGaps_16 (by decide) ?_
        refine lv_istore_n (lv' := [(2, .int 0), (0, .ref (al 0)), (1, .int x1)]) hx hb dX8_findGaps_17 rfl hl (by decide) rfl (fun ls hl => ?_)
        obtain ⟨V_13, h_12, h⟩ := bnd_some h
        refine Lp18 x1 L 1000 0 V_4  _ _ _ _ h_12 hW (lv_sub hl [1, 2, 0] rfl) ?_
        intro w0 eo H locs ls hW hl
        subst eo
        obtain ⟨x_14, e_15, h⟩ := nmI_some h
        refine lv_iinc (v := x_14) (lv' := [(1, .int x_14), (0, .ref (al 0))]) hx hb dX8_findGaps_40 hl (k := 1) rfl (by rw [e_15]; rfl) (by decide) rfl (fun ls hl => ?_)
        refine lv_goto (tgt := 2) hx hb dX8_findGaps_43 (by decide) ?_
        exact ih x_14 V_13 out _ _ _ h hW (lv_sub hl [1, 0] rfl) k1
  have Lp53 : ∀ (L : g_L) (n : Nat) (x1 : Int32) (x2 : Int32) (V : g_V) (out : (Int32 × g_V)) (H : Heap) (locs : List Loc) (ls : Array Slot), tw_findGaps_L53 n x1 x2 V = some out → twW gp nx D K al s V L H locs → lv_has ls 4 [(0, .ref (al 0)), (1, .int x1), (2, .int x2)] → (∀ (o1 : Int32) (oV : g_V), out = (o1, oV) → ∀ (H : Heap) (locs : List Loc) (ls : Array Slot), twW gp nx D K al s oV L H locs → lv_has ls 4 [(0, .ref (al 0)), (1, .int o1)] → W p l e rmX8_findGaps s m ([.ref (al 0)] : List Value).toArray below meth c H locs 0 0 (MQ below (twQi r nx D K al V' L0) ([.ref (al 0)] : List Value).toArray s 0 0 (g_A al twSh)) (F0 m 74 ls [])) → W p l e rmX8_findGaps s m ([.ref (al 0)] : List Value).toArray below meth c H locs 0 0 (MQ below (twQi r nx D K al V' L0) ([.ref (al 0)] : List Value).toArray s 0 0 (g_A al twSh)) (F0 m 53 ls []) := by
    intro L n
    induction n with
    | zero =>
      intro x1 x2 V out H locs ls h
      exact (lp_0 h).elim
    | succ n ih =>
      intro x1 x2 V out H locs ls h hW hl k1
      rw [tw_findGaps_L53_s] at h
      unfold tw_findGaps_B53 at h
      refine lv_iload_n hx hb dX8_findGaps_53 rfl (lv_at hl 2 rfl) ?_
      refine lv_iconst (v := (-1)) hx hb dX8_findGaps_54 (by decide) ?_
      refine lv_icmp_eq (tgt := 74) hx hb dX8_findGaps_55 (by decide) (fun c_23 => ?_) (fun c_23 => ?_)
      · have h := if_t h c_23
        exact k1 _ _ (Option.some.inj h).symm _ _ _ hW (lv_sub hl [0, 1] rfl)
      · have h := if_f h c_23
        refine lv_aload_n hx hb dX8_findGaps_58 rfl (lv_at hl 0 rfl) ?_
        refine lv_iload_n hx hb dX8_findGaps_59 rfl (lv_at hl 2 rfl) ?_
        obtain ⟨V_26, h_24, h⟩ := bnd_some h
        refine g_callVv (As := [.int x2]) (rest := []) S hW (metX8_goes h_24) (cwX8_goes S.2.2.2.2 q1905 ⟨Nat.le_of_ble_eq_true rfl, Nat.le_of_ble_eq_true rfl⟩) (k := 0) rfl rfl rfl hl.1 rfl (Nat.le_of_ble_eq_true rfl) dX8_findGaps_60 ⟨Nat.le_refl _, Nat.le_refl _⟩ (fun H locs hW => ?_)
        obtain ⟨x_27, e_28, h⟩ := nmI_some h
        refine lv_iinc (v := x_27) (lv' := [(1, .int x_27), (0, .ref (al 0)), (2, .int x2)]) hx hb dX8_findGaps_63 hl (k := 1) rfl (by rw [e_28]; rfl) (by decide) rfl (fun ls hl => ?_)
        refine lv_aload_n hx hb dX8_findGaps_66 rfl (lv_at hl 1 rfl) ?_
        obtain ⟨x_31, V_32, h_29, h⟩ := bnd2_some h
        refine g_callVi (As := []) (rest := []) S hW (metX8_search h_29) (cwX8_search S.2.2.2.2 q1893 ⟨Nat.le_of_ble_eq_true rfl, Nat.le_of_ble_eq_true rfl⟩) (k := 0) rfl rfl rfl hl.1 rfl (Nat.le_of_ble_eq_true rfl) dX8_findGaps_67 ⟨Nat.le_refl _, Nat.le_refl _⟩ (fun H locs hW => ?_)
        refine lv_istore_n (lv' := [(2, .int x_31), (1, .int x_27), (0, .ref (al 0))]) hx hb dX8_findGaps_70 rfl hl (by decide) rfl (fun ls hl => ?_)
        refine lv_goto (tgt := 53) hx hb dX8_findGaps_71 (by decide) ?_
        exact ih x_27 x_31 V_32 out _ _ _ h hW (lv_sub hl [2, 1, 0] rfl) k1
  have Lp76 : ∀ (x1 : Int32) (L : g_L) (n : Nat) (x3 : Int32) (V : g_V) (out : (g_V)) (H : Heap) (locs : List Loc) (ls : Array Slot), tw_findGaps_L76 x1 n x3 V = some out → twW gp nx D K al s V L H locs → lv_has ls 4 [(0, .ref (al 0)), (1, .int x1), (3, .int x3)] → (∀ (oV : g_V), out = oV → ∀ (H : Heap) (locs : List Loc) (ls : Array Slot), twW gp nx D K al s oV L H locs → lv_has ls 4 [(1, .int x1)] → W p l e rmX8_findGaps s m ([.ref (al 0)] : List Value).toArray below meth c H locs 0 0 (MQ below (twQi r nx D K al V' L0) ([.ref (al 0)] : List Value).toArray s 0 0 (g_A al twSh)) (F0 m 126 ls [])) → W p l e rmX8_findGaps s m ([.ref (al 0)] : List Value).toArray below meth c H locs 0 0 (MQ below (twQi r nx D K al V' L0) ([.ref (al 0)] : List Value).toArray s 0 0 (g_A al twSh)) (F0 m 76 ls []) := by
    intro x1 L n
    induction n with
    | zero =>
      intro x3 V out H locs ls h
      exact (lp_0 h).elim
    | succ n ih =>
      intro x3 V out H locs ls h hW hl k1
      rw [tw_findGaps_L76_s] at h
      unfold tw_findGaps_B76 at h
      refine lv_iload_n hx hb dX8_findGaps_76 rfl (lv_at hl 2 rfl) ?_
      refine lv_sipush (v := 144) hx hb dX8_findGaps_77 (by decide) ?_
      refine lv_icmp_ge (tgt := 126) hx hb dX8_findGaps_80 (by decide) (fun c_37 => ?_) (fun c_37 => ?_)
      · have h := if_t h c_37
        exact k1 _ (Option.some.inj h).symm _ _ _ hW (lv_sub hl [1] rfl)
      · have h := if_f h c_37
        refine lv_aload_n hx hb dX8_findGaps_83 rfl (lv_at hl 0 rfl) ?_
        refine tw_ref S hW 32 32 (by decide) rfl q1531 rfl dX8_findGaps_84 ?_
        refine lv_iload_n hx hb dX8_findGaps_87 rfl (lv_at hl 2 rfl) ?_
        refine lv_aload_n hx hb dX8_findGaps_88 rfl (lv_at hl 0 rfl) ?_
        refine tw_ref S hW 29 29 (by decide) rfl q1528 rfl dX8_findGaps_89 ?_
        refine lv_iconst (v := 2) hx hb dX8_findGaps_92 (by decide) ?_
        refine lv_iload_n hx hb dX8_findGaps_93 rfl (lv_at hl 2 rfl) ?_
        refine lv_imul hx hb dX8_findGaps_94 ?_
        obtain ⟨h_39, x_38, e_40, h⟩ := rdI_some h
        refine g_iald S hW (k := 29) rfl rfl h_39 e_40 dX8_findGaps_95 ?_
        refine lv_iconst (v := (-1)) hx hb dX8_findGaps_96 (by decide) ?_
        refine lv_icmp_eq (tgt := 118) hx hb dX8_findGaps_97 (by decide) (fun c_41 => ?_) (fun c_41 => ?_)
        · have h := if_t h c_41
          refine lv_iconst (v := 0) hx hb dX8_findGaps_118 (by decide) ?_
          obtain ⟨h_42, V_44, e_43, h⟩ := wrI_some h
          refine g_zast S hW (k := 32) rfl rfl h_42 e_43 (by decide) dX8_findGaps_119 (fun H locs hW => ?_)
          obtain ⟨x_45, e_46, h⟩ := nmI_some h
          refine lv_iinc (v := x_45) (lv' := [(3, .int x_45), (0, .ref (al 0)), (1, .int x1)]) hx hb dX8_findGaps_120 hl (k := 2) rfl (by rw [e_46]; rfl) (by decide) rfl (fun ls hl => ?_)
          refine lv_goto (tgt := 76) hx hb dX8_findGaps_123 (by decide) ?_
          exact ih x_45 V_44 out _ _ _ h hW (lv_sub hl [1, 2, 0] rfl) k1
        · have h := if_f h c_41
          refine lv_aload_n hx hb dX8_findGaps_100 rfl (lv_at hl 0 rfl) ?_
          refine tw_ref S hW 29 29 (by decide) rfl q1528 rfl dX8_findGaps_101 ?_
          refine lv_iconst (v := 2) hx hb dX8_findGaps_104 (by decide) ?_
          refine lv_iload_n hx hb dX8_findGaps_105 rfl (lv_at hl 2 rfl) ?_
          refine lv_imul hx hb dX8_findGaps_106 ?_
          refine lv_iconst (v := 1) hx hb dX8_findGaps_107 (by decide) ?_
          refine lv_iadd hx hb dX8_findGaps_108 ?_
          obtain ⟨h_48, x_47, e_49, h⟩ := rdI_some h
          refine g_iald S hW (k := 29) rfl rfl h_48 e_49 dX8_findGaps_109 ?_
          refine lv_iconst (v := (-1)) hx hb dX8_findGaps_110 (by decide) ?_
          refine lv_icmp_ne (tgt := 118) hx hb dX8_findGaps_111 (by decide) (fun c_50 => ?_) (fun c_50 => ?_)
          · have h := if_f h c_50
            refine lv_iconst (v := 0) hx hb dX8_findGaps_118 (by decide) ?_
            obtain ⟨h_51, V_53, e_52, h⟩ := wrI_some h
            refine g_zast S hW (k := 32) rfl rfl h_51 e_52 (by decide) dX8_findGaps_119 (fun H locs hW => ?_)
            obtain ⟨x_54, e_55, h⟩ := nmI_some h
            refine lv_iinc (v := x_54) (lv' := [(3, .int x_54), (0, .ref (al 0)), (1, .int x1)]) hx hb dX8_findGaps_120 hl (k := 2) rfl (by rw [e_55]; rfl) (by decide) rfl (fun ls hl => ?_)
            refine lv_goto (tgt := 76) hx hb dX8_findGaps_123 (by decide) ?_
            exact ih x_54 V_53 out _ _ _ h hW (lv_sub hl [1, 2, 0] rfl) k1
          · have h := if_t h c_50
            refine lv_iconst (v := 1) hx hb dX8_findGaps_114 (by decide) ?_
            refine lv_goto (tgt := 119) hx hb dX8_findGaps_115 (by decide) ?_
            obtain ⟨h_56, V_58, e_57, h⟩ := wrI_some h
            refine g_zast S hW (k := 32) rfl rfl h_56 e_57 (by decide) dX8_findGaps_119 (fun H locs hW => ?_)
            obtain ⟨x_59, e_60, h⟩ := nmI_some h
            refine lv_iinc (v := x_59) (lv' := [(3, .int x_59), (0, .ref (al 0)), (1, .int x1)]) hx hb dX8_findGaps_120 hl (k := 2) rfl (by rw [e_60]; rfl) (by decide) rfl (fun ls hl => ?_)
            refine lv_goto (tgt := 76) hx hb dX8_findGaps_123 (by decide) ?_
            exact ih x_59 V_58 out _ _ _ h hW (lv_sub hl [1, 2, 0] rfl) k1
  unfold tw_findGaps at h
  refine lv_iconst (v := 0) hx hb dX8_findGaps_0 (by decide) ?_
  refine lv_istore_n (lv' := [(1, .int 0), (0, .ref (al 0))]) hx hb dX8_findGaps_1 rfl hl (by decide) rfl (fun ls hl => ?_)
  obtain ⟨V_18, h_17, h⟩ := bnd_some h
  refine Lp2 L0 1000 0 V0  _ _ _ _ h_17 hW (lv_sub hl [1, 0] rfl) ?_
  intro w0 eo H locs ls hW hl
  subst eo
  refine lv_iconst (v := 0) hx hb dX8_findGaps_46 (by decide) ?_
  refine lv_istore_n (lv' := [(1, .int 0), (0, .ref (al 0))]) hx hb dX8_findGaps_47 rfl hl (by decide) rfl (fun ls hl => ?_)
  refine lv_aload_n hx hb dX8_findGaps_48 rfl (lv_at hl 1 rfl) ?_
  obtain ⟨x_21, V_22, h_19, h⟩ := bnd2_some h
  refine g_callVi (As := []) (rest := []) S hW (metX8_search h_19) (cwX8_search S.2.2.2.2 q1893 ⟨Nat.le_of_ble_eq_true rfl, Nat.le_of_ble_eq_true rfl⟩) (k := 0) rfl rfl rfl hl.1 rfl (Nat.le_of_ble_eq_true rfl) dX8_findGaps_49 ⟨Nat.le_refl _, Nat.le_refl _⟩ (fun H locs hW => ?_)
  refine lv_istore_n (lv' := [(2, .int x_21), (1, .int 0), (0, .ref (al 0))]) hx hb dX8_findGaps_52 rfl hl (by decide) rfl (fun ls hl => ?_)
  obtain ⟨x_35, V_36, h_34, h⟩ := bnd2_some h
  refine Lp53 L0 1000 0 x_21 V_22  _ _ _ _ h_34 hW (lv_sub hl [2, 1, 0] rfl) ?_
  intro w0 w1 eo H locs ls hW hl
  cases eo
  refine lv_iconst (v := 0) hx hb dX8_findGaps_74 (by decide) ?_
  refine lv_istore_n (lv' := [(3, .int 0), (0, .ref (al 0)), (1, .int x_35)]) hx hb dX8_findGaps_75 rfl hl (by decide) rfl (fun ls hl => ?_)
  obtain ⟨V_63, h_62, h⟩ := bnd_some h
  refine Lp76 x_35 L0 1000 0 V_36  _ _ _ _ h_62 hW (lv_sub hl [1, 2, 0] rfl) ?_
  intro w0 eo H locs ls hW hl
  subst eo
  refine lv_iload_n hx hb dX8_findGaps_126 rfl (lv_at hl 0 rfl) ?_
  cases h
  exact g_iret S hr hlk hW dX8_findGaps_127
theorem cwX8_findGaps {R : Room} {s : State} {args : Array Value} {index : Nat} (hts : ∀ w ∈ lw_all, w.before args s = true) (hl : Cond.methodLink RX8 index yX8_findGaps ∈ lw_all) (hR : rmX8_findGaps.frames + 1 ≤ R.frames ∧ 8 + (4 + 11) + rmX8_findGaps.locals ≤ R.locals) : CallW R s args RX8 RX8 index yX8_findGaps cX8_findGaps 4 (some .int) (ws_ yX8_findGaps cX8_findGaps 4 (some .int)) rmX8_findGaps 0 0 0 := cwV 0 hts (lw_V hl q1891 qs92 q122 q1892) rfl rfl rfl (by decide +kernel) hR
def tw_wordOf_B21 (V : g_V) (rec : Int32 → Int32 → Option (Int32)) (x2 : Int32) (x3 : Int32) : Option (Int32) :=
  if 12 ≤ x3 then (some x2) else (bnd (tw_liftOf V x3) (fun x_19 => nmI (if x2 < x_19 then x_19 else x2) fun x_20 => nmI (x3 + 1) fun x_22 => rec x_20 x_22))
abbrev tw_wordOf_F21 (V : g_V) : ((Int32 × Int32) → Option (Int32)) → (Int32 × Int32) → Option (Int32) := fun rec s => tw_wordOf_B21 V (fun x2 x3 => rec (x2, x3)) s.1 s.2
def tw_wordOf_L21 (V : g_V) (n : Nat) (x2 : Int32) (x3 : Int32) : Option (Int32) := lp (tw_wordOf_F21 V) n (x2, x3)
theorem tw_wordOf_L21_s (V : g_V) (n : Nat) (x2 : Int32) (x3 : Int32) : tw_wordOf_L21 V (n + 1) x2 x3 = tw_wordOf_B21 V (fun x2 x3 => tw_wordOf_L21 V n x2 x3) x2 x3 := lp_s (tw_wordOf_F21 V) n (x2, x3)
def tw_wordOf (V0 : g_V) (a1 : Int32) : Option (Int32 × g_V) :=
  if a1 = 3 then (rdI (V0 1) 810 1 fun x_27 => some (x_27, V0)) else (if a1 = 4 then (bnd (tw_wordOf_L21 V0 1000 0 0) (fun x_26 => some (x_26, V0))) else (bnd (tw_hasShaft V0) (fun x_5 => if x_5 = 0 then (some (0, V0)) else (if a1 = 1 then (bnd (tw_leastOut V0 1 0) (un2 fun x_14 V_15 => some (x_14, V_15))) else (bnd (tw_findGaps V0) (un2 fun x_10 V_11 => some (x_10, V_11)))))))
abbrev rmX8_wordOf : Room := rm_ 6 140
set_option maxHeartbeats 4000000 in
theorem metX8_wordOf {l : Launch} {gp : Nat → Nat} {nx : Nat} {D : va_G} {K : Nat → ClassId} {al : Nat → Nat} {V0 : g_V} {L0 : g_L} {a1 : Int32} {r : Int32} {V' : g_V} (h : tw_wordOf V0 a1 = some (r, V')) : Met l yX8_wordOf (ws_ yX8_wordOf cX8_wordOf 4 (some .int)) rmX8_wordOf (twPc gp nx [.ref (al 0), .int a1] D K al V0 L0) (twQi r nx D K al V' L0) 0 0 (g_A al twSh) := by
  refine g_met rfl (Nat.le_of_ble_eq_true rfl) ?_
  intro p e s m below meth c ls S hr hlk hnm hl hW
  have S : CallFix p m c cX8_wordOf 4 s ([.ref (al 0), .int a1] : List Value).toArray lw_all RX8 := S
  have hx := S.1
  have hb := S.2.1
  have hl : lv_has ls 4 [(0, .ref (al 0)), (1, .int a1)] := hl
  have Lp21 : ∀ (V : g_V) (L : g_L) (n : Nat) (x2 : Int32) (x3 : Int32) (out : (Int32)) (H : Heap) (locs : List Loc) (ls : Array Slot), tw_wordOf_L21 V n x2 x3 = some out → twW gp nx D K al s V L H locs → lv_has ls 4 [(0, .ref (al 0)), (2, .int x2), (3, .int x3)] → (∀ (o2 : Int32), out = o2 → ∀ (H : Heap) (locs : List Loc) (ls : Array Slot), twW gp nx D K al s V L H locs → lv_has ls 4 [(2, .int o2)] → W p l e rmX8_wordOf s m ([.ref (al 0), .int a1] : List Value).toArray below meth c H locs 0 0 (MQ below (twQi r nx D K al V' L0) ([.ref (al 0), .int a1] : List Value).toArray s 0 0 (g_A al twSh)) (F0 m 43 ls [])) → W p l e rmX8_wordOf s m ([.ref (al 0), .int a1] : List Value).toArray below meth c H locs 0 0 (MQ below (twQi r nx D K al V' L0) ([.ref (al 0), .int a1] : List Value).toArray s 0 0 (g_A al twSh)) (F0 m 21 ls []) := by
    intro V L n
    induction n with
    | zero =>
      intro x2 x3 out H locs ls h
      exact (lp_0 h).elim
    | succ n ih =>
      intro x2 x3 out H locs ls h hW hl k1
      rw [tw_wordOf_L21_s] at h
      unfold tw_wordOf_B21 at h
      refine lv_iload_n hx hb dX8_wordOf_21 rfl (lv_at hl 2 rfl) ?_
      refine lv_bipush (v := 12) hx hb dX8_wordOf_22 (by decide) ?_
      refine lv_icmp_ge (tgt := 43) hx hb dX8_wordOf_24 (by decide) (fun c_16 => ?_) (fun c_16 => ?_)
      · have h := if_t h c_16
        exact k1 _ (Option.some.inj h).symm _ _ _ hW (lv_sub hl [1] rfl)
      · have h := if_f h c_16
        refine lv_iload_n hx hb dX8_wordOf_27 rfl (lv_at hl 1 rfl) ?_
        refine lv_aload_n hx hb dX8_wordOf_28 rfl (lv_at hl 0 rfl) ?_
        refine lv_iload_n hx hb dX8_wordOf_29 rfl (lv_at hl 2 rfl) ?_
        obtain ⟨x_19, h_17, h⟩ := bnd_some h
        refine g_callVi (As := [.int x3]) (rest := [.int x2]) S hW (metX8_liftOf h_17) (cwX8_liftOf S.2.2.2.2 q1810 ⟨Nat.le_of_ble_eq_true rfl, Nat.le_of_ble_eq_true rfl⟩) (k := 0) rfl rfl rfl hl.1 rfl (Nat.le_of_ble_eq_true rfl) dX8_wordOf_30 ⟨Nat.le_refl _, Nat.le_refl _⟩ (fun H locs hW => ?_)
        refine va_mmax hx hb (S.2.2.1.trans hl.1.symm) S.2.2.2.1 (S.2.2.2.2 _ q1809) (S.2.2.2.2 _ q595) (S.2.2.2.2 _ q117) (S.2.2.2.2 _ mc_max) (Nat.le_of_ble_eq_true rfl) (Nat.le_of_ble_eq_true rfl) (Nat.le_refl _) (Nat.le_refl _) dX8_wordOf_33 ?_
        obtain ⟨x_20, e_21, h⟩ := nmI_some h
        refine g_nmi e_21 ?_
        refine lv_istore_n (lv' := [(2, .int x_20), (0, .ref (al 0)), (3, .int x3)]) hx hb dX8_wordOf_36 rfl hl (by decide) rfl (fun ls hl => ?_)
        obtain ⟨x_22, e_23, h⟩ := nmI_some h
        refine lv_iinc (v := x_22) (lv' := [(3, .int x_22), (2, .int x_20), (0, .ref (al 0))]) hx hb dX8_wordOf_37 hl (k := 2) rfl (by rw [e_23]; rfl) (by decide) rfl (fun ls hl => ?_)
        refine lv_goto (tgt := 21) hx hb dX8_wordOf_40 (by decide) ?_
        exact ih x_20 x_22 out _ _ _ h hW (lv_sub hl [2, 1, 0] rfl) k1
  unfold tw_wordOf at h
  refine lv_iload_n hx hb dX8_wordOf_0 rfl (lv_at hl 1 rfl) ?_
  refine lv_iconst (v := 3) hx hb dX8_wordOf_1 (by decide) ?_
  refine lv_icmp_ne (tgt := 12) hx hb dX8_wordOf_2 (by decide) (fun c_1 => ?_) (fun c_1 => ?_)
  · have h := if_f h c_1
    refine lv_iload_n hx hb dX8_wordOf_12 rfl (lv_at hl 1 rfl) ?_
    refine lv_iconst (v := 4) hx hb dX8_wordOf_13 (by decide) ?_
    refine lv_icmp_ne (tgt := 45) hx hb dX8_wordOf_14 (by decide) (fun c_2 => ?_) (fun c_2 => ?_)
    · have h := if_f h c_2
      refine lv_aload_n hx hb dX8_wordOf_45 rfl (lv_at hl 0 rfl) ?_
      obtain ⟨x_5, h_3, h⟩ := bnd_some h
      refine g_callVi (As := []) (rest := []) S hW (metX8_hasShaft h_3) (cwX8_hasShaft S.2.2.2.2 q1873 ⟨Nat.le_of_ble_eq_true rfl, Nat.le_of_ble_eq_true rfl⟩) (k := 0) rfl rfl rfl hl.1 rfl (Nat.le_of_ble_eq_true rfl) dX8_wordOf_46 ⟨Nat.le_refl _, Nat.le_refl _⟩ (fun H locs hW => ?_)
      refine lv_if_ne (tgt := 56) hx hb dX8_wordOf_49 (by decide) (fun c_6 => ?_) (fun c_6 => ?_)
      · have h := if_f h c_6
        refine lv_iload_n hx hb dX8_wordOf_56 rfl (lv_at hl 1 rfl) ?_
        refine lv_iconst (v := 1) hx hb dX8_wordOf_57 (by decide) ?_
        refine lv_icmp_ne (tgt := 70) hx hb dX8_wordOf_58 (by decide) (fun c_7 => ?_) (fun c_7 => ?_)
        · have h := if_f h c_7
          refine lv_aload_n hx hb dX8_wordOf_70 rfl (lv_at hl 0 rfl) ?_
          obtain ⟨x_10, V_11, h_8, h⟩ := bnd2_some h
          refine g_callVi (As := []) (rest := []) S hW (metX8_findGaps h_8) (cwX8_findGaps S.2.2.2.2 q1889 ⟨Nat.le_of_ble_eq_true rfl, Nat.le_of_ble_eq_true rfl⟩) (k := 0) rfl rfl rfl hl.1 rfl (Nat.le_of_ble_eq_true rfl) dX8_wordOf_71 ⟨Nat.le_refl _, Nat.le_refl _⟩ (fun H locs hW => ?_)
          cases h
          exact g_iret S hr hlk hW dX8_wordOf_74
        · have h := if_t h c_7
          refine lv_aload_n hx hb dX8_wordOf_61 rfl (lv_at hl 0 rfl) ?_
          refine lv_iconst (v := 1) hx hb dX8_wordOf_62 (by decide) ?_
          refine lv_iconst (v := 0) hx hb dX8_wordOf_63 (by decide) ?_
          obtain ⟨x_14, V_15, h_12, h⟩ := bnd2_some h
          refine g_callVi (As := [.int 1, .int 0]) (rest := []) S hW (metX8_leastOut h_12) (cwX8_leastOut S.2.2.2.2 q1823 ⟨Nat.le_of_ble_eq_true rfl, Nat.le_of_ble_eq_true rfl⟩) (k := 0) rfl rfl rfl hl.1 rfl (Nat.le_of_ble_eq_true rfl) dX8_wordOf_64 ⟨Nat.le_refl _, Nat.le_refl _⟩ (fun H locs hW => ?_)
          refine lv_goto (tgt := 74) hx hb dX8_wordOf_67 (by decide) ?_
          cases h
          exact g_iret S hr hlk hW dX8_wordOf_74
      · have h := if_t h c_6
        refine lv_iconst (v := 0) hx hb dX8_wordOf_52 (by decide) ?_
        refine lv_goto (tgt := 74) hx hb dX8_wordOf_53 (by decide) ?_
        cases h
        exact g_iret S hr hlk hW dX8_wordOf_74
    · have h := if_t h c_2
      refine lv_iconst (v := 0) hx hb dX8_wordOf_17 (by decide) ?_
      refine lv_istore_n (lv' := [(2, .int 0), (0, .ref (al 0)), (1, .int a1)]) hx hb dX8_wordOf_18 rfl hl (by decide) rfl (fun ls hl => ?_)
      refine lv_iconst (v := 0) hx hb dX8_wordOf_19 (by decide) ?_
      refine lv_istore_n (lv' := [(3, .int 0), (2, .int 0), (0, .ref (al 0)), (1, .int a1)]) hx hb dX8_wordOf_20 rfl hl (by decide) rfl (fun ls hl => ?_)
      obtain ⟨x_26, h_25, h⟩ := bnd_some h
      refine Lp21 V0 L0 1000 0 0  _ _ _ _ h_25 hW (lv_sub hl [2, 1, 0] rfl) ?_
      intro w0 eo H locs ls hW hl
      subst eo
      refine lv_iload_n hx hb dX8_wordOf_43 rfl (lv_at hl 0 rfl) ?_
      cases h
      exact g_iret S hr hlk hW dX8_wordOf_44
  · have h := if_t h c_1
    refine lv_aload_n hx hb dX8_wordOf_5 rfl (lv_at hl 0 rfl) ?_
    refine tw_ref S hW 1 1 (by decide) rfl q1500 rfl dX8_wordOf_6 ?_
    refine lv_iconst (v := 1) hx hb dX8_wordOf_9 (by decide) ?_
    obtain ⟨h_28, x_27, e_29, h⟩ := rdI_some h
    refine g_iald S hW (k := 1) rfl rfl h_28 e_29 dX8_wordOf_10 ?_
    cases h
    exact g_iret S hr hlk hW dX8_wordOf_11
theorem cwX8_wordOf {R : Room} {s : State} {args : Array Value} {index : Nat} (hts : ∀ w ∈ lw_all, w.before args s = true) (hl : Cond.methodLink RX8 index yX8_wordOf ∈ lw_all) (hR : rmX8_wordOf.frames + 1 ≤ R.frames ∧ 8 + (4 + 11) + rmX8_wordOf.locals ≤ R.locals) : CallW R s args RX8 RX8 index yX8_wordOf cX8_wordOf 4 (some .int) (ws_ yX8_wordOf cX8_wordOf 4 (some .int)) rmX8_wordOf 0 0 1 := cwV 1 hts (lw_V hl q1926 qs98 q122 q1927) rfl rfl rfl (by decide +kernel) hR
def tw_pump (V0 : g_V) : Option (Int32 × g_V) :=
  bnd (tw_hasShaft V0) (fun x_3 => if x_3 = 0 then (some ((-6), V0)) else (rdI (V0 1) 810 12 fun x_5 => if x_5 = 0 then (some ((-5), V0)) else (bnd (tw_isShut V0) (un2 fun x_11 V_12 => if x_11 = 0 then (some ((-8), V_12)) else (wrI V_12 1 810 12 0 fun V_16 => some (0, V_16))))))
abbrev rmX8_pump : Room := rm_ 6 140
set_option maxHeartbeats 4000000 in
theorem metX8_pump {l : Launch} {gp : Nat → Nat} {nx : Nat} {D : va_G} {K : Nat → ClassId} {al : Nat → Nat} {V0 : g_V} {L0 : g_L} {r : Int32} {V' : g_V} (h : tw_pump V0 = some (r, V')) : Met l yX8_pump (ws_ yX8_pump cX8_pump 1 (some .int)) rmX8_pump (twPc gp nx [.ref (al 0)] D K al V0 L0) (twQi r nx D K al V' L0) 0 0 (g_A al twSh) := by
  refine g_met rfl (Nat.le_of_ble_eq_true rfl) ?_
  intro p e s m below meth c ls S hr hlk hnm hl hW
  have S : CallFix p m c cX8_pump 1 s ([.ref (al 0)] : List Value).toArray lw_all RX8 := S
  have hx := S.1
  have hb := S.2.1
  have hl : lv_has ls 1 [(0, .ref (al 0))] := hl
  unfold tw_pump at h
  refine lv_aload_n hx hb dX8_pump_0 rfl (lv_at hl 0 rfl) ?_
  obtain ⟨x_3, h_1, h⟩ := bnd_some h
  refine g_callVi (As := []) (rest := []) S hW (metX8_hasShaft h_1) (cwX8_hasShaft S.2.2.2.2 q1873 ⟨Nat.le_of_ble_eq_true rfl, Nat.le_of_ble_eq_true rfl⟩) (k := 0) rfl rfl rfl hl.1 rfl (Nat.le_of_ble_eq_true rfl) dX8_pump_1 ⟨Nat.le_refl _, Nat.le_refl _⟩ (fun H locs hW => ?_)
  refine lv_if_ne (tgt := 10) hx hb dX8_pump_4 (by decide) (fun c_4 => ?_) (fun c_4 => ?_)
  · have h := if_f h c_4
    refine lv_aload_n hx hb dX8_pump_10 rfl (lv_at hl 0 rfl) ?_
    refine tw_ref S hW 1 1 (by decide) rfl q1500 rfl dX8_pump_11 ?_
    refine lv_bipush (v := 12) hx hb dX8_pump_14 (by decide) ?_
    obtain ⟨h_6, x_5, e_7, h⟩ := rdI_some h
    refine g_iald S hW (k := 1) rfl rfl h_6 e_7 dX8_pump_16 ?_
    refine lv_if_ne (tgt := 23) hx hb dX8_pump_17 (by decide) (fun c_8 => ?_) (fun c_8 => ?_)
    · have h := if_f h c_8
      refine lv_aload_n hx hb dX8_pump_23 rfl (lv_at hl 0 rfl) ?_
      obtain ⟨x_11, V_12, h_9, h⟩ := bnd2_some h
      refine g_callVi (As := []) (rest := []) S hW (metX8_isShut h_9) (cwX8_isShut S.2.2.2.2 q1819 ⟨Nat.le_of_ble_eq_true rfl, Nat.le_of_ble_eq_true rfl⟩) (k := 0) rfl rfl rfl hl.1 rfl (Nat.le_of_ble_eq_true rfl) dX8_pump_24 ⟨Nat.le_refl _, Nat.le_refl _⟩ (fun H locs hW => ?_)
      refine lv_if_ne (tgt := 33) hx hb dX8_pump_27 (by decide) (fun c_13 => ?_) (fun c_13 => ?_)
      · have h := if_f h c_13
        refine lv_aload_n hx hb dX8_pump_33 rfl (lv_at hl 0 rfl) ?_
        refine tw_ref S hW 1 1 (by decide) rfl q1500 rfl dX8_pump_34 ?_
        refine lv_bipush (v := 12) hx hb dX8_pump_37 (by decide) ?_
        refine lv_iconst (v := 0) hx hb dX8_pump_39 (by decide) ?_
        obtain ⟨h_14, V_16, e_15, h⟩ := wrI_some h
        refine g_iast S hW (k := 1) rfl rfl h_14 e_15 dX8_pump_40 (fun H locs hW => ?_)
        refine lv_iconst (v := 0) hx hb dX8_pump_41 (by decide) ?_
        cases h
        exact g_iret S hr hlk hW dX8_pump_42
      · have h := if_t h c_13
        refine lv_bipush (v := (-8)) hx hb dX8_pump_30 (by decide) ?_
        cases h
        exact g_iret S hr hlk hW dX8_pump_32
    · have h := if_t h c_8
      refine lv_bipush (v := (-5)) hx hb dX8_pump_20 (by decide) ?_
      cases h
      exact g_iret S hr hlk hW dX8_pump_22
  · have h := if_t h c_4
    refine lv_bipush (v := (-6)) hx hb dX8_pump_7 (by decide) ?_
    cases h
    exact g_iret S hr hlk hW dX8_pump_9
theorem cwX8_pump {R : Room} {s : State} {args : Array Value} {index : Nat} (hts : ∀ w ∈ lw_all, w.before args s = true) (hl : Cond.methodLink RX8 index yX8_pump ∈ lw_all) (hR : rmX8_pump.frames + 1 ≤ R.frames ∧ 8 + (1 + 11) + rmX8_pump.locals ≤ R.locals) : CallW R s args RX8 RX8 index yX8_pump cX8_pump 1 (some .int) (ws_ yX8_pump cX8_pump 1 (some .int)) rmX8_pump 0 0 0 := cwV 0 hts (lw_V hl q1938 q1939 q122 q1940) rfl rfl rfl (by decide +kernel) hR
def tw_readLine_J561 (V : g_V) : Option (g_V) :=
  bnd (tw_good V) (fun x_95 => if x_95 = 0 then (some V) else (bnd (tw_step V) (fun V_99 => some V_99)))
def tw_readLine_J547 (V : g_V) : Option (g_V) :=
  bnd (tw_isSign V 59) (fun x_91 => if x_91 = 0 then (bnd (tw_wrong V 1) (fun V_102 => tw_readLine_J561 V_102)) else (tw_readLine_J561 V))
def tw_readLine_J250 (V : g_V) : Option (g_V) :=
  bnd (tw_good V) (fun x_13 => if x_13 = 0 then (some V) else (rdI (V 15) 810 0 fun x_15 => wrI V 15 810 0 (x_15 + 1) fun V_20 => bnd (tw_takes 4 V_20) (un2 fun x_23 V_24 => if x_23 = 0 then (bnd (tw_takes 5 V_24) (un2 fun x_28 V_29 => if x_28 = 0 then (bnd (tw_takes 6 V_29) (un2 fun x_33 V_34 => if x_33 = 0 then (bnd (tw_takes 9 V_34) (un2 fun x_38 V_39 => if x_38 = 0 then (bnd (tw_takes 12 V_39) (un2 fun x_43 V_44 => if x_43 = 0 then (bnd (tw_takes 7 V_44) (un2 fun x_48 V_49 => if x_48 = 0 then (bnd (tw_takes 10 V_49) (un2 fun x_53 V_54 => if x_53 = 0 then (bnd (tw_takes 8 V_54) (un2 fun x_58 V_59 => if x_58 = 0 then (bnd (tw_step V_59) (fun V_63 => rdI (V_63 15) 810 3 fun x_64 => nmI (732 + (3 * x_64)) fun x_67 => bnd (tw_number V_63 0 10) (un2 fun x_71 V_72 => wrI V_72 15 810 x_67 x_71 fun V_75 => bnd (tw_told 23 V_75 0 999) (un2 fun x_78 V_79 => wrI V_79 15 810 (x_67 + 1) x_78 fun V_82 => rdI (V_82 15) 810 3 fun x_83 => wrI V_82 15 810 3 (x_83 + 1) fun V_88 => tw_readLine_J547 V_88)))) else (bnd (tw_readBox V_59 1 10) (fun V_105 => wrI V_105 15 810 7 1 fun V_108 => wrI V_108 15 810 8 (V_108 0 20) fun V_111 => wrI V_111 15 810 9 (V_111 0 21) fun V_114 => wrI V_114 15 810 10 (V_114 0 22) fun V_117 => wrI V_117 15 810 11 (V_117 0 23) fun V_120 => tw_readLine_J547 V_120)))) else (ptI V_54 0 19 1 fun V_121 => bnd (tw_number V_121 0 99999) (un2 fun x_125 V_126 => wrI V_126 15 810 6 x_125 fun V_129 => tw_readLine_J547 V_129)))) else (ptI V_49 0 18 1 fun V_130 => bnd (tw_number V_130 1 300) (un2 fun x_134 V_135 => wrI V_135 15 810 5 x_134 fun V_138 => tw_readLine_J547 V_138)))) else (bnd (tw_readRule V_44) (fun V_141 => tw_readLine_J547 V_141)))) else (bnd (tw_readPipe V_39) (fun V_144 => tw_readLine_J547 V_144)))) else (bnd (tw_readStream V_34) (fun V_147 => tw_readLine_J547 V_147)))) else (bnd (tw_readLay V_29) (fun V_150 => tw_readLine_J547 V_150)))) else (bnd (tw_readGround V_24) (fun V_153 => tw_readLine_J547 V_153)))))
def tw_readLine_J228 (x1 : Int32) (z0 : Int32) (V : g_V) : Option (g_V) :=
  if x1 = 0 then (bnd (tw_wrong V 1) (fun V_159 => tw_readLine_J250 V_159)) else (if z0 = 0 then (tw_readLine_J250 V) else (bnd (tw_wrong V 3) (fun V_156 => tw_readLine_J250 V_156)))
def tw_readLine_J223 (x1 : Int32) (V : g_V) : Option (g_V) :=
  tw_readLine_J228 x1 1 V
def tw_readLine_J227 (x1 : Int32) (V : g_V) : Option (g_V) :=
  tw_readLine_J228 x1 0 V
def tw_readLine_J206 (x1 : Int32) (V : g_V) : Option (g_V) :=
  bnd (tw_is 10 V) (fun x_182 => if x_182 = 0 then (tw_readLine_J227 x1 V) else (if (V 0 19) = 0 then (tw_readLine_J227 x1 V) else (tw_readLine_J223 x1 V)))
def tw_readLine_J185 (x1 : Int32) (V : g_V) : Option (g_V) :=
  bnd (tw_is 8 V) (fun x_178 => if x_178 = 0 then (tw_readLine_J206 x1 V) else (rdI (V 15) 810 7 fun x_185 => if x_185 = 1 then (tw_readLine_J223 x1 V) else (tw_readLine_J206 x1 V)))
def tw_readLine_J168 (x1 : Int32) (V : g_V) : Option (g_V) :=
  bnd (tw_is 7 V) (fun x_174 => if x_174 = 0 then (tw_readLine_J185 x1 V) else (if (V 0 18) = 0 then (tw_readLine_J185 x1 V) else (tw_readLine_J223 x1 V)))
def tw_readLine_J148 (x1 : Int32) (V : g_V) : Option (g_V) :=
  bnd (tw_is 12 V) (fun x_170 => if x_170 = 0 then (tw_readLine_J168 x1 V) else (rdI (V 15) 810 4 fun x_190 => if x_190 = 4 then (tw_readLine_J223 x1 V) else (tw_readLine_J168 x1 V)))
def tw_readLine_J127 (x1 : Int32) (V : g_V) : Option (g_V) :=
  bnd (tw_is 11 V) (fun x_166 => if x_166 = 0 then (tw_readLine_J148 x1 V) else (rdI (V 15) 810 3 fun x_194 => if x_194 = 6 then (tw_readLine_J223 x1 V) else (tw_readLine_J148 x1 V)))
def tw_readLine_J94 (z0 : Int32) (V : g_V) : Option (g_V) :=
  rdI (V 15) 810 0 fun x_5 => if x_5 = 40 then (tw_readLine_J223 z0 V) else (bnd (tw_is 9 V) (fun x_162 => if x_162 = 0 then (tw_readLine_J127 z0 V) else (rdI (V 15) 810 2 fun x_198 => if x_198 = 12 then (tw_readLine_J223 z0 V) else (tw_readLine_J127 z0 V))))
def tw_readLine_J89 (V : g_V) : Option (g_V) :=
  tw_readLine_J94 1 V
def tw_readLine (V0 : g_V) : Option (g_V) :=
  bnd (tw_is 4 V0) (fun x_3 => if x_3 = 0 then (bnd (tw_is 5 V0) (fun x_204 => if x_204 = 0 then (bnd (tw_is 6 V0) (fun x_208 => if x_208 = 0 then (bnd (tw_is 7 V0) (fun x_212 => if x_212 = 0 then (bnd (tw_is 8 V0) (fun x_216 => if x_216 = 0 then (bnd (tw_is 9 V0) (fun x_220 => if x_220 = 0 then (bnd (tw_is 10 V0) (fun x_224 => if x_224 = 0 then (bnd (tw_is 11 V0) (fun x_228 => if x_228 = 0 then (bnd (tw_is 12 V0) (fun x_232 => if x_232 = 0 then (tw_readLine_J94 0 V0) else (tw_readLine_J89 V0))) else (tw_readLine_J89 V0))) else (tw_readLine_J89 V0))) else (tw_readLine_J89 V0))) else (tw_readLine_J89 V0))) else (tw_readLine_J89 V0))) else (tw_readLine_J89 V0))) else (tw_readLine_J89 V0))) else (tw_readLine_J89 V0))
abbrev rmX8_readLine : Room := rm_ 9 225
set_option maxHeartbeats 4000000 in
theorem metX8_readLine {l : Launch} {gp : Nat → Nat} {nx : Nat} {D : va_G} {K : Nat → ClassId} {al : Nat → Nat} {V0 : g_V} {L0 : g_L} {V' : g_V} (h : tw_readLine V0 = some V') : Met l yX8_readLine (ws_ yX8_readLine cX8_readLine 4 (none)) rmX8_readLine (twPc gp nx [.ref (al 0)] D K al V0 L0) (twQv nx D K al V' L0) 0 0 (g_A al twSh) := by
  refine g_met rfl (Nat.le_of_ble_eq_true rfl) ?_
  intro p e s m below meth c ls S hr hlk hnm hl hW
  have S : CallFix p m c cX8_readLine 4 s ([.ref (al 0)] : List Value).toArray lw_all RX8 := S
  have hx := S.1
  have hb := S.2.1
  have hl : lv_has ls 4 [(0, .ref (al 0))] := hl
  have J561 : ∀ (V : g_V) (H : Heap) (locs : List Loc) (ls : Array Slot), tw_readLine_J561 V = some V' → twW gp nx D K al s V L0 H locs → lv_has ls 4 [(0, .ref (al 0))] → W p l e rmX8_readLine s m ([.ref (al 0)] : List Value).toArray below meth c H locs 0 0 (MQ below (twQv nx D K al V' L0) ([.ref (al 0)] : List Value).toArray s 0 0 (g_A al twSh)) (F0 m 561 ls []) := by
    intro V H locs ls h hW hl
    unfold tw_readLine_J561 at h
    refine lv_aload_n hx hb dX8_readLine_561 rfl (lv_at hl 0 rfl) ?_
    obtain ⟨x_95, h_93, h⟩ := bnd_some h
    refine g_callVi (As := []) (rest := []) S hW (metX8_good h_93) (cwX8_good S.2.2.2.2 q1658 ⟨Nat.le_of_ble_eq_true rfl, Nat.le_of_ble_eq_true rfl⟩) (k := 0) rfl rfl rfl hl.1 rfl (Nat.le_of_ble_eq_true rfl) dX8_readLine_562 ⟨Nat.le_refl _, Nat.le_refl _⟩ (fun H locs hW => ?_)
    refine lv_if_eq (tgt := 572) hx hb dX8_readLine_565 (by decide) (fun c_96 => ?_) (fun c_96 => ?_)
    · have h := if_t h c_96
      cases h
      exact g_vret S hr hlk hW dX8_readLine_572
    · have h := if_f h c_96
      refine lv_aload_n hx hb dX8_readLine_568 rfl (lv_at hl 0 rfl) ?_
      obtain ⟨V_99, h_97, h⟩ := bnd_some h
      refine g_callVv (As := []) (rest := []) S hW (metX8_step h_97) (cwX8_step S.2.2.2.2 q1644 ⟨Nat.le_of_ble_eq_true rfl, Nat.le_of_ble_eq_true rfl⟩) (k := 0) rfl rfl rfl hl.1 rfl (Nat.le_of_ble_eq_true rfl) dX8_readLine_569 ⟨Nat.le_refl _, Nat.le_refl _⟩ (fun H locs hW => ?_)
      cases h
      exact g_vret S hr hlk hW dX8_readLine_572
  have J547 : ∀ (V : g_V) (H : Heap) (locs : List Loc) (ls : Array Slot), tw_readLine_J547 V = some V' → twW gp nx D K al s V L0 H locs → lv_has ls 4 [(0, .ref (al 0))] → W p l e rmX8_readLine s m ([.ref (al 0)] : List Value).toArray below meth c H locs 0 0 (MQ below (twQv nx D K al V' L0) ([.ref (al 0)] : List Value).toArray s 0 0 (g_A al twSh)) (F0 m 547 ls []) := by
    intro V H locs ls h hW hl
    unfold tw_readLine_J547 at h
    refine lv_aload_n hx hb dX8_readLine_547 rfl (lv_at hl 0 rfl) ?_
    refine lv_bipush (v := 59) hx hb dX8_readLine_548 (by decide) ?_
    obtain ⟨x_91, h_89, h⟩ := bnd_some h
    refine g_callVi (As := [.int 59]) (rest := []) S hW (metX8_isSign h_89) (cwX8_isSign S.2.2.2.2 q1714 ⟨Nat.le_of_ble_eq_true rfl, Nat.le_of_ble_eq_true rfl⟩) (k := 0) rfl rfl rfl hl.1 rfl (Nat.le_of_ble_eq_true rfl) dX8_readLine_550 ⟨Nat.le_refl _, Nat.le_refl _⟩ (fun H locs hW => ?_)
    refine lv_if_ne (tgt := 561) hx hb dX8_readLine_553 (by decide) (fun c_92 => ?_) (fun c_92 => ?_)
    · have h := if_f h c_92
      exact J561 V _ _ _ h hW hl
    · have h := if_t h c_92
      refine lv_aload_n hx hb dX8_readLine_556 rfl (lv_at hl 0 rfl) ?_
      refine lv_iconst (v := 1) hx hb dX8_readLine_557 (by decide) ?_
      obtain ⟨V_102, h_100, h⟩ := bnd_some h
      refine g_callVv (As := [.int 1]) (rest := []) S hW (metX8_wrong h_100) (cwX8_wrong S.2.2.2.2 q1681 ⟨Nat.le_of_ble_eq_true rfl, Nat.le_of_ble_eq_true rfl⟩) (k := 0) rfl rfl rfl hl.1 rfl (Nat.le_of_ble_eq_true rfl) dX8_readLine_558 ⟨Nat.le_refl _, Nat.le_refl _⟩ (fun H locs hW => ?_)
      exact J561 V_102 _ _ _ h hW hl
  have J250 : ∀ (V : g_V) (H : Heap) (locs : List Loc) (ls : Array Slot), tw_readLine_J250 V = some V' → twW gp nx D K al s V L0 H locs → lv_has ls 4 [(0, .ref (al 0))] → W p l e rmX8_readLine s m ([.ref (al 0)] : List Value).toArray below meth c H locs 0 0 (MQ below (twQv nx D K al V' L0) ([.ref (al 0)] : List Value).toArray s 0 0 (g_A al twSh)) (F0 m 250 ls []) := by
    intro V H locs ls h hW hl
    unfold tw_readLine_J250 at h
    refine lv_aload_n hx hb dX8_readLine_250 rfl (lv_at hl 0 rfl) ?_
    obtain ⟨x_13, h_11, h⟩ := bnd_some h
    refine g_callVi (As := []) (rest := []) S hW (metX8_good h_11) (cwX8_good S.2.2.2.2 q1658 ⟨Nat.le_of_ble_eq_true rfl, Nat.le_of_ble_eq_true rfl⟩) (k := 0) rfl rfl rfl hl.1 rfl (Nat.le_of_ble_eq_true rfl) dX8_readLine_251 ⟨Nat.le_refl _, Nat.le_refl _⟩ (fun H locs hW => ?_)
    refine lv_if_ne (tgt := 258) hx hb dX8_readLine_254 (by decide) (fun c_14 => ?_) (fun c_14 => ?_)
    · have h := if_f h c_14
      refine lv_aload_n hx hb dX8_readLine_258 rfl (lv_at hl 0 rfl) ?_
      refine tw_ref S hW 15 15 (by decide) rfl q1514 rfl dX8_readLine_259 ?_
      refine lv_iconst (v := 0) hx hb dX8_readLine_262 (by decide) ?_
      refine lv_dup2_11 hx hb dX8_readLine_263 rfl rfl ?_
      obtain ⟨h_16, x_15, e_17, h⟩ := rdI_some h
      refine g_iald S hW (k := 15) rfl rfl h_16 e_17 dX8_readLine_264 ?_
      refine lv_iconst (v := 1) hx hb dX8_readLine_265 (by decide) ?_
      refine lv_iadd hx hb dX8_readLine_266 ?_
      obtain ⟨h_18, V_20, e_19, h⟩ := wrI_some h
      refine g_iast S hW (k := 15) rfl rfl h_18 e_19 dX8_readLine_267 (fun H locs hW => ?_)
      refine lv_aload_n hx hb dX8_readLine_268 rfl (lv_at hl 0 rfl) ?_
      refine g_ldcS (w := 4) (tx := "ground") S hW (List.mem_of_getElem? (i := 29) rfl) dX8_readLine_269 ?_
      obtain ⟨x_23, V_24, h_21, h⟩ := bnd2_some h
      refine g_callVi (As := [.ref (gp 4)]) (rest := []) S hW (metX8_takes (by decide) h_21) (cwX8_takes S.2.2.2.2 q1685 ⟨Nat.le_of_ble_eq_true rfl, Nat.le_of_ble_eq_true rfl⟩) (k := 0) rfl rfl rfl hl.1 rfl (Nat.le_of_ble_eq_true rfl) dX8_readLine_271 ⟨Nat.le_refl _, Nat.le_refl _⟩ (fun H locs hW => ?_)
      refine lv_if_eq (tgt := 284) hx hb dX8_readLine_274 (by decide) (fun c_25 => ?_) (fun c_25 => ?_)
      · have h := if_t h c_25
        refine lv_aload_n hx hb dX8_readLine_284 rfl (lv_at hl 0 rfl) ?_
        refine g_ldcwS (w := 5) (tx := "lay") S hW (List.mem_of_getElem? (i := 39) rfl) dX8_readLine_285 ?_
        obtain ⟨x_28, V_29, h_26, h⟩ := bnd2_some h
        refine g_callVi (As := [.ref (gp 5)]) (rest := []) S hW (metX8_takes (by decide) h_26) (cwX8_takes S.2.2.2.2 q1685 ⟨Nat.le_of_ble_eq_true rfl, Nat.le_of_ble_eq_true rfl⟩) (k := 0) rfl rfl rfl hl.1 rfl (Nat.le_of_ble_eq_true rfl) dX8_readLine_288 ⟨Nat.le_refl _, Nat.le_refl _⟩ (fun H locs hW => ?_)
        refine lv_if_eq (tgt := 301) hx hb dX8_readLine_291 (by decide) (fun c_30 => ?_) (fun c_30 => ?_)
        · have h := if_t h c_30
          refine lv_aload_n hx hb dX8_readLine_301 rfl (lv_at hl 0 rfl) ?_
          refine g_ldcwS (w := 6) (tx := "stream") S hW (List.mem_of_getElem? (i := 40) rfl) dX8_readLine_302 ?_
          obtain ⟨x_33, V_34, h_31, h⟩ := bnd2_some h
          refine g_callVi (As := [.ref (gp 6)]) (rest := []) S hW (metX8_takes (by decide) h_31) (cwX8_takes S.2.2.2.2 q1685 ⟨Nat.le_of_ble_eq_true rfl, Nat.le_of_ble_eq_true rfl⟩) (k := 0) rfl rfl rfl hl.1 rfl (Nat.le_of_ble_eq_true rfl) dX8_readLine_305 ⟨Nat.le_refl _, Nat.le_refl _⟩ (fun H locs hW => ?_)
          refine lv_if_eq (tgt := 318) hx hb dX8_readLine_308 (by decide) (fun c_35 => ?_) (fun c_35 => ?_)
          · have h := if_t h c_35
            refine lv_aload_n hx hb dX8_readLine_318 rfl (lv_at hl 0 rfl) ?_
            refine g_ldcwS (w := 9) (tx := "pipe") S hW (List.mem_of_getElem? (i := 43) rfl) dX8_readLine_319 ?_
            obtain ⟨x_38, V_39, h_36, h⟩ := bnd2_some h
            refine g_callVi (As := [.ref (gp 9)]) (rest := []) S hW (metX8_takes (by decide) h_36) (cwX8_takes S.2.2.2.2 q1685 ⟨Nat.le_of_ble_eq_true rfl, Nat.le_of_ble_eq_true rfl⟩) (k := 0) rfl rfl rfl hl.1 rfl (Nat.le_of_ble_eq_true rfl) dX8_readLine_322 ⟨Nat.le_refl _, Nat.le_refl _⟩ (fun H locs hW => ?_)
            refine lv_if_eq (tgt := 335) hx hb dX8_readLine_325 (by decide) (fun c_40 => ?_) (fun c_40 => ?_)
            · have h := if_t h c_40
              refine lv_aload_n hx hb dX8_readLine_335 rfl (lv_at hl 0 rfl) ?_
              refine g_ldcwS (w := 12) (tx := "dig") S hW (List.mem_of_getElem? (i := 46) rfl) dX8_readLine_336 ?_
              obtain ⟨x_43, V_44, h_41, h⟩ := bnd2_some h
              refine g_callVi (As := [.ref (gp 12)]) (rest := []) S hW (metX8_takes (by decide) h_41) (cwX8_takes S.2.2.2.2 q1685 ⟨Nat.le_of_ble_eq_true rfl, Nat.le_of_ble_eq_true rfl⟩) (k := 0) rfl rfl rfl hl.1 rfl (Nat.le_of_ble_eq_true rfl) dX8_readLine_339 ⟨Nat.le_refl _, Nat.le_refl _⟩ (fun H locs hW => ?_)
              refine lv_if_eq (tgt := 352) hx hb dX8_readLine_342 (by decide) (fun c_45 => ?_) (fun c_45 => ?_)
              · have h := if_t h c_45
                refine lv_aload_n hx hb dX8_readLine_352 rfl (lv_at hl 0 rfl) ?_
                refine g_ldcwS (w := 7) (tx := "far") S hW (List.mem_of_getElem? (i := 41) rfl) dX8_readLine_353 ?_
                obtain ⟨x_48, V_49, h_46, h⟩ := bnd2_some h
                refine g_callVi (As := [.ref (gp 7)]) (rest := []) S hW (metX8_takes (by decide) h_46) (cwX8_takes S.2.2.2.2 q1685 ⟨Nat.le_of_ble_eq_true rfl, Nat.le_of_ble_eq_true rfl⟩) (k := 0) rfl rfl rfl hl.1 rfl (Nat.le_of_ble_eq_true rfl) dX8_readLine_356 ⟨Nat.le_refl _, Nat.le_refl _⟩ (fun H locs hW => ?_)
                refine lv_if_eq (tgt := 384) hx hb dX8_readLine_359 (by decide) (fun c_50 => ?_) (fun c_50 => ?_)
                · have h := if_t h c_50
                  refine lv_aload_n hx hb dX8_readLine_384 rfl (lv_at hl 0 rfl) ?_
                  refine g_ldcwS (w := 10) (tx := "cold") S hW (List.mem_of_getElem? (i := 44) rfl) dX8_readLine_385 ?_
                  obtain ⟨x_53, V_54, h_51, h⟩ := bnd2_some h
                  refine g_callVi (As := [.ref (gp 10)]) (rest := []) S hW (metX8_takes (by decide) h_51) (cwX8_takes S.2.2.2.2 q1685 ⟨Nat.le_of_ble_eq_true rfl, Nat.le_of_ble_eq_true rfl⟩) (k := 0) rfl rfl rfl hl.1 rfl (Nat.le_of_ble_eq_true rfl) dX8_readLine_388 ⟨Nat.le_refl _, Nat.le_refl _⟩ (fun H locs hW => ?_)
                  refine lv_if_eq (tgt := 416) hx hb dX8_readLine_391 (by decide) (fun c_55 => ?_) (fun c_55 => ?_)
                  · have h := if_t h c_55
                    refine lv_aload_n hx hb dX8_readLine_416 rfl (lv_at hl 0 rfl) ?_
                    refine g_ldcwS (w := 8) (tx := "shaft") S hW (List.mem_of_getElem? (i := 42) rfl) dX8_readLine_417 ?_
                    obtain ⟨x_58, V_59, h_56, h⟩ := bnd2_some h
                    refine g_callVi (As := [.ref (gp 8)]) (rest := []) S hW (metX8_takes (by decide) h_56) (cwX8_takes S.2.2.2.2 q1685 ⟨Nat.le_of_ble_eq_true rfl, Nat.le_of_ble_eq_true rfl⟩) (k := 0) rfl rfl rfl hl.1 rfl (Nat.le_of_ble_eq_true rfl) dX8_readLine_420 ⟨Nat.le_refl _, Nat.le_refl _⟩ (fun H locs hW => ?_)
                    refine lv_if_eq (tgt := 488) hx hb dX8_readLine_423 (by decide) (fun c_60 => ?_) (fun c_60 => ?_)
                    · have h := if_t h c_60
                      refine lv_aload_n hx hb dX8_readLine_488 rfl (lv_at hl 0 rfl) ?_
                      obtain ⟨V_63, h_61, h⟩ := bnd_some h
                      refine g_callVv (As := []) (rest := []) S hW (metX8_step h_61) (cwX8_step S.2.2.2.2 q1644 ⟨Nat.le_of_ble_eq_true rfl, Nat.le_of_ble_eq_true rfl⟩) (k := 0) rfl rfl rfl hl.1 rfl (Nat.le_of_ble_eq_true rfl) dX8_readLine_489 ⟨Nat.le_refl _, Nat.le_refl _⟩ (fun H locs hW => ?_)
                      refine lv_sipush (v := 732) hx hb dX8_readLine_492 (by decide) ?_
                      refine lv_iconst (v := 3) hx hb dX8_readLine_495 (by decide) ?_
                      refine lv_aload_n hx hb dX8_readLine_496 rfl (lv_at hl 0 rfl) ?_
                      refine tw_ref S hW 15 15 (by decide) rfl q1514 rfl dX8_readLine_497 ?_
                      refine lv_iconst (v := 3) hx hb dX8_readLine_500 (by decide) ?_
                      obtain ⟨h_65, x_64, e_66, h⟩ := rdI_some h
                      refine g_iald S hW (k := 15) rfl rfl h_65 e_66 dX8_readLine_501 ?_
                      refine lv_imul hx hb dX8_readLine_502 ?_
                      refine lv_iadd hx hb dX8_readLine_503 ?_
                      obtain ⟨x_67, e_68, h⟩ := nmI_some h
                      refine g_nmi e_68 ?_
                      refine lv_istore_n (lv' := [(3, .int x_67), (0, .ref (al 0))]) hx hb dX8_readLine_504 rfl hl (by decide) rfl (fun ls hl => ?_)
                      refine lv_aload_n hx hb dX8_readLine_505 rfl (lv_at hl 1 rfl) ?_
                      refine tw_ref S hW 15 15 (by decide) rfl q1514 rfl dX8_readLine_506 ?_
                      refine lv_iload_n hx hb dX8_readLine_509 rfl (lv_at hl 0 rfl) ?_
                      refine lv_aload_n hx hb dX8_readLine_510 rfl (lv_at hl 1 rfl) ?_
                      refine lv_iconst (v := 0) hx hb dX8_readLine_511 (by decide) ?_
                      refine lv_bipush (v := 10) hx hb dX8_readLine_512 (by decide) ?_
                      obtain ⟨x_71, V_72, h_69, h⟩ := bnd2_some h
                      refine g_callVi (As := [.int 0, .int 10]) (rest := [.int x_67, .ref (al 15)]) S hW (metX8_number h_69) (cwX8_number S.2.2.2.2 q1694 ⟨Nat.le_of_ble_eq_true rfl, Nat.le_of_ble_eq_true rfl⟩) (k := 0) rfl rfl rfl hl.1 rfl (Nat.le_of_ble_eq_true rfl) dX8_readLine_514 ⟨Nat.le_refl _, Nat.le_refl _⟩ (fun H locs hW => ?_)
                      obtain ⟨h_73, V_75, e_74, h⟩ := wrI_some h
                      refine g_iast S hW (k := 15) rfl rfl h_73 e_74 dX8_readLine_517 (fun H locs hW => ?_)
                      refine lv_aload_n hx hb dX8_readLine_518 rfl (lv_at hl 1 rfl) ?_
                      refine tw_ref S hW 15 15 (by decide) rfl q1514 rfl dX8_readLine_519 ?_
                      refine lv_iload_n hx hb dX8_readLine_522 rfl (lv_at hl 0 rfl) ?_
                      refine lv_iconst (v := 1) hx hb dX8_readLine_523 (by decide) ?_
                      refine lv_iadd hx hb dX8_readLine_524 ?_
                      refine lv_aload_n hx hb dX8_readLine_525 rfl (lv_at hl 1 rfl) ?_
                      refine g_ldcwS (w := 23) (tx := "limit") S hW (List.mem_of_getElem? (i := 47) rfl) dX8_readLine_526 ?_
                      refine lv_iconst (v := 0) hx hb dX8_readLine_529 (by decide) ?_
                      refine lv_sipush (v := 999) hx hb dX8_readLine_530 (by decide) ?_
                      obtain ⟨x_78, V_79, h_76, h⟩ := bnd2_some h
                      refine g_callVi (As := [.ref (gp 23), .int 0, .int 999]) (rest := [.int (x_67 + 1), .ref (al 15)]) S hW (metX8_told (by decide) h_76) (cwX8_told S.2.2.2.2 q1699 ⟨Nat.le_of_ble_eq_true rfl, Nat.le_of_ble_eq_true rfl⟩) (k := 0) rfl rfl rfl hl.1 rfl (Nat.le_of_ble_eq_true rfl) dX8_readLine_533 ⟨Nat.le_refl _, Nat.le_refl _⟩ (fun H locs hW => ?_)
                      obtain ⟨h_80, V_82, e_81, h⟩ := wrI_some h
                      refine g_iast S hW (k := 15) rfl rfl h_80 e_81 dX8_readLine_536 (fun H locs hW => ?_)
                      refine lv_aload_n hx hb dX8_readLine_537 rfl (lv_at hl 1 rfl) ?_
                      refine tw_ref S hW 15 15 (by decide) rfl q1514 rfl dX8_readLine_538 ?_
                      refine lv_iconst (v := 3) hx hb dX8_readLine_541 (by decide) ?_
                      refine lv_dup2_11 hx hb dX8_readLine_542 rfl rfl ?_
                      obtain ⟨h_84, x_83, e_85, h⟩ := rdI_some h
                      refine g_iald S hW (k := 15) rfl rfl h_84 e_85 dX8_readLine_543 ?_
                      refine lv_iconst (v := 1) hx hb dX8_readLine_544 (by decide) ?_
                      refine lv_iadd hx hb dX8_readLine_545 ?_
                      obtain ⟨h_86, V_88, e_87, h⟩ := wrI_some h
                      refine g_iast S hW (k := 15) rfl rfl h_86 e_87 dX8_readLine_546 (fun H locs hW => ?_)
                      exact J547 V_88 _ _ _ h hW (lv_sub hl [1] rfl)
                    · have h := if_f h c_60
                      refine lv_aload_n hx hb dX8_readLine_426 rfl (lv_at hl 0 rfl) ?_
                      refine lv_iconst (v := 1) hx hb dX8_readLine_427 (by decide) ?_
                      refine lv_bipush (v := 10) hx hb dX8_readLine_428 (by decide) ?_
                      obtain ⟨V_105, h_103, h⟩ := bnd_some h
                      refine g_callVv (As := [.int 1, .int 10]) (rest := []) S hW (metX8_readBox h_103) (cwX8_readBox S.2.2.2.2 q1722 ⟨Nat.le_of_ble_eq_true rfl, Nat.le_of_ble_eq_true rfl⟩) (k := 0) rfl rfl rfl hl.1 rfl (Nat.le_of_ble_eq_true rfl) dX8_readLine_430 ⟨Nat.le_refl _, Nat.le_refl _⟩ (fun H locs hW => ?_)
                      refine lv_aload_n hx hb dX8_readLine_433 rfl (lv_at hl 0 rfl) ?_
                      refine tw_ref S hW 15 15 (by decide) rfl q1514 rfl dX8_readLine_434 ?_
                      refine lv_bipush (v := 7) hx hb dX8_readLine_437 (by decide) ?_
                      refine lv_iconst (v := 1) hx hb dX8_readLine_439 (by decide) ?_
                      obtain ⟨h_106, V_108, e_107, h⟩ := wrI_some h
                      refine g_iast S hW (k := 15) rfl rfl h_106 e_107 dX8_readLine_440 (fun H locs hW => ?_)
                      refine lv_aload_n hx hb dX8_readLine_441 rfl (lv_at hl 0 rfl) ?_
                      refine tw_ref S hW 15 15 (by decide) rfl q1514 rfl dX8_readLine_442 ?_
                      refine lv_bipush (v := 8) hx hb dX8_readLine_445 (by decide) ?_
                      refine lv_aload_n hx hb dX8_readLine_447 rfl (lv_at hl 0 rfl) ?_
                      refine tw_int S hW 20 (by decide) rfl q1519 rfl dX8_readLine_448 ?_
                      obtain ⟨h_109, V_111, e_110, h⟩ := wrI_some h
                      refine g_iast S hW (k := 15) rfl rfl h_109 e_110 dX8_readLine_451 (fun H locs hW => ?_)
                      refine lv_aload_n hx hb dX8_readLine_452 rfl (lv_at hl 0 rfl) ?_
                      refine tw_ref S hW 15 15 (by decide) rfl q1514 rfl dX8_readLine_453 ?_
                      refine lv_bipush (v := 9) hx hb dX8_readLine_456 (by decide) ?_
                      refine lv_aload_n hx hb dX8_readLine_458 rfl (lv_at hl 0 rfl) ?_
                      refine tw_int S hW 21 (by decide) rfl q1520 rfl dX8_readLine_459 ?_
                      obtain ⟨h_112, V_114, e_113, h⟩ := wrI_some h
                      refine g_iast S hW (k := 15) rfl rfl h_112 e_113 dX8_readLine_462 (fun H locs hW => ?_)
                      refine lv_aload_n hx hb dX8_readLine_463 rfl (lv_at hl 0 rfl) ?_
                      refine tw_ref S hW 15 15 (by decide) rfl q1514 rfl dX8_readLine_464 ?_
                      refine lv_bipush (v := 10) hx hb dX8_readLine_467 (by decide) ?_
                      refine lv_aload_n hx hb dX8_readLine_469 rfl (lv_at hl 0 rfl) ?_
                      refine tw_int S hW 22 (by decide) rfl q1521 rfl dX8_readLine_470 ?_
                      obtain ⟨h_115, V_117, e_116, h⟩ := wrI_some h
                      refine g_iast S hW (k := 15) rfl rfl h_115 e_116 dX8_readLine_473 (fun H locs hW => ?_)
                      refine lv_aload_n hx hb dX8_readLine_474 rfl (lv_at hl 0 rfl) ?_
                      refine tw_ref S hW 15 15 (by decide) rfl q1514 rfl dX8_readLine_475 ?_
                      refine lv_bipush (v := 11) hx hb dX8_readLine_478 (by decide) ?_
                      refine lv_aload_n hx hb dX8_readLine_480 rfl (lv_at hl 0 rfl) ?_
                      refine tw_int S hW 23 (by decide) rfl q1522 rfl dX8_readLine_481 ?_
                      obtain ⟨h_118, V_120, e_119, h⟩ := wrI_some h
                      refine g_iast S hW (k := 15) rfl rfl h_118 e_119 dX8_readLine_484 (fun H locs hW => ?_)
                      refine lv_goto (tgt := 547) hx hb dX8_readLine_485 (by decide) ?_
                      exact J547 V_120 _ _ _ h hW hl
                  · have h := if_f h c_55
                    refine lv_aload_n hx hb dX8_readLine_394 rfl (lv_at hl 0 rfl) ?_
                    refine lv_iconst (v := 1) hx hb dX8_readLine_395 (by decide) ?_
                    obtain ⟨V_121, e_122, h⟩ := ptI_some h
                    refine tw_puti S hW 19 (by decide) rfl rfl rfl rfl rfl q1518 e_122 dX8_readLine_396 (fun H locs hW => ?_)
                    refine lv_aload_n hx hb dX8_readLine_399 rfl (lv_at hl 0 rfl) ?_
                    refine tw_ref S hW 15 15 (by decide) rfl q1514 rfl dX8_readLine_400 ?_
                    refine lv_bipush (v := 6) hx hb dX8_readLine_403 (by decide) ?_
                    refine lv_aload_n hx hb dX8_readLine_405 rfl (lv_at hl 0 rfl) ?_
                    refine lv_iconst (v := 0) hx hb dX8_readLine_406 (by decide) ?_
                    refine lv_ldc (v := 99999) hx hb S.2.2.2.1 (S.2.2.2.2 _ q1488) dX8_readLine_407 ?_
                    obtain ⟨x_125, V_126, h_123, h⟩ := bnd2_some h
                    refine g_callVi (As := [.int 0, .int 99999]) (rest := [.int 6, .ref (al 15)]) S hW (metX8_number h_123) (cwX8_number S.2.2.2.2 q1694 ⟨Nat.le_of_ble_eq_true rfl, Nat.le_of_ble_eq_true rfl⟩) (k := 0) rfl rfl rfl hl.1 rfl (Nat.le_of_ble_eq_true rfl) dX8_readLine_409 ⟨Nat.le_refl _, Nat.le_refl _⟩ (fun H locs hW => ?_)
                    obtain ⟨h_127, V_129, e_128, h⟩ := wrI_some h
                    refine g_iast S hW (k := 15) rfl rfl h_127 e_128 dX8_readLine_412 (fun H locs hW => ?_)
                    refine lv_goto (tgt := 547) hx hb dX8_readLine_413 (by decide) ?_
                    exact J547 V_129 _ _ _ h hW hl
                · have h := if_f h c_50
                  refine lv_aload_n hx hb dX8_readLine_362 rfl (lv_at hl 0 rfl) ?_
                  refine lv_iconst (v := 1) hx hb dX8_readLine_363 (by decide) ?_
                  obtain ⟨V_130, e_131, h⟩ := ptI_some h
                  refine tw_puti S hW 18 (by decide) rfl rfl rfl rfl rfl q1517 e_131 dX8_readLine_364 (fun H locs hW => ?_)
                  refine lv_aload_n hx hb dX8_readLine_367 rfl (lv_at hl 0 rfl) ?_
                  refine tw_ref S hW 15 15 (by decide) rfl q1514 rfl dX8_readLine_368 ?_
                  refine lv_iconst (v := 5) hx hb dX8_readLine_371 (by decide) ?_
                  refine lv_aload_n hx hb dX8_readLine_372 rfl (lv_at hl 0 rfl) ?_
                  refine lv_iconst (v := 1) hx hb dX8_readLine_373 (by decide) ?_
                  refine lv_sipush (v := 300) hx hb dX8_readLine_374 (by decide) ?_
                  obtain ⟨x_134, V_135, h_132, h⟩ := bnd2_some h
                  refine g_callVi (As := [.int 1, .int 300]) (rest := [.int 5, .ref (al 15)]) S hW (metX8_number h_132) (cwX8_number S.2.2.2.2 q1694 ⟨Nat.le_of_ble_eq_true rfl, Nat.le_of_ble_eq_true rfl⟩) (k := 0) rfl rfl rfl hl.1 rfl (Nat.le_of_ble_eq_true rfl) dX8_readLine_377 ⟨Nat.le_refl _, Nat.le_refl _⟩ (fun H locs hW => ?_)
                  obtain ⟨h_136, V_138, e_137, h⟩ := wrI_some h
                  refine g_iast S hW (k := 15) rfl rfl h_136 e_137 dX8_readLine_380 (fun H locs hW => ?_)
                  refine lv_goto (tgt := 547) hx hb dX8_readLine_381 (by decide) ?_
                  exact J547 V_138 _ _ _ h hW hl
              · have h := if_f h c_45
                refine lv_aload_n hx hb dX8_readLine_345 rfl (lv_at hl 0 rfl) ?_
                obtain ⟨V_141, h_139, h⟩ := bnd_some h
                refine g_callVv (As := []) (rest := []) S hW (metX8_readRule h_139) (cwX8_readRule S.2.2.2.2 q1738 ⟨Nat.le_of_ble_eq_true rfl, Nat.le_of_ble_eq_true rfl⟩) (k := 0) rfl rfl rfl hl.1 rfl (Nat.le_of_ble_eq_true rfl) dX8_readLine_346 ⟨Nat.le_refl _, Nat.le_refl _⟩ (fun H locs hW => ?_)
                refine lv_goto (tgt := 547) hx hb dX8_readLine_349 (by decide) ?_
                exact J547 V_141 _ _ _ h hW hl
            · have h := if_f h c_40
              refine lv_aload_n hx hb dX8_readLine_328 rfl (lv_at hl 0 rfl) ?_
              obtain ⟨V_144, h_142, h⟩ := bnd_some h
              refine g_callVv (As := []) (rest := []) S hW (metX8_readPipe h_142) (cwX8_readPipe S.2.2.2.2 q1733 ⟨Nat.le_of_ble_eq_true rfl, Nat.le_of_ble_eq_true rfl⟩) (k := 0) rfl rfl rfl hl.1 rfl (Nat.le_of_ble_eq_true rfl) dX8_readLine_329 ⟨Nat.le_refl _, Nat.le_refl _⟩ (fun H locs hW => ?_)
              refine lv_goto (tgt := 547) hx hb dX8_readLine_332 (by decide) ?_
              exact J547 V_144 _ _ _ h hW hl
          · have h := if_f h c_35
            refine lv_aload_n hx hb dX8_readLine_311 rfl (lv_at hl 0 rfl) ?_
            obtain ⟨V_147, h_145, h⟩ := bnd_some h
            refine g_callVv (As := []) (rest := []) S hW (metX8_readStream h_145) (cwX8_readStream S.2.2.2.2 q1727 ⟨Nat.le_of_ble_eq_true rfl, Nat.le_of_ble_eq_true rfl⟩) (k := 0) rfl rfl rfl hl.1 rfl (Nat.le_of_ble_eq_true rfl) dX8_readLine_312 ⟨Nat.le_refl _, Nat.le_refl _⟩ (fun H locs hW => ?_)
            refine lv_goto (tgt := 547) hx hb dX8_readLine_315 (by decide) ?_
            exact J547 V_147 _ _ _ h hW hl
        · have h := if_f h c_30
          refine lv_aload_n hx hb dX8_readLine_294 rfl (lv_at hl 0 rfl) ?_
          obtain ⟨V_150, h_148, h⟩ := bnd_some h
          refine g_callVv (As := []) (rest := []) S hW (metX8_readLay h_148) (cwX8_readLay S.2.2.2.2 q1718 ⟨Nat.le_of_ble_eq_true rfl, Nat.le_of_ble_eq_true rfl⟩) (k := 0) rfl rfl rfl hl.1 rfl (Nat.le_of_ble_eq_true rfl) dX8_readLine_295 ⟨Nat.le_refl _, Nat.le_refl _⟩ (fun H locs hW => ?_)
          refine lv_goto (tgt := 547) hx hb dX8_readLine_298 (by decide) ?_
          exact J547 V_150 _ _ _ h hW hl
      · have h := if_f h c_25
        refine lv_aload_n hx hb dX8_readLine_277 rfl (lv_at hl 0 rfl) ?_
        obtain ⟨V_153, h_151, h⟩ := bnd_some h
        refine g_callVv (As := []) (rest := []) S hW (metX8_readGround h_151) (cwX8_readGround S.2.2.2.2 q1689 ⟨Nat.le_of_ble_eq_true rfl, Nat.le_of_ble_eq_true rfl⟩) (k := 0) rfl rfl rfl hl.1 rfl (Nat.le_of_ble_eq_true rfl) dX8_readLine_278 ⟨Nat.le_refl _, Nat.le_refl _⟩ (fun H locs hW => ?_)
        refine lv_goto (tgt := 547) hx hb dX8_readLine_281 (by decide) ?_
        exact J547 V_153 _ _ _ h hW hl
    · have h := if_t h c_14
      cases h
      exact g_vret S hr hlk hW dX8_readLine_257
  have J228 : ∀ (x1 : Int32) (z0 : Int32) (V : g_V) (H : Heap) (locs : List Loc) (ls : Array Slot), tw_readLine_J228 x1 z0 V = some V' → twW gp nx D K al s V L0 H locs → lv_has ls 4 [(0, .ref (al 0)), (1, .int x1)] → W p l e rmX8_readLine s m ([.ref (al 0)] : List Value).toArray below meth c H locs 0 0 (MQ below (twQv nx D K al V' L0) ([.ref (al 0)] : List Value).toArray s 0 0 (g_A al twSh)) (F0 m 228 ls [.int z0]) := by
    intro x1 z0 V H locs ls h hW hl
    unfold tw_readLine_J228 at h
    refine lv_istore_n (lv' := [(2, .int z0), (0, .ref (al 0)), (1, .int x1)]) hx hb dX8_readLine_228 rfl hl (by decide) rfl (fun ls hl => ?_)
    refine lv_iload_n hx hb dX8_readLine_229 rfl (lv_at hl 2 rfl) ?_
    refine lv_if_ne (tgt := 241) hx hb dX8_readLine_230 (by decide) (fun c_9 => ?_) (fun c_9 => ?_)
    · have h := if_f h c_9
      refine lv_iload_n hx hb dX8_readLine_241 rfl (lv_at hl 0 rfl) ?_
      refine lv_if_eq (tgt := 250) hx hb dX8_readLine_242 (by decide) (fun c_10 => ?_) (fun c_10 => ?_)
      · have h := if_t h c_10
        exact J250 V _ _ _ h hW (lv_sub hl [1] rfl)
      · have h := if_f h c_10
        refine lv_aload_n hx hb dX8_readLine_245 rfl (lv_at hl 1 rfl) ?_
        refine lv_iconst (v := 3) hx hb dX8_readLine_246 (by decide) ?_
        obtain ⟨V_156, h_154, h⟩ := bnd_some h
        refine g_callVv (As := [.int 3]) (rest := []) S hW (metX8_wrong h_154) (cwX8_wrong S.2.2.2.2 q1681 ⟨Nat.le_of_ble_eq_true rfl, Nat.le_of_ble_eq_true rfl⟩) (k := 0) rfl rfl rfl hl.1 rfl (Nat.le_of_ble_eq_true rfl) dX8_readLine_247 ⟨Nat.le_refl _, Nat.le_refl _⟩ (fun H locs hW => ?_)
        exact J250 V_156 _ _ _ h hW (lv_sub hl [1] rfl)
    · have h := if_t h c_9
      refine lv_aload_n hx hb dX8_readLine_233 rfl (lv_at hl 1 rfl) ?_
      refine lv_iconst (v := 1) hx hb dX8_readLine_234 (by decide) ?_
      obtain ⟨V_159, h_157, h⟩ := bnd_some h
      refine g_callVv (As := [.int 1]) (rest := []) S hW (metX8_wrong h_157) (cwX8_wrong S.2.2.2.2 q1681 ⟨Nat.le_of_ble_eq_true rfl, Nat.le_of_ble_eq_true rfl⟩) (k := 0) rfl rfl rfl hl.1 rfl (Nat.le_of_ble_eq_true rfl) dX8_readLine_235 ⟨Nat.le_refl _, Nat.le_refl _⟩ (fun H locs hW => ?_)
      refine lv_goto (tgt := 250) hx hb dX8_readLine_238 (by decide) ?_
      exact J250 V_159 _ _ _ h hW (lv_sub hl [1] rfl)
  have J223 : ∀ (x1 : Int32) (V : g_V) (H : Heap) (locs : List Loc) (ls : Array Slot), tw_readLine_J223 x1 V = some V' → twW gp nx D K al s V L0 H locs → lv_has ls 4 [(0, .ref (al 0)), (1, .int x1)] → W p l e rmX8_readLine s m ([.ref (al 0)] : List Value).toArray below meth c H locs 0 0 (MQ below (twQv nx D K al V' L0) ([.ref (al 0)] : List Value).toArray s 0 0 (g_A al twSh)) (F0 m 223 ls []) := by
    intro x1 V H locs ls h hW hl
    unfold tw_readLine_J223 at h
    refine lv_iconst (v := 1) hx hb dX8_readLine_223 (by decide) ?_
    refine lv_goto (tgt := 228) hx hb dX8_readLine_224 (by decide) ?_
    exact J228 x1 1 V _ _ _ h hW hl
  have J227 : ∀ (x1 : Int32) (V : g_V) (H : Heap) (locs : List Loc) (ls : Array Slot), tw_readLine_J227 x1 V = some V' → twW gp nx D K al s V L0 H locs → lv_has ls 4 [(0, .ref (al 0)), (1, .int x1)] → W p l e rmX8_readLine s m ([.ref (al 0)] : List Value).toArray below meth c H locs 0 0 (MQ below (twQv nx D K al V' L0) ([.ref (al 0)] : List Value).toArray s 0 0 (g_A al twSh)) (F0 m 227 ls []) := by
    intro x1 V H locs ls h hW hl
    unfold tw_readLine_J227 at h
    refine lv_iconst (v := 0) hx hb dX8_readLine_227 (by decide) ?_
    exact J228 x1 0 V _ _ _ h hW hl
  have J206 : ∀ (x1 : Int32) (V : g_V) (H : Heap) (locs : List Loc) (ls : Array Slot), tw_readLine_J206 x1 V = some V' → twW gp nx D K al s V L0 H locs → lv_has ls 4 [(0, .ref (al 0)), (1, .int x1)] → W p l e rmX8_readLine s m ([.ref (al 0)] : List Value).toArray below meth c H locs 0 0 (MQ below (twQv nx D K al V' L0) ([.ref (al 0)] : List Value).toArray s 0 0 (g_A al twSh)) (F0 m 206 ls []) := by
    intro x1 V H locs ls h hW hl
    unfold tw_readLine_J206 at h
    refine lv_aload_n hx hb dX8_readLine_206 rfl (lv_at hl 0 rfl) ?_
    refine g_ldcwS (w := 10) (tx := "cold") S hW (List.mem_of_getElem? (i := 44) rfl) dX8_readLine_207 ?_
    obtain ⟨x_182, h_180, h⟩ := bnd_some h
    refine g_callVi (As := [.ref (gp 10)]) (rest := []) S hW (metX8_is (by decide) h_180) (cwX8_is S.2.2.2.2 q1667 ⟨Nat.le_of_ble_eq_true rfl, Nat.le_of_ble_eq_true rfl⟩) (k := 0) rfl rfl rfl hl.1 rfl (Nat.le_of_ble_eq_true rfl) dX8_readLine_210 ⟨Nat.le_refl _, Nat.le_refl _⟩ (fun H locs hW => ?_)
    refine lv_if_eq (tgt := 227) hx hb dX8_readLine_213 (by decide) (fun c_183 => ?_) (fun c_183 => ?_)
    · have h := if_t h c_183
      exact J227 x1 V _ _ _ h hW hl
    · have h := if_f h c_183
      refine lv_aload_n hx hb dX8_readLine_216 rfl (lv_at hl 0 rfl) ?_
      refine tw_int S hW 19 (by decide) rfl q1518 rfl dX8_readLine_217 ?_
      refine lv_if_eq (tgt := 227) hx hb dX8_readLine_220 (by decide) (fun c_184 => ?_) (fun c_184 => ?_)
      · have h := if_t h c_184
        exact J227 x1 V _ _ _ h hW hl
      · have h := if_f h c_184
        exact J223 x1 V _ _ _ h hW hl
  have J185 : ∀ (x1 : Int32) (V : g_V) (H : Heap) (locs : List Loc) (ls : Array Slot), tw_readLine_J185 x1 V = some V' → twW gp nx D K al s V L0 H locs → lv_has ls 4 [(0, .ref (al 0)), (1, .int x1)] → W p l e rmX8_readLine s m ([.ref (al 0)] : List Value).toArray below meth c H locs 0 0 (MQ below (twQv nx D K al V' L0) ([.ref (al 0)] : List Value).toArray s 0 0 (g_A al twSh)) (F0 m 185 ls []) := by
    intro x1 V H locs ls h hW hl
    unfold tw_readLine_J185 at h
    refine lv_aload_n hx hb dX8_readLine_185 rfl (lv_at hl 0 rfl) ?_
    refine g_ldcwS (w := 8) (tx := "shaft") S hW (List.mem_of_getElem? (i := 42) rfl) dX8_readLine_186 ?_
    obtain ⟨x_178, h_176, h⟩ := bnd_some h
    refine g_callVi (As := [.ref (gp 8)]) (rest := []) S hW (metX8_is (by decide) h_176) (cwX8_is S.2.2.2.2 q1667 ⟨Nat.le_of_ble_eq_true rfl, Nat.le_of_ble_eq_true rfl⟩) (k := 0) rfl rfl rfl hl.1 rfl (Nat.le_of_ble_eq_true rfl) dX8_readLine_189 ⟨Nat.le_refl _, Nat.le_refl _⟩ (fun H locs hW => ?_)
    refine lv_if_eq (tgt := 206) hx hb dX8_readLine_192 (by decide) (fun c_179 => ?_) (fun c_179 => ?_)
    · have h := if_t h c_179
      exact J206 x1 V _ _ _ h hW hl
    · have h := if_f h c_179
      refine lv_aload_n hx hb dX8_readLine_195 rfl (lv_at hl 0 rfl) ?_
      refine tw_ref S hW 15 15 (by decide) rfl q1514 rfl dX8_readLine_196 ?_
      refine lv_bipush (v := 7) hx hb dX8_readLine_199 (by decide) ?_
      obtain ⟨h_186, x_185, e_187, h⟩ := rdI_some h
      refine g_iald S hW (k := 15) rfl rfl h_186 e_187 dX8_readLine_201 ?_
      refine lv_iconst (v := 1) hx hb dX8_readLine_202 (by decide) ?_
      refine lv_icmp_eq (tgt := 223) hx hb dX8_readLine_203 (by decide) (fun c_188 => ?_) (fun c_188 => ?_)
      · have h := if_t h c_188
        exact J223 x1 V _ _ _ h hW hl
      · have h := if_f h c_188
        exact J206 x1 V _ _ _ h hW hl
  have J168 : ∀ (x1 : Int32) (V : g_V) (H : Heap) (locs : List Loc) (ls : Array Slot), tw_readLine_J168 x1 V = some V' → twW gp nx D K al s V L0 H locs → lv_has ls 4 [(0, .ref (al 0)), (1, .int x1)] → W p l e rmX8_readLine s m ([.ref (al 0)] : List Value).toArray below meth c H locs 0 0 (MQ below (twQv nx D K al V' L0) ([.ref (al 0)] : List Value).toArray s 0 0 (g_A al twSh)) (F0 m 168 ls []) := by
    intro x1 V H locs ls h hW hl
    unfold tw_readLine_J168 at h
    refine lv_aload_n hx hb dX8_readLine_168 rfl (lv_at hl 0 rfl) ?_
    refine g_ldcwS (w := 7) (tx := "far") S hW (List.mem_of_getElem? (i := 41) rfl) dX8_readLine_169 ?_
    obtain ⟨x_174, h_172, h⟩ := bnd_some h
    refine g_callVi (As := [.ref (gp 7)]) (rest := []) S hW (metX8_is (by decide) h_172) (cwX8_is S.2.2.2.2 q1667 ⟨Nat.le_of_ble_eq_true rfl, Nat.le_of_ble_eq_true rfl⟩) (k := 0) rfl rfl rfl hl.1 rfl (Nat.le_of_ble_eq_true rfl) dX8_readLine_172 ⟨Nat.le_refl _, Nat.le_refl _⟩ (fun H locs hW => ?_)
    refine lv_if_eq (tgt := 185) hx hb dX8_readLine_175 (by decide) (fun c_175 => ?_) (fun c_175 => ?_)
    · have h := if_t h c_175
      exact J185 x1 V _ _ _ h hW hl
    · have h := if_f h c_175
      refine lv_aload_n hx hb dX8_readLine_178 rfl (lv_at hl 0 rfl) ?_
      refine tw_int S hW 18 (by decide) rfl q1517 rfl dX8_readLine_179 ?_
      refine lv_if_ne (tgt := 223) hx hb dX8_readLine_182 (by decide) (fun c_189 => ?_) (fun c_189 => ?_)
      · have h := if_f h c_189
        exact J223 x1 V _ _ _ h hW hl
      · have h := if_t h c_189
        exact J185 x1 V _ _ _ h hW hl
  have J148 : ∀ (x1 : Int32) (V : g_V) (H : Heap) (locs : List Loc) (ls : Array Slot), tw_readLine_J148 x1 V = some V' → twW gp nx D K al s V L0 H locs → lv_has ls 4 [(0, .ref (al 0)), (1, .int x1)] → W p l e rmX8_readLine s m ([.ref (al 0)] : List Value).toArray below meth c H locs 0 0 (MQ below (twQv nx D K al V' L0) ([.ref (al 0)] : List Value).toArray s 0 0 (g_A al twSh)) (F0 m 148 ls []) := by
    intro x1 V H locs ls h hW hl
    unfold tw_readLine_J148 at h
    refine lv_aload_n hx hb dX8_readLine_148 rfl (lv_at hl 0 rfl) ?_
    refine g_ldcwS (w := 12) (tx := "dig") S hW (List.mem_of_getElem? (i := 46) rfl) dX8_readLine_149 ?_
    obtain ⟨x_170, h_168, h⟩ := bnd_some h
    refine g_callVi (As := [.ref (gp 12)]) (rest := []) S hW (metX8_is (by decide) h_168) (cwX8_is S.2.2.2.2 q1667 ⟨Nat.le_of_ble_eq_true rfl, Nat.le_of_ble_eq_true rfl⟩) (k := 0) rfl rfl rfl hl.1 rfl (Nat.le_of_ble_eq_true rfl) dX8_readLine_152 ⟨Nat.le_refl _, Nat.le_refl _⟩ (fun H locs hW => ?_)
    refine lv_if_eq (tgt := 168) hx hb dX8_readLine_155 (by decide) (fun c_171 => ?_) (fun c_171 => ?_)
    · have h := if_t h c_171
      exact J168 x1 V _ _ _ h hW hl
    · have h := if_f h c_171
      refine lv_aload_n hx hb dX8_readLine_158 rfl (lv_at hl 0 rfl) ?_
      refine tw_ref S hW 15 15 (by decide) rfl q1514 rfl dX8_readLine_159 ?_
      refine lv_iconst (v := 4) hx hb dX8_readLine_162 (by decide) ?_
      obtain ⟨h_191, x_190, e_192, h⟩ := rdI_some h
      refine g_iald S hW (k := 15) rfl rfl h_191 e_192 dX8_readLine_163 ?_
      refine lv_iconst (v := 4) hx hb dX8_readLine_164 (by decide) ?_
      refine lv_icmp_eq (tgt := 223) hx hb dX8_readLine_165 (by decide) (fun c_193 => ?_) (fun c_193 => ?_)
      · have h := if_t h c_193
        exact J223 x1 V _ _ _ h hW hl
      · have h := if_f h c_193
        exact J168 x1 V _ _ _ h hW hl
  have J127 : ∀ (x1 : Int32) (V : g_V) (H : Heap) (locs : List Loc) (ls : Array Slot), tw_readLine_J127 x1 V = some V' → twW gp nx D K al s V L0 H locs → lv_has ls 4 [(0, .ref (al 0)), (1, .int x1)] → W p l e rmX8_readLine s m ([.ref (al 0)] : List Value).toArray below meth c H locs 0 0 (MQ below (twQv nx D K al V' L0) ([.ref (al 0)] : List Value).toArray s 0 0 (g_A al twSh)) (F0 m 127 ls []) := by
    intro x1 V H locs ls h hW hl
    unfold tw_readLine_J127 at h
    refine lv_aload_n hx hb dX8_readLine_127 rfl (lv_at hl 0 rfl) ?_
    refine g_ldcwS (w := 11) (tx := "house") S hW (List.mem_of_getElem? (i := 45) rfl) dX8_readLine_128 ?_
    obtain ⟨x_166, h_164, h⟩ := bnd_some h
    refine g_callVi (As := [.ref (gp 11)]) (rest := []) S hW (metX8_is (by decide) h_164) (cwX8_is S.2.2.2.2 q1667 ⟨Nat.le_of_ble_eq_true rfl, Nat.le_of_ble_eq_true rfl⟩) (k := 0) rfl rfl rfl hl.1 rfl (Nat.le_of_ble_eq_true rfl) dX8_readLine_131 ⟨Nat.le_refl _, Nat.le_refl _⟩ (fun H locs hW => ?_)
    refine lv_if_eq (tgt := 148) hx hb dX8_readLine_134 (by decide) (fun c_167 => ?_) (fun c_167 => ?_)
    · have h := if_t h c_167
      exact J148 x1 V _ _ _ h hW hl
    · have h := if_f h c_167
      refine lv_aload_n hx hb dX8_readLine_137 rfl (lv_at hl 0 rfl) ?_
      refine tw_ref S hW 15 15 (by decide) rfl q1514 rfl dX8_readLine_138 ?_
      refine lv_iconst (v := 3) hx hb dX8_readLine_141 (by decide) ?_
      obtain ⟨h_195, x_194, e_196, h⟩ := rdI_some h
      refine g_iald S hW (k := 15) rfl rfl h_195 e_196 dX8_readLine_142 ?_
      refine lv_bipush (v := 6) hx hb dX8_readLine_143 (by decide) ?_
      refine lv_icmp_eq (tgt := 223) hx hb dX8_readLine_145 (by decide) (fun c_197 => ?_) (fun c_197 => ?_)
      · have h := if_t h c_197
        exact J223 x1 V _ _ _ h hW hl
      · have h := if_f h c_197
        exact J148 x1 V _ _ _ h hW hl
  have J94 : ∀ (z0 : Int32) (V : g_V) (H : Heap) (locs : List Loc) (ls : Array Slot), tw_readLine_J94 z0 V = some V' → twW gp nx D K al s V L0 H locs → lv_has ls 4 [(0, .ref (al 0))] → W p l e rmX8_readLine s m ([.ref (al 0)] : List Value).toArray below meth c H locs 0 0 (MQ below (twQv nx D K al V' L0) ([.ref (al 0)] : List Value).toArray s 0 0 (g_A al twSh)) (F0 m 94 ls [.int z0]) := by
    intro z0 V H locs ls h hW hl
    unfold tw_readLine_J94 at h
    refine lv_istore_n (lv' := [(1, .int z0), (0, .ref (al 0))]) hx hb dX8_readLine_94 rfl hl (by decide) rfl (fun ls hl => ?_)
    refine lv_aload_n hx hb dX8_readLine_95 rfl (lv_at hl 1 rfl) ?_
    refine tw_ref S hW 15 15 (by decide) rfl q1514 rfl dX8_readLine_96 ?_
    refine lv_iconst (v := 0) hx hb dX8_readLine_99 (by decide) ?_
    obtain ⟨h_6, x_5, e_7, h⟩ := rdI_some h
    refine g_iald S hW (k := 15) rfl rfl h_6 e_7 dX8_readLine_100 ?_
    refine lv_bipush (v := 40) hx hb dX8_readLine_101 (by decide) ?_
    refine lv_icmp_eq (tgt := 223) hx hb dX8_readLine_103 (by decide) (fun c_8 => ?_) (fun c_8 => ?_)
    · have h := if_t h c_8
      exact J223 z0 V _ _ _ h hW (lv_sub hl [1, 0] rfl)
    · have h := if_f h c_8
      refine lv_aload_n hx hb dX8_readLine_106 rfl (lv_at hl 1 rfl) ?_
      refine g_ldcwS (w := 9) (tx := "pipe") S hW (List.mem_of_getElem? (i := 43) rfl) dX8_readLine_107 ?_
      obtain ⟨x_162, h_160, h⟩ := bnd_some h
      refine g_callVi (As := [.ref (gp 9)]) (rest := []) S hW (metX8_is (by decide) h_160) (cwX8_is S.2.2.2.2 q1667 ⟨Nat.le_of_ble_eq_true rfl, Nat.le_of_ble_eq_true rfl⟩) (k := 0) rfl rfl rfl hl.1 rfl (Nat.le_of_ble_eq_true rfl) dX8_readLine_110 ⟨Nat.le_refl _, Nat.le_refl _⟩ (fun H locs hW => ?_)
      refine lv_if_eq (tgt := 127) hx hb dX8_readLine_113 (by decide) (fun c_163 => ?_) (fun c_163 => ?_)
      · have h := if_t h c_163
        exact J127 z0 V _ _ _ h hW (lv_sub hl [1, 0] rfl)
      · have h := if_f h c_163
        refine lv_aload_n hx hb dX8_readLine_116 rfl (lv_at hl 1 rfl) ?_
        refine tw_ref S hW 15 15 (by decide) rfl q1514 rfl dX8_readLine_117 ?_
        refine lv_iconst (v := 2) hx hb dX8_readLine_120 (by decide) ?_
        obtain ⟨h_199, x_198, e_200, h⟩ := rdI_some h
        refine g_iald S hW (k := 15) rfl rfl h_199 e_200 dX8_readLine_121 ?_
        refine lv_bipush (v := 12) hx hb dX8_readLine_122 (by decide) ?_
        refine lv_icmp_eq (tgt := 223) hx hb dX8_readLine_124 (by decide) (fun c_201 => ?_) (fun c_201 => ?_)
        · have h := if_t h c_201
          exact J223 z0 V _ _ _ h hW (lv_sub hl [1, 0] rfl)
        · have h := if_f h c_201
          exact J127 z0 V _ _ _ h hW (lv_sub hl [1, 0] rfl)
  have J89 : ∀ (V : g_V) (H : Heap) (locs : List Loc) (ls : Array Slot), tw_readLine_J89 V = some V' → twW gp nx D K al s V L0 H locs → lv_has ls 4 [(0, .ref (al 0))] → W p l e rmX8_readLine s m ([.ref (al 0)] : List Value).toArray below meth c H locs 0 0 (MQ below (twQv nx D K al V' L0) ([.ref (al 0)] : List Value).toArray s 0 0 (g_A al twSh)) (F0 m 89 ls []) := by
    intro V H locs ls h hW hl
    unfold tw_readLine_J89 at h
    refine lv_iconst (v := 1) hx hb dX8_readLine_89 (by decide) ?_
    refine lv_goto (tgt := 94) hx hb dX8_readLine_90 (by decide) ?_
    exact J94 1 V _ _ _ h hW hl
  unfold tw_readLine at h
  refine lv_aload_n hx hb dX8_readLine_0 rfl (lv_at hl 0 rfl) ?_
  refine g_ldcS (w := 4) (tx := "ground") S hW (List.mem_of_getElem? (i := 29) rfl) dX8_readLine_1 ?_
  obtain ⟨x_3, h_1, h⟩ := bnd_some h
  refine g_callVi (As := [.ref (gp 4)]) (rest := []) S hW (metX8_is (by decide) h_1) (cwX8_is S.2.2.2.2 q1667 ⟨Nat.le_of_ble_eq_true rfl, Nat.le_of_ble_eq_true rfl⟩) (k := 0) rfl rfl rfl hl.1 rfl (Nat.le_of_ble_eq_true rfl) dX8_readLine_3 ⟨Nat.le_refl _, Nat.le_refl _⟩ (fun H locs hW => ?_)
  refine lv_if_ne (tgt := 89) hx hb dX8_readLine_6 (by decide) (fun c_4 => ?_) (fun c_4 => ?_)
  · have h := if_f h c_4
    exact J89 V0 _ _ _ h hW hl
  · have h := if_t h c_4
    refine lv_aload_n hx hb dX8_readLine_9 rfl (lv_at hl 0 rfl) ?_
    refine g_ldcwS (w := 5) (tx := "lay") S hW (List.mem_of_getElem? (i := 39) rfl) dX8_readLine_10 ?_
    obtain ⟨x_204, h_202, h⟩ := bnd_some h
    refine g_callVi (As := [.ref (gp 5)]) (rest := []) S hW (metX8_is (by decide) h_202) (cwX8_is S.2.2.2.2 q1667 ⟨Nat.le_of_ble_eq_true rfl, Nat.le_of_ble_eq_true rfl⟩) (k := 0) rfl rfl rfl hl.1 rfl (Nat.le_of_ble_eq_true rfl) dX8_readLine_13 ⟨Nat.le_refl _, Nat.le_refl _⟩ (fun H locs hW => ?_)
    refine lv_if_ne (tgt := 89) hx hb dX8_readLine_16 (by decide) (fun c_205 => ?_) (fun c_205 => ?_)
    · have h := if_f h c_205
      exact J89 V0 _ _ _ h hW hl
    · have h := if_t h c_205
      refine lv_aload_n hx hb dX8_readLine_19 rfl (lv_at hl 0 rfl) ?_
      refine g_ldcwS (w := 6) (tx := "stream") S hW (List.mem_of_getElem? (i := 40) rfl) dX8_readLine_20 ?_
      obtain ⟨x_208, h_206, h⟩ := bnd_some h
      refine g_callVi (As := [.ref (gp 6)]) (rest := []) S hW (metX8_is (by decide) h_206) (cwX8_is S.2.2.2.2 q1667 ⟨Nat.le_of_ble_eq_true rfl, Nat.le_of_ble_eq_true rfl⟩) (k := 0) rfl rfl rfl hl.1 rfl (Nat.le_of_ble_eq_true rfl) dX8_readLine_23 ⟨Nat.le_refl _, Nat.le_refl _⟩ (fun H locs hW => ?_)
      refine lv_if_ne (tgt := 89) hx hb dX8_readLine_26 (by decide) (fun c_209 => ?_) (fun c_209 => ?_)
      · have h := if_f h c_209
        exact J89 V0 _ _ _ h hW hl
      · have h := if_t h c_209
        refine lv_aload_n hx hb dX8_readLine_29 rfl (lv_at hl 0 rfl) ?_
        refine g_ldcwS (w := 7) (tx := "far") S hW (List.mem_of_getElem? (i := 41) rfl) dX8_readLine_30 ?_
        obtain ⟨x_212, h_210, h⟩ := bnd_some h
        refine g_callVi (As := [.ref (gp 7)]) (rest := []) S hW (metX8_is (by decide) h_210) (cwX8_is S.2.2.2.2 q1667 ⟨Nat.le_of_ble_eq_true rfl, Nat.le_of_ble_eq_true rfl⟩) (k := 0) rfl rfl rfl hl.1 rfl (Nat.le_of_ble_eq_true rfl) dX8_readLine_33 ⟨Nat.le_refl _, Nat.le_refl _⟩ (fun H locs hW => ?_)
        refine lv_if_ne (tgt := 89) hx hb dX8_readLine_36 (by decide) (fun c_213 => ?_) (fun c_213 => ?_)
        · have h := if_f h c_213
          exact J89 V0 _ _ _ h hW hl
        · have h := if_t h c_213
          refine lv_aload_n hx hb dX8_readLine_39 rfl (lv_at hl 0 rfl) ?_
          refine g_ldcwS (w := 8) (tx := "shaft") S hW (List.mem_of_getElem? (i := 42) rfl) dX8_readLine_40 ?_
          obtain ⟨x_216, h_214, h⟩ := bnd_some h
          refine g_callVi (As := [.ref (gp 8)]) (rest := []) S hW (metX8_is (by decide) h_214) (cwX8_is S.2.2.2.2 q1667 ⟨Nat.le_of_ble_eq_true rfl, Nat.le_of_ble_eq_true rfl⟩) (k := 0) rfl rfl rfl hl.1 rfl (Nat.le_of_ble_eq_true rfl) dX8_readLine_43 ⟨Nat.le_refl _, Nat.le_refl _⟩ (fun H locs hW => ?_)
          refine lv_if_ne (tgt := 89) hx hb dX8_readLine_46 (by decide) (fun c_217 => ?_) (fun c_217 => ?_)
          · have h := if_f h c_217
            exact J89 V0 _ _ _ h hW hl
          · have h := if_t h c_217
            refine lv_aload_n hx hb dX8_readLine_49 rfl (lv_at hl 0 rfl) ?_
            refine g_ldcwS (w := 9) (tx := "pipe") S hW (List.mem_of_getElem? (i := 43) rfl) dX8_readLine_50 ?_
            obtain ⟨x_220, h_218, h⟩ := bnd_some h
            refine g_callVi (As := [.ref (gp 9)]) (rest := []) S hW (metX8_is (by decide) h_218) (cwX8_is S.2.2.2.2 q1667 ⟨Nat.le_of_ble_eq_true rfl, Nat.le_of_ble_eq_true rfl⟩) (k := 0) rfl rfl rfl hl.1 rfl (Nat.le_of_ble_eq_true rfl) dX8_readLine_53 ⟨Nat.le_refl _, Nat.le_refl _⟩ (fun H locs hW => ?_)
            refine lv_if_ne (tgt := 89) hx hb dX8_readLine_56 (by decide) (fun c_221 => ?_) (fun c_221 => ?_)
            · have h := if_f h c_221
              exact J89 V0 _ _ _ h hW hl
            · have h := if_t h c_221
              refine lv_aload_n hx hb dX8_readLine_59 rfl (lv_at hl 0 rfl) ?_
              refine g_ldcwS (w := 10) (tx := "cold") S hW (List.mem_of_getElem? (i := 44) rfl) dX8_readLine_60 ?_
              obtain ⟨x_224, h_222, h⟩ := bnd_some h
              refine g_callVi (As := [.ref (gp 10)]) (rest := []) S hW (metX8_is (by decide) h_222) (cwX8_is S.2.2.2.2 q1667 ⟨Nat.le_of_ble_eq_true rfl, Nat.le_of_ble_eq_true rfl⟩) (k := 0) rfl rfl rfl hl.1 rfl (Nat.le_of_ble_eq_true rfl) dX8_readLine_63 ⟨Nat.le_refl _, Nat.le_refl _⟩ (fun H locs hW => ?_)
              refine lv_if_ne (tgt := 89) hx hb dX8_readLine_66 (by decide) (fun c_225 => ?_) (fun c_225 => ?_)
              · have h := if_f h c_225
                exact J89 V0 _ _ _ h hW hl
              · have h := if_t h c_225
                refine lv_aload_n hx hb dX8_readLine_69 rfl (lv_at hl 0 rfl) ?_
                refine g_ldcwS (w := 11) (tx := "house") S hW (List.mem_of_getElem? (i := 45) rfl) dX8_readLine_70 ?_
                obtain ⟨x_228, h_226, h⟩ := bnd_some h
                refine g_callVi (As := [.ref (gp 11)]) (rest := []) S hW (metX8_is (by decide) h_226) (cwX8_is S.2.2.2.2 q1667 ⟨Nat.le_of_ble_eq_true rfl, Nat.le_of_ble_eq_true rfl⟩) (k := 0) rfl rfl rfl hl.1 rfl (Nat.le_of_ble_eq_true rfl) dX8_readLine_73 ⟨Nat.le_refl _, Nat.le_refl _⟩ (fun H locs hW => ?_)
                refine lv_if_ne (tgt := 89) hx hb dX8_readLine_76 (by decide) (fun c_229 => ?_) (fun c_229 => ?_)
                · have h := if_f h c_229
                  exact J89 V0 _ _ _ h hW hl
                · have h := if_t h c_229
                  refine lv_aload_n hx hb dX8_readLine_79 rfl (lv_at hl 0 rfl) ?_
                  refine g_ldcwS (w := 12) (tx := "dig") S hW (List.mem_of_getElem? (i := 46) rfl) dX8_readLine_80 ?_
                  obtain ⟨x_232, h_230, h⟩ := bnd_some h
                  refine g_callVi (As := [.ref (gp 12)]) (rest := []) S hW (metX8_is (by decide) h_230) (cwX8_is S.2.2.2.2 q1667 ⟨Nat.le_of_ble_eq_true rfl, Nat.le_of_ble_eq_true rfl⟩) (k := 0) rfl rfl rfl hl.1 rfl (Nat.le_of_ble_eq_true rfl) dX8_readLine_83 ⟨Nat.le_refl _, Nat.le_refl _⟩ (fun H locs hW => ?_)
                  refine lv_if_eq (tgt := 93) hx hb dX8_readLine_86 (by decide) (fun c_233 => ?_) (fun c_233 => ?_)
                  · have h := if_t h c_233
                    refine lv_iconst (v := 0) hx hb dX8_readLine_93 (by decide) ?_
                    exact J94 0 V0 _ _ _ h hW hl
                  · have h := if_f h c_233
                    exact J89 V0 _ _ _ h hW hl
theorem cwX8_readLine {R : Room} {s : State} {args : Array Value} {index : Nat} (hts : ∀ w ∈ lw_all, w.before args s = true) (hl : Cond.methodLink RX8 index yX8_readLine ∈ lw_all) (hR : rmX8_readLine.frames + 1 ≤ R.frames ∧ 8 + (4 + 11) + rmX8_readLine.locals ≤ R.locals) : CallW R s args RX8 RX8 index yX8_readLine cX8_readLine 4 (none) (ws_ yX8_readLine cX8_readLine 4 (none)) rmX8_readLine 0 0 0 := cwV 0 hts (lw_V hl q1664 qs57 q122 q1665) rfl rfl rfl (by decide +kernel) hR
