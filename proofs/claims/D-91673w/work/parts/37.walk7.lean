/-! walks of the reference: X8_ticks X8_gaps X8_condHolds X8_foretell X8_off X8_shutsBy X8_text -/
set_option maxRecDepth 100000
def tw_ticks_B2 (rec : Int32 → g_V → Option (g_V)) (x1 : Int32) (V : g_V) : Option (g_V) :=
  if 144 ≤ x1 then (some V) else (wrI V 24 144 x1 0 fun V_4 => nmI (x1 + 1) fun x_5 => rec x_5 V_4)
abbrev tw_ticks_F2 : ((Int32 × g_V) → Option (g_V)) → (Int32 × g_V) → Option (g_V) := fun rec s => tw_ticks_B2 (fun x1 V => rec (x1, V)) s.1 s.2
def tw_ticks_L2 (n : Nat) (x1 : Int32) (V : g_V) : Option (g_V) := lp (tw_ticks_F2) n (x1, V)
theorem tw_ticks_L2_s (n : Nat) (x1 : Int32) (V : g_V) : tw_ticks_L2 (n + 1) x1 V = tw_ticks_B2 (fun x1 V => tw_ticks_L2 n x1 V) x1 V := lp_s (tw_ticks_F2) n (x1, V)
def tw_ticks_B24 (rec : Int32 → g_V → Option (g_V)) (x1 : Int32) (V : g_V) : Option (g_V) :=
  if 144 ≤ x1 then (some V) else (bnd (tw_isDug V x1) (fun x_13 => if x_13 = 0 then (bnd (tw_comesBeside V x1) (fun V_17 => bnd (tw_streams V_17 x1) (fun V_20 => nmI (x1 + 1) fun x_21 => rec x_21 V_20))) else (nmI (x1 + 1) fun x_23 => rec x_23 V)))
abbrev tw_ticks_F24 : ((Int32 × g_V) → Option (g_V)) → (Int32 × g_V) → Option (g_V) := fun rec s => tw_ticks_B24 (fun x1 V => rec (x1, V)) s.1 s.2
def tw_ticks_L24 (n : Nat) (x1 : Int32) (V : g_V) : Option (g_V) := lp (tw_ticks_F24) n (x1, V)
theorem tw_ticks_L24_s (n : Nat) (x1 : Int32) (V : g_V) : tw_ticks_L24 (n + 1) x1 V = tw_ticks_B24 (fun x1 V => tw_ticks_L24 n x1 V) x1 V := lp_s (tw_ticks_F24) n (x1, V)
def tw_ticks_B64 (rec : Int32 → g_V → Option (g_V)) (x1 : Int32) (V : g_V) : Option (g_V) :=
  if 144 ≤ x1 then (some V) else (bnd (tw_isDug V x1) (fun x_34 => if x_34 = 0 then (bnd (tw_does V x1) (fun V_40 => nmI (x1 + 1) fun x_41 => rec x_41 V_40)) else (nmI (x1 + 1) fun x_36 => rec x_36 V)))
abbrev tw_ticks_F64 : ((Int32 × g_V) → Option (g_V)) → (Int32 × g_V) → Option (g_V) := fun rec s => tw_ticks_B64 (fun x1 V => rec (x1, V)) s.1 s.2
def tw_ticks_L64 (n : Nat) (x1 : Int32) (V : g_V) : Option (g_V) := lp (tw_ticks_F64) n (x1, V)
theorem tw_ticks_L64_s (n : Nat) (x1 : Int32) (V : g_V) : tw_ticks_L64 (n + 1) x1 V = tw_ticks_B64 (fun x1 V => tw_ticks_L64 n x1 V) x1 V := lp_s (tw_ticks_F64) n (x1, V)
def tw_ticks_B102 (rec : Int32 → g_V → Option (g_V)) (x1 : Int32) (V : g_V) : Option (g_V) :=
  rdI (V 1) 810 3 fun x_52 => if x_52 ≤ x1 then (some V) else (nmI (732 + (3 * x1)) fun x_56 => rdI (V 1) 810 (x_56 + 2) fun x_58 => if x_58 = (-1) then (rdI (V 1) 810 x_56 fun x_64 => bnd (tw_liftOf V x_64) (fun x_69 => rdI (V 1) 810 x_56 fun x_70 => bnd (tw_liftOf V (x_70 + 1)) (fun x_75 => nmI (if 0 ≤ (x_69 - x_75) then (x_69 - x_75) else 0 - (x_69 - x_75)) fun x_76 => rdI (V 1) 810 (x_56 + 1) fun x_78 => if x_76 ≤ x_78 then (nmI (x1 + 1) fun x_82 => rec x_82 V) else (rdI (V 1) 810 1 fun x_84 => wrI V 1 810 (x_56 + 2) x_84 fun V_89 => nmI (x1 + 1) fun x_90 => rec x_90 V_89)))) else (nmI (x1 + 1) fun x_62 => rec x_62 V))
abbrev tw_ticks_F102 : ((Int32 × g_V) → Option (g_V)) → (Int32 × g_V) → Option (g_V) := fun rec s => tw_ticks_B102 (fun x1 V => rec (x1, V)) s.1 s.2
def tw_ticks_L102 (n : Nat) (x1 : Int32) (V : g_V) : Option (g_V) := lp (tw_ticks_F102) n (x1, V)
theorem tw_ticks_L102_s (n : Nat) (x1 : Int32) (V : g_V) : tw_ticks_L102 (n + 1) x1 V = tw_ticks_B102 (fun x1 V => tw_ticks_L102 n x1 V) x1 V := lp_s (tw_ticks_F102) n (x1, V)
def tw_ticks (V0 : g_V) : Option (g_V) :=
  bnd (tw_ticks_L2 1000 0 V0) (fun V_9 => bnd (tw_ticks_L24 1000 0 V_9) (fun V_27 => bnd (tw_pipes V_27) (fun V_30 => bnd (tw_ticks_L64 1000 0 V_30) (fun V_45 => rdI (V_45 1) 810 1 fun x_46 => wrI V_45 1 810 1 (x_46 + 1) fun V_51 => bnd (tw_ticks_L102 1000 0 V_51) (fun V_94 => rdI (V_94 1) 810 12 fun x_95 => if x_95 = 0 then (bnd (tw_anyDug V_94) (fun x_101 => if x_101 = 0 then (some V_94) else (bnd (tw_isShut V_94) (un2 fun x_105 V_106 => if x_105 = 0 then (wrI V_106 1 810 12 1 fun V_110 => rdI (V_110 1) 810 13 fun x_111 => wrI V_110 1 810 13 (x_111 + 1) fun V_116 => some V_116) else (some V_106))))) else (some V_94))))))
abbrev rmX8_ticks : Room := rm_ 6 140
set_option maxHeartbeats 4000000 in
theorem metX8_ticks {l : Launch} {gp : Nat → Nat} {nx : Nat} {D : va_G} {K : Nat → ClassId} {al : Nat → Nat} {V0 : g_V} {L0 : g_L} {V' : g_V} (h : tw_ticks V0 = some V') : Met l yX8_ticks (ws_ yX8_ticks cX8_ticks 3 (none)) rmX8_ticks (twPc gp nx [.ref (al 0)] D K al V0 L0) (twQv nx D K al V' L0) 0 0 (g_A al twSh) := by
  refine g_met rfl (Nat.le_of_ble_eq_true rfl) ?_
  intro p e s m below meth c ls S hr hlk hnm hl hW
  have S : CallFix p m c cX8_ticks 3 s ([.ref (al 0)] : List Value).toArray lw_all RX8 := S
  have hx := S.1
  have hb := S.2.1
  have hl : lv_has ls 3 [(0, .ref (al 0))] := hl
  have Lp2 : ∀ (L : g_L) (n : Nat) (x1 : Int32) (V : g_V) (out : (g_V)) (H : Heap) (locs : List Loc) (ls : Array Slot), tw_ticks_L2 n x1 V = some out → twW gp nx D K al s V L H locs → lv_has ls 3 [(0, .ref (al 0)), (1, .int x1)] → (∀ (oV : g_V), out = oV → ∀ (H : Heap) (locs : List Loc) (ls : Array Slot), twW gp nx D K al s oV L H locs → lv_has ls 3 [(0, .ref (al 0))] → W p l e rmX8_ticks s m ([.ref (al 0)] : List Value).toArray below meth c H locs 0 0 (MQ below (twQv nx D K al V' L0) ([.ref (al 0)] : List Value).toArray s 0 0 (g_A al twSh)) (F0 m 22 ls [])) → W p l e rmX8_ticks s m ([.ref (al 0)] : List Value).toArray below meth c H locs 0 0 (MQ below (twQv nx D K al V' L0) ([.ref (al 0)] : List Value).toArray s 0 0 (g_A al twSh)) (F0 m 2 ls []) := by
    intro L n
    induction n with
    | zero =>
      intro x1 V out H locs ls h
      exact (lp_0 h).elim
    | succ n ih =>
      intro x1 V out H locs ls h hW hl k1
      rw [tw_ticks_L2_s] at h
      unfold tw_ticks_B2 at h
      refine lv_iload_n hx hb dX8_ticks_2 rfl (lv_at hl 1 rfl) ?_
      refine lv_sipush (v := 144) hx hb dX8_ticks_3 (by decide) ?_
      refine lv_icmp_ge (tgt := 22) hx hb dX8_ticks_6 (by decide) (fun c_1 => ?_) (fun c_1 => ?_)
      · have h := if_t h c_1
        exact k1 _ (Option.some.inj h).symm _ _ _ hW (lv_sub hl [0] rfl)
      · have h := if_f h c_1
        refine lv_aload_n hx hb dX8_ticks_9 rfl (lv_at hl 0 rfl) ?_
        refine tw_ref S hW 24 24 (by decide) rfl q1523 rfl dX8_ticks_10 ?_
        refine lv_iload_n hx hb dX8_ticks_13 rfl (lv_at hl 1 rfl) ?_
        refine lv_iconst (v := 0) hx hb dX8_ticks_14 (by decide) ?_
        obtain ⟨h_2, V_4, e_3, h⟩ := wrI_some h
        refine g_iast S hW (k := 24) rfl rfl h_2 e_3 dX8_ticks_15 (fun H locs hW => ?_)
        obtain ⟨x_5, e_6, h⟩ := nmI_some h
        refine lv_iinc (v := x_5) (lv' := [(1, .int x_5), (0, .ref (al 0))]) hx hb dX8_ticks_16 hl (k := 1) rfl (by rw [e_6]; rfl) (by decide) rfl (fun ls hl => ?_)
        refine lv_goto (tgt := 2) hx hb dX8_ticks_19 (by decide) ?_
        exact ih x_5 V_4 out _ _ _ h hW (lv_sub hl [1, 0] rfl) k1
  have Lp24 : ∀ (L : g_L) (n : Nat) (x1 : Int32) (V : g_V) (out : (g_V)) (H : Heap) (locs : List Loc) (ls : Array Slot), tw_ticks_L24 n x1 V = some out → twW gp nx D K al s V L H locs → lv_has ls 3 [(0, .ref (al 0)), (1, .int x1)] → (∀ (oV : g_V), out = oV → ∀ (H : Heap) (locs : List Loc) (ls : Array Slot), twW gp nx D K al s oV L H locs → lv_has ls 3 [(0, .ref (al 0))] → W p l e rmX8_ticks s m ([.ref (al 0)] : List Value).toArray below meth c H locs 0 0 (MQ below (twQv nx D K al V' L0) ([.ref (al 0)] : List Value).toArray s 0 0 (g_A al twSh)) (F0 m 58 ls [])) → W p l e rmX8_ticks s m ([.ref (al 0)] : List Value).toArray below meth c H locs 0 0 (MQ below (twQv nx D K al V' L0) ([.ref (al 0)] : List Value).toArray s 0 0 (g_A al twSh)) (F0 m 24 ls []) := by
    intro L n
    induction n with
    | zero =>
      intro x1 V out H locs ls h
      exact (lp_0 h).elim
    | succ n ih =>
      intro x1 V out H locs ls h hW hl k1
      rw [tw_ticks_L24_s] at h
      unfold tw_ticks_B24 at h
      refine lv_iload_n hx hb dX8_ticks_24 rfl (lv_at hl 1 rfl) ?_
      refine lv_sipush (v := 144) hx hb dX8_ticks_25 (by decide) ?_
      refine lv_icmp_ge (tgt := 58) hx hb dX8_ticks_28 (by decide) (fun c_10 => ?_) (fun c_10 => ?_)
      · have h := if_t h c_10
        exact k1 _ (Option.some.inj h).symm _ _ _ hW (lv_sub hl [0] rfl)
      · have h := if_f h c_10
        refine lv_aload_n hx hb dX8_ticks_31 rfl (lv_at hl 0 rfl) ?_
        refine lv_iload_n hx hb dX8_ticks_32 rfl (lv_at hl 1 rfl) ?_
        obtain ⟨x_13, h_11, h⟩ := bnd_some h
        refine g_callVi (As := [.int x1]) (rest := []) S hW (metX8_isDug h_11) (cwX8_isDug S.2.2.2.2 q1771 ⟨Nat.le_of_ble_eq_true rfl, Nat.le_of_ble_eq_true rfl⟩) (k := 0) rfl rfl rfl hl.1 rfl (Nat.le_of_ble_eq_true rfl) dX8_ticks_33 ⟨Nat.le_refl _, Nat.le_refl _⟩ (fun H locs hW => ?_)
        refine lv_if_eq (tgt := 42) hx hb dX8_ticks_36 (by decide) (fun c_14 => ?_) (fun c_14 => ?_)
        · have h := if_t h c_14
          refine lv_aload_n hx hb dX8_ticks_42 rfl (lv_at hl 0 rfl) ?_
          refine lv_iload_n hx hb dX8_ticks_43 rfl (lv_at hl 1 rfl) ?_
          obtain ⟨V_17, h_15, h⟩ := bnd_some h
          refine g_callVv (As := [.int x1]) (rest := []) S hW (metX8_comesBeside h_15) (cwX8_comesBeside S.2.2.2.2 q1775 ⟨Nat.le_of_ble_eq_true rfl, Nat.le_of_ble_eq_true rfl⟩) (k := 0) rfl rfl rfl hl.1 rfl (Nat.le_of_ble_eq_true rfl) dX8_ticks_44 ⟨Nat.le_refl _, Nat.le_refl _⟩ (fun H locs hW => ?_)
          refine lv_aload_n hx hb dX8_ticks_47 rfl (lv_at hl 0 rfl) ?_
          refine lv_iload_n hx hb dX8_ticks_48 rfl (lv_at hl 1 rfl) ?_
          obtain ⟨V_20, h_18, h⟩ := bnd_some h
          refine g_callVv (As := [.int x1]) (rest := []) S hW (metX8_streams h_18) (cwX8_streams S.2.2.2.2 q1797 ⟨Nat.le_of_ble_eq_true rfl, Nat.le_of_ble_eq_true rfl⟩) (k := 0) rfl rfl rfl hl.1 rfl (Nat.le_of_ble_eq_true rfl) dX8_ticks_49 ⟨Nat.le_refl _, Nat.le_refl _⟩ (fun H locs hW => ?_)
          obtain ⟨x_21, e_22, h⟩ := nmI_some h
          refine lv_iinc (v := x_21) (lv' := [(1, .int x_21), (0, .ref (al 0))]) hx hb dX8_ticks_52 hl (k := 1) rfl (by rw [e_22]; rfl) (by decide) rfl (fun ls hl => ?_)
          refine lv_goto (tgt := 24) hx hb dX8_ticks_55 (by decide) ?_
          exact ih x_21 V_20 out _ _ _ h hW (lv_sub hl [1, 0] rfl) k1
        · have h := if_f h c_14
          refine lv_goto (tgt := 52) hx hb dX8_ticks_39 (by decide) ?_
          obtain ⟨x_23, e_24, h⟩ := nmI_some h
          refine lv_iinc (v := x_23) (lv' := [(1, .int x_23), (0, .ref (al 0))]) hx hb dX8_ticks_52 hl (k := 1) rfl (by rw [e_24]; rfl) (by decide) rfl (fun ls hl => ?_)
          refine lv_goto (tgt := 24) hx hb dX8_ticks_55 (by decide) ?_
          exact ih x_23 V out _ _ _ h hW (lv_sub hl [1, 0] rfl) k1
  have Lp64 : ∀ (L : g_L) (n : Nat) (x1 : Int32) (V : g_V) (out : (g_V)) (H : Heap) (locs : List Loc) (ls : Array Slot), tw_ticks_L64 n x1 V = some out → twW gp nx D K al s V L H locs → lv_has ls 3 [(0, .ref (al 0)), (1, .int x1)] → (∀ (oV : g_V), out = oV → ∀ (H : Heap) (locs : List Loc) (ls : Array Slot), twW gp nx D K al s oV L H locs → lv_has ls 3 [(0, .ref (al 0))] → W p l e rmX8_ticks s m ([.ref (al 0)] : List Value).toArray below meth c H locs 0 0 (MQ below (twQv nx D K al V' L0) ([.ref (al 0)] : List Value).toArray s 0 0 (g_A al twSh)) (F0 m 90 ls [])) → W p l e rmX8_ticks s m ([.ref (al 0)] : List Value).toArray below meth c H locs 0 0 (MQ below (twQv nx D K al V' L0) ([.ref (al 0)] : List Value).toArray s 0 0 (g_A al twSh)) (F0 m 64 ls []) := by
    intro L n
    induction n with
    | zero =>
      intro x1 V out H locs ls h
      exact (lp_0 h).elim
    | succ n ih =>
      intro x1 V out H locs ls h hW hl k1
      rw [tw_ticks_L64_s] at h
      unfold tw_ticks_B64 at h
      refine lv_iload_n hx hb dX8_ticks_64 rfl (lv_at hl 1 rfl) ?_
      refine lv_sipush (v := 144) hx hb dX8_ticks_65 (by decide) ?_
      refine lv_icmp_ge (tgt := 90) hx hb dX8_ticks_68 (by decide) (fun c_31 => ?_) (fun c_31 => ?_)
      · have h := if_t h c_31
        exact k1 _ (Option.some.inj h).symm _ _ _ hW (lv_sub hl [0] rfl)
      · have h := if_f h c_31
        refine lv_aload_n hx hb dX8_ticks_71 rfl (lv_at hl 0 rfl) ?_
        refine lv_iload_n hx hb dX8_ticks_72 rfl (lv_at hl 1 rfl) ?_
        obtain ⟨x_34, h_32, h⟩ := bnd_some h
        refine g_callVi (As := [.int x1]) (rest := []) S hW (metX8_isDug h_32) (cwX8_isDug S.2.2.2.2 q1771 ⟨Nat.le_of_ble_eq_true rfl, Nat.le_of_ble_eq_true rfl⟩) (k := 0) rfl rfl rfl hl.1 rfl (Nat.le_of_ble_eq_true rfl) dX8_ticks_73 ⟨Nat.le_refl _, Nat.le_refl _⟩ (fun H locs hW => ?_)
        refine lv_if_ne (tgt := 84) hx hb dX8_ticks_76 (by decide) (fun c_35 => ?_) (fun c_35 => ?_)
        · have h := if_f h c_35
          obtain ⟨x_36, e_37, h⟩ := nmI_some h
          refine lv_iinc (v := x_36) (lv' := [(1, .int x_36), (0, .ref (al 0))]) hx hb dX8_ticks_84 hl (k := 1) rfl (by rw [e_37]; rfl) (by decide) rfl (fun ls hl => ?_)
          refine lv_goto (tgt := 64) hx hb dX8_ticks_87 (by decide) ?_
          exact ih x_36 V out _ _ _ h hW (lv_sub hl [1, 0] rfl) k1
        · have h := if_t h c_35
          refine lv_aload_n hx hb dX8_ticks_79 rfl (lv_at hl 0 rfl) ?_
          refine lv_iload_n hx hb dX8_ticks_80 rfl (lv_at hl 1 rfl) ?_
          obtain ⟨V_40, h_38, h⟩ := bnd_some h
          refine g_callVv (As := [.int x1]) (rest := []) S hW (metX8_does h_38) (cwX8_does S.2.2.2.2 q1805 ⟨Nat.le_of_ble_eq_true rfl, Nat.le_of_ble_eq_true rfl⟩) (k := 0) rfl rfl rfl hl.1 rfl (Nat.le_of_ble_eq_true rfl) dX8_ticks_81 ⟨Nat.le_refl _, Nat.le_refl _⟩ (fun H locs hW => ?_)
          obtain ⟨x_41, e_42, h⟩ := nmI_some h
          refine lv_iinc (v := x_41) (lv' := [(1, .int x_41), (0, .ref (al 0))]) hx hb dX8_ticks_84 hl (k := 1) rfl (by rw [e_42]; rfl) (by decide) rfl (fun ls hl => ?_)
          refine lv_goto (tgt := 64) hx hb dX8_ticks_87 (by decide) ?_
          exact ih x_41 V_40 out _ _ _ h hW (lv_sub hl [1, 0] rfl) k1
  have Lp102 : ∀ (L : g_L) (n : Nat) (x1 : Int32) (V : g_V) (out : (g_V)) (H : Heap) (locs : List Loc) (ls : Array Slot), tw_ticks_L102 n x1 V = some out → twW gp nx D K al s V L H locs → lv_has ls 3 [(0, .ref (al 0)), (1, .int x1)] → (∀ (oV : g_V), out = oV → ∀ (H : Heap) (locs : List Loc) (ls : Array Slot), twW gp nx D K al s oV L H locs → lv_has ls 3 [(0, .ref (al 0))] → W p l e rmX8_ticks s m ([.ref (al 0)] : List Value).toArray below meth c H locs 0 0 (MQ below (twQv nx D K al V' L0) ([.ref (al 0)] : List Value).toArray s 0 0 (g_A al twSh)) (F0 m 189 ls [])) → W p l e rmX8_ticks s m ([.ref (al 0)] : List Value).toArray below meth c H locs 0 0 (MQ below (twQv nx D K al V' L0) ([.ref (al 0)] : List Value).toArray s 0 0 (g_A al twSh)) (F0 m 102 ls []) := by
    intro L n
    induction n with
    | zero =>
      intro x1 V out H locs ls h
      exact (lp_0 h).elim
    | succ n ih =>
      intro x1 V out H locs ls h hW hl k1
      rw [tw_ticks_L102_s] at h
      unfold tw_ticks_B102 at h
      refine lv_iload_n hx hb dX8_ticks_102 rfl (lv_at hl 1 rfl) ?_
      refine lv_aload_n hx hb dX8_ticks_103 rfl (lv_at hl 0 rfl) ?_
      refine tw_ref S hW 1 1 (by decide) rfl q1500 rfl dX8_ticks_104 ?_
      refine lv_iconst (v := 3) hx hb dX8_ticks_107 (by decide) ?_
      obtain ⟨h_53, x_52, e_54, h⟩ := rdI_some h
      refine g_iald S hW (k := 1) rfl rfl h_53 e_54 dX8_ticks_108 ?_
      refine lv_icmp_ge (tgt := 189) hx hb dX8_ticks_109 (by decide) (fun c_55 => ?_) (fun c_55 => ?_)
      · have h := if_t h c_55
        exact k1 _ (Option.some.inj h).symm _ _ _ hW (lv_sub hl [0] rfl)
      · have h := if_f h c_55
        refine lv_sipush (v := 732) hx hb dX8_ticks_112 (by decide) ?_
        refine lv_iconst (v := 3) hx hb dX8_ticks_115 (by decide) ?_
        refine lv_iload_n hx hb dX8_ticks_116 rfl (lv_at hl 1 rfl) ?_
        refine lv_imul hx hb dX8_ticks_117 ?_
        refine lv_iadd hx hb dX8_ticks_118 ?_
        obtain ⟨x_56, e_57, h⟩ := nmI_some h
        refine g_nmi e_57 ?_
        refine lv_istore_n (lv' := [(2, .int x_56), (0, .ref (al 0)), (1, .int x1)]) hx hb dX8_ticks_119 rfl hl (by decide) rfl (fun ls hl => ?_)
        refine lv_aload_n hx hb dX8_ticks_120 rfl (lv_at hl 1 rfl) ?_
        refine tw_ref S hW 1 1 (by decide) rfl q1500 rfl dX8_ticks_121 ?_
        refine lv_iload_n hx hb dX8_ticks_124 rfl (lv_at hl 0 rfl) ?_
        refine lv_iconst (v := 2) hx hb dX8_ticks_125 (by decide) ?_
        refine lv_iadd hx hb dX8_ticks_126 ?_
        obtain ⟨h_59, x_58, e_60, h⟩ := rdI_some h
        refine g_iald S hW (k := 1) rfl rfl h_59 e_60 dX8_ticks_127 ?_
        refine lv_iconst (v := (-1)) hx hb dX8_ticks_128 (by decide) ?_
        refine lv_icmp_ne (tgt := 183) hx hb dX8_ticks_129 (by decide) (fun c_61 => ?_) (fun c_61 => ?_)
        · have h := if_f h c_61
          obtain ⟨x_62, e_63, h⟩ := nmI_some h
          refine lv_iinc (v := x_62) (lv' := [(1, .int x_62), (2, .int x_56), (0, .ref (al 0))]) hx hb dX8_ticks_183 hl (k := 2) rfl (by rw [e_63]; rfl) (by decide) rfl (fun ls hl => ?_)
          refine lv_goto (tgt := 102) hx hb dX8_ticks_186 (by decide) ?_
          exact ih x_62 V out _ _ _ h hW (lv_sub hl [2, 0] rfl) k1
        · have h := if_t h c_61
          refine lv_aload_n hx hb dX8_ticks_132 rfl (lv_at hl 1 rfl) ?_
          refine lv_aload_n hx hb dX8_ticks_133 rfl (lv_at hl 1 rfl) ?_
          refine tw_ref S hW 1 1 (by decide) rfl q1500 rfl dX8_ticks_134 ?_
          refine lv_iload_n hx hb dX8_ticks_137 rfl (lv_at hl 0 rfl) ?_
          obtain ⟨h_65, x_64, e_66, h⟩ := rdI_some h
          refine g_iald S hW (k := 1) rfl rfl h_65 e_66 dX8_ticks_138 ?_
          obtain ⟨x_69, h_67, h⟩ := bnd_some h
          refine g_callVi (As := [.int x_64]) (rest := []) S hW (metX8_liftOf h_67) (cwX8_liftOf S.2.2.2.2 q1810 ⟨Nat.le_of_ble_eq_true rfl, Nat.le_of_ble_eq_true rfl⟩) (k := 0) rfl rfl rfl hl.1 rfl (Nat.le_of_ble_eq_true rfl) dX8_ticks_139 ⟨Nat.le_refl _, Nat.le_refl _⟩ (fun H locs hW => ?_)
          refine lv_aload_n hx hb dX8_ticks_142 rfl (lv_at hl 1 rfl) ?_
          refine lv_aload_n hx hb dX8_ticks_143 rfl (lv_at hl 1 rfl) ?_
          refine tw_ref S hW 1 1 (by decide) rfl q1500 rfl dX8_ticks_144 ?_
          refine lv_iload_n hx hb dX8_ticks_147 rfl (lv_at hl 0 rfl) ?_
          obtain ⟨h_71, x_70, e_72, h⟩ := rdI_some h
          refine g_iald S hW (k := 1) rfl rfl h_71 e_72 dX8_ticks_148 ?_
          refine lv_iconst (v := 1) hx hb dX8_ticks_149 (by decide) ?_
          refine lv_iadd hx hb dX8_ticks_150 ?_
          obtain ⟨x_75, h_73, h⟩ := bnd_some h
          refine g_callVi (As := [.int (x_70 + 1)]) (rest := [.int x_69]) S hW (metX8_liftOf h_73) (cwX8_liftOf S.2.2.2.2 q1810 ⟨Nat.le_of_ble_eq_true rfl, Nat.le_of_ble_eq_true rfl⟩) (k := 0) rfl rfl rfl hl.1 rfl (Nat.le_of_ble_eq_true rfl) dX8_ticks_151 ⟨Nat.le_refl _, Nat.le_refl _⟩ (fun H locs hW => ?_)
          refine lv_isub hx hb dX8_ticks_154 ?_
          refine va_mabs hx hb (S.2.2.1.trans hl.1.symm) S.2.2.2.1 (S.2.2.2.2 _ q1814) (S.2.2.2.2 _ q1150) (S.2.2.2.2 _ q117) (S.2.2.2.2 _ mc_abs) (Nat.le_of_ble_eq_true rfl) (Nat.le_of_ble_eq_true rfl) (Nat.le_refl _) (Nat.le_refl _) dX8_ticks_155 ?_
          obtain ⟨x_76, e_77, h⟩ := nmI_some h
          refine g_nmi e_77 ?_
          refine lv_aload_n hx hb dX8_ticks_158 rfl (lv_at hl 1 rfl) ?_
          refine tw_ref S hW 1 1 (by decide) rfl q1500 rfl dX8_ticks_159 ?_
          refine lv_iload_n hx hb dX8_ticks_162 rfl (lv_at hl 0 rfl) ?_
          refine lv_iconst (v := 1) hx hb dX8_ticks_163 (by decide) ?_
          refine lv_iadd hx hb dX8_ticks_164 ?_
          obtain ⟨h_79, x_78, e_80, h⟩ := rdI_some h
          refine g_iald S hW (k := 1) rfl rfl h_79 e_80 dX8_ticks_165 ?_
          refine lv_icmp_le (tgt := 183) hx hb dX8_ticks_166 (by decide) (fun c_81 => ?_) (fun c_81 => ?_)
          · have h := if_t h c_81
            obtain ⟨x_82, e_83, h⟩ := nmI_some h
            refine lv_iinc (v := x_82) (lv' := [(1, .int x_82), (2, .int x_56), (0, .ref (al 0))]) hx hb dX8_ticks_183 hl (k := 2) rfl (by rw [e_83]; rfl) (by decide) rfl (fun ls hl => ?_)
            refine lv_goto (tgt := 102) hx hb dX8_ticks_186 (by decide) ?_
            exact ih x_82 V out _ _ _ h hW (lv_sub hl [2, 0] rfl) k1
          · have h := if_f h c_81
            refine lv_aload_n hx hb dX8_ticks_169 rfl (lv_at hl 1 rfl) ?_
            refine tw_ref S hW 1 1 (by decide) rfl q1500 rfl dX8_ticks_170 ?_
            refine lv_iload_n hx hb dX8_ticks_173 rfl (lv_at hl 0 rfl) ?_
            refine lv_iconst (v := 2) hx hb dX8_ticks_174 (by decide) ?_
            refine lv_iadd hx hb dX8_ticks_175 ?_
            refine lv_aload_n hx hb dX8_ticks_176 rfl (lv_at hl 1 rfl) ?_
            refine tw_ref S hW 1 1 (by decide) rfl q1500 rfl dX8_ticks_177 ?_
            refine lv_iconst (v := 1) hx hb dX8_ticks_180 (by decide) ?_
            obtain ⟨h_85, x_84, e_86, h⟩ := rdI_some h
            refine g_iald S hW (k := 1) rfl rfl h_85 e_86 dX8_ticks_181 ?_
            obtain ⟨h_87, V_89, e_88, h⟩ := wrI_some h
            refine g_iast S hW (k := 1) rfl rfl h_87 e_88 dX8_ticks_182 (fun H locs hW => ?_)
            obtain ⟨x_90, e_91, h⟩ := nmI_some h
            refine lv_iinc (v := x_90) (lv' := [(1, .int x_90), (2, .int x_56), (0, .ref (al 0))]) hx hb dX8_ticks_183 hl (k := 2) rfl (by rw [e_91]; rfl) (by decide) rfl (fun ls hl => ?_)
            refine lv_goto (tgt := 102) hx hb dX8_ticks_186 (by decide) ?_
            exact ih x_90 V_89 out _ _ _ h hW (lv_sub hl [2, 0] rfl) k1
  unfold tw_ticks at h
  refine lv_iconst (v := 0) hx hb dX8_ticks_0 (by decide) ?_
  refine lv_istore_n (lv' := [(1, .int 0), (0, .ref (al 0))]) hx hb dX8_ticks_1 rfl hl (by decide) rfl (fun ls hl => ?_)
  obtain ⟨V_9, h_8, h⟩ := bnd_some h
  refine Lp2 L0 1000 0 V0  _ _ _ _ h_8 hW (lv_sub hl [1, 0] rfl) ?_
  intro w0 eo H locs ls hW hl
  subst eo
  refine lv_iconst (v := 0) hx hb dX8_ticks_22 (by decide) ?_
  refine lv_istore_n (lv' := [(1, .int 0), (0, .ref (al 0))]) hx hb dX8_ticks_23 rfl hl (by decide) rfl (fun ls hl => ?_)
  obtain ⟨V_27, h_26, h⟩ := bnd_some h
  refine Lp24 L0 1000 0 V_9  _ _ _ _ h_26 hW (lv_sub hl [1, 0] rfl) ?_
  intro w0 eo H locs ls hW hl
  subst eo
  refine lv_aload_n hx hb dX8_ticks_58 rfl (lv_at hl 0 rfl) ?_
  obtain ⟨V_30, h_28, h⟩ := bnd_some h
  refine g_callVv (As := []) (rest := []) S hW (metX8_pipes h_28) (cwX8_pipes S.2.2.2.2 q1801 ⟨Nat.le_of_ble_eq_true rfl, Nat.le_of_ble_eq_true rfl⟩) (k := 0) rfl rfl rfl hl.1 rfl (Nat.le_of_ble_eq_true rfl) dX8_ticks_59 ⟨Nat.le_refl _, Nat.le_refl _⟩ (fun H locs hW => ?_)
  refine lv_iconst (v := 0) hx hb dX8_ticks_62 (by decide) ?_
  refine lv_istore_n (lv' := [(1, .int 0), (0, .ref (al 0))]) hx hb dX8_ticks_63 rfl hl (by decide) rfl (fun ls hl => ?_)
  obtain ⟨V_45, h_44, h⟩ := bnd_some h
  refine Lp64 L0 1000 0 V_30  _ _ _ _ h_44 hW (lv_sub hl [1, 0] rfl) ?_
  intro w0 eo H locs ls hW hl
  subst eo
  refine lv_aload_n hx hb dX8_ticks_90 rfl (lv_at hl 0 rfl) ?_
  refine tw_ref S hW 1 1 (by decide) rfl q1500 rfl dX8_ticks_91 ?_
  refine lv_iconst (v := 1) hx hb dX8_ticks_94 (by decide) ?_
  refine lv_dup2_11 hx hb dX8_ticks_95 rfl rfl ?_
  obtain ⟨h_47, x_46, e_48, h⟩ := rdI_some h
  refine g_iald S hW (k := 1) rfl rfl h_47 e_48 dX8_ticks_96 ?_
  refine lv_iconst (v := 1) hx hb dX8_ticks_97 (by decide) ?_
  refine lv_iadd hx hb dX8_ticks_98 ?_
  obtain ⟨h_49, V_51, e_50, h⟩ := wrI_some h
  refine g_iast S hW (k := 1) rfl rfl h_49 e_50 dX8_ticks_99 (fun H locs hW => ?_)
  refine lv_iconst (v := 0) hx hb dX8_ticks_100 (by decide) ?_
  refine lv_istore_n (lv' := [(1, .int 0), (0, .ref (al 0))]) hx hb dX8_ticks_101 rfl hl (by decide) rfl (fun ls hl => ?_)
  obtain ⟨V_94, h_93, h⟩ := bnd_some h
  refine Lp102 L0 1000 0 V_51  _ _ _ _ h_93 hW (lv_sub hl [1, 0] rfl) ?_
  intro w0 eo H locs ls hW hl
  subst eo
  refine lv_aload_n hx hb dX8_ticks_189 rfl (lv_at hl 0 rfl) ?_
  refine tw_ref S hW 1 1 (by decide) rfl q1500 rfl dX8_ticks_190 ?_
  refine lv_bipush (v := 12) hx hb dX8_ticks_193 (by decide) ?_
  obtain ⟨h_96, x_95, e_97, h⟩ := rdI_some h
  refine g_iald S hW (k := 1) rfl rfl h_96 e_97 dX8_ticks_195 ?_
  refine lv_if_ne (tgt := 232) hx hb dX8_ticks_196 (by decide) (fun c_98 => ?_) (fun c_98 => ?_)
  · have h := if_f h c_98
    cases h
    exact g_vret S hr hlk hW dX8_ticks_232
  · have h := if_t h c_98
    refine lv_aload_n hx hb dX8_ticks_199 rfl (lv_at hl 0 rfl) ?_
    obtain ⟨x_101, h_99, h⟩ := bnd_some h
    refine g_callVi (As := []) (rest := []) S hW (metX8_anyDug h_99) (cwX8_anyDug S.2.2.2.2 q1815 ⟨Nat.le_of_ble_eq_true rfl, Nat.le_of_ble_eq_true rfl⟩) (k := 0) rfl rfl rfl hl.1 rfl (Nat.le_of_ble_eq_true rfl) dX8_ticks_200 ⟨Nat.le_refl _, Nat.le_refl _⟩ (fun H locs hW => ?_)
    refine lv_if_eq (tgt := 232) hx hb dX8_ticks_203 (by decide) (fun c_102 => ?_) (fun c_102 => ?_)
    · have h := if_t h c_102
      cases h
      exact g_vret S hr hlk hW dX8_ticks_232
    · have h := if_f h c_102
      refine lv_aload_n hx hb dX8_ticks_206 rfl (lv_at hl 0 rfl) ?_
      obtain ⟨x_105, V_106, h_103, h⟩ := bnd2_some h
      refine g_callVi (As := []) (rest := []) S hW (metX8_isShut h_103) (cwX8_isShut S.2.2.2.2 q1819 ⟨Nat.le_of_ble_eq_true rfl, Nat.le_of_ble_eq_true rfl⟩) (k := 0) rfl rfl rfl hl.1 rfl (Nat.le_of_ble_eq_true rfl) dX8_ticks_207 ⟨Nat.le_refl _, Nat.le_refl _⟩ (fun H locs hW => ?_)
      refine lv_if_ne (tgt := 232) hx hb dX8_ticks_210 (by decide) (fun c_107 => ?_) (fun c_107 => ?_)
      · have h := if_f h c_107
        cases h
        exact g_vret S hr hlk hW dX8_ticks_232
      · have h := if_t h c_107
        refine lv_aload_n hx hb dX8_ticks_213 rfl (lv_at hl 0 rfl) ?_
        refine tw_ref S hW 1 1 (by decide) rfl q1500 rfl dX8_ticks_214 ?_
        refine lv_bipush (v := 12) hx hb dX8_ticks_217 (by decide) ?_
        refine lv_iconst (v := 1) hx hb dX8_ticks_219 (by decide) ?_
        obtain ⟨h_108, V_110, e_109, h⟩ := wrI_some h
        refine g_iast S hW (k := 1) rfl rfl h_108 e_109 dX8_ticks_220 (fun H locs hW => ?_)
        refine lv_aload_n hx hb dX8_ticks_221 rfl (lv_at hl 0 rfl) ?_
        refine tw_ref S hW 1 1 (by decide) rfl q1500 rfl dX8_ticks_222 ?_
        refine lv_bipush (v := 13) hx hb dX8_ticks_225 (by decide) ?_
        refine lv_dup2_11 hx hb dX8_ticks_227 rfl rfl ?_
        obtain ⟨h_112, x_111, e_113, h⟩ := rdI_some h
        refine g_iald S hW (k := 1) rfl rfl h_112 e_113 dX8_ticks_228 ?_
        refine lv_iconst (v := 1) hx hb dX8_ticks_229 (by decide) ?_
        refine lv_iadd hx hb dX8_ticks_230 ?_
        obtain ⟨h_114, V_116, e_115, h⟩ := wrI_some h
        refine g_iast S hW (k := 1) rfl rfl h_114 e_115 dX8_ticks_231 (fun H locs hW => ?_)
        cases h
        exact g_vret S hr hlk hW dX8_ticks_232
theorem cwX8_ticks {R : Room} {s : State} {args : Array Value} {index : Nat} (hts : ∀ w ∈ lw_all, w.before args s = true) (hl : Cond.methodLink RX8 index yX8_ticks ∈ lw_all) (hR : rmX8_ticks.frames + 1 ≤ R.frames ∧ 8 + (3 + 11) + rmX8_ticks.locals ≤ R.locals) : CallW R s args RX8 RX8 index yX8_ticks cX8_ticks 3 (none) (ws_ yX8_ticks cX8_ticks 3 (none)) rmX8_ticks 0 0 0 := cwV 0 hts (lw_V hl q1769 qs74 q122 q1770) rfl rfl rfl (by decide +kernel) hR
def tw_gaps_B22 (x1 : Int32) (rec : Int32 → g_V → Option (g_V)) (x2 : Int32) (V : g_V) : Option (g_V) :=
  if 144 ≤ x2 then (some V) else (rdI (V 32) 144 x2 fun x_12 => if x_12 = 0 then (nmI (x2 + 1) fun x_23 => rec x_23 V) else (wrI V 33 144 (V 0 34) x2 fun V_18 => ptI V_18 0 34 ((V_18 0 34) + 1) fun V_19 => nmI (x2 + 1) fun x_21 => rec x_21 V_19))
abbrev tw_gaps_F22 (x1 : Int32) : ((Int32 × g_V) → Option (g_V)) → (Int32 × g_V) → Option (g_V) := fun rec s => tw_gaps_B22 x1 (fun x2 V => rec (x2, V)) s.1 s.2
def tw_gaps_L22 (x1 : Int32) (n : Nat) (x2 : Int32) (V : g_V) : Option (g_V) := lp (tw_gaps_F22 x1) n (x2, V)
theorem tw_gaps_L22_s (x1 : Int32) (n : Nat) (x2 : Int32) (V : g_V) : tw_gaps_L22 x1 (n + 1) x2 V = tw_gaps_B22 x1 (fun x2 V => tw_gaps_L22 x1 n x2 V) x2 V := lp_s (tw_gaps_F22 x1) n (x2, V)
def tw_gaps (V0 : g_V) : Option (Int32 × g_V) :=
  bnd (tw_hasShaft V0) (fun x_3 => if x_3 = 0 then (some ((-6), V0)) else (bnd (tw_findGaps V0) (un2 fun x_7 V_8 => ptI V_8 0 34 0 fun V_9 => bnd (tw_gaps_L22 x_7 1000 0 V_9) (fun V_27 => some (x_7, V_27)))))
abbrev rmX8_gaps : Room := rm_ 6 140
set_option maxHeartbeats 4000000 in
theorem metX8_gaps {l : Launch} {gp : Nat → Nat} {nx : Nat} {D : va_G} {K : Nat → ClassId} {al : Nat → Nat} {V0 : g_V} {L0 : g_L} {r : Int32} {V' : g_V} (h : tw_gaps V0 = some (r, V')) : Met l yX8_gaps (ws_ yX8_gaps cX8_gaps 3 (some .int)) rmX8_gaps (twPc gp nx [.ref (al 0)] D K al V0 L0) (twQi r nx D K al V' L0) 0 0 (g_A al twSh) := by
  refine g_met rfl (Nat.le_of_ble_eq_true rfl) ?_
  intro p e s m below meth c ls S hr hlk hnm hl hW
  have S : CallFix p m c cX8_gaps 3 s ([.ref (al 0)] : List Value).toArray lw_all RX8 := S
  have hx := S.1
  have hb := S.2.1
  have hl : lv_has ls 3 [(0, .ref (al 0))] := hl
  have Lp22 : ∀ (x1 : Int32) (L : g_L) (n : Nat) (x2 : Int32) (V : g_V) (out : (g_V)) (H : Heap) (locs : List Loc) (ls : Array Slot), tw_gaps_L22 x1 n x2 V = some out → twW gp nx D K al s V L H locs → lv_has ls 3 [(0, .ref (al 0)), (1, .int x1), (2, .int x2)] → (∀ (oV : g_V), out = oV → ∀ (H : Heap) (locs : List Loc) (ls : Array Slot), twW gp nx D K al s oV L H locs → lv_has ls 3 [(1, .int x1)] → W p l e rmX8_gaps s m ([.ref (al 0)] : List Value).toArray below meth c H locs 0 0 (MQ below (twQi r nx D K al V' L0) ([.ref (al 0)] : List Value).toArray s 0 0 (g_A al twSh)) (F0 m 67 ls [])) → W p l e rmX8_gaps s m ([.ref (al 0)] : List Value).toArray below meth c H locs 0 0 (MQ below (twQi r nx D K al V' L0) ([.ref (al 0)] : List Value).toArray s 0 0 (g_A al twSh)) (F0 m 22 ls []) := by
    intro x1 L n
    induction n with
    | zero =>
      intro x2 V out H locs ls h
      exact (lp_0 h).elim
    | succ n ih =>
      intro x2 V out H locs ls h hW hl k1
      rw [tw_gaps_L22_s] at h
      unfold tw_gaps_B22 at h
      refine lv_iload_n hx hb dX8_gaps_22 rfl (lv_at hl 2 rfl) ?_
      refine lv_sipush (v := 144) hx hb dX8_gaps_23 (by decide) ?_
      refine lv_icmp_ge (tgt := 67) hx hb dX8_gaps_26 (by decide) (fun c_11 => ?_) (fun c_11 => ?_)
      · have h := if_t h c_11
        exact k1 _ (Option.some.inj h).symm _ _ _ hW (lv_sub hl [1] rfl)
      · have h := if_f h c_11
        refine lv_aload_n hx hb dX8_gaps_29 rfl (lv_at hl 0 rfl) ?_
        refine tw_ref S hW 32 32 (by decide) rfl q1531 rfl dX8_gaps_30 ?_
        refine lv_iload_n hx hb dX8_gaps_33 rfl (lv_at hl 2 rfl) ?_
        obtain ⟨h_13, x_12, e_14, h⟩ := rdI_some h
        refine g_zald S hW (k := 32) rfl rfl h_13 e_14 dX8_gaps_34 ?_
        refine lv_if_ne (tgt := 41) hx hb dX8_gaps_35 (by decide) (fun c_15 => ?_) (fun c_15 => ?_)
        · have h := if_f h c_15
          refine lv_aload_n hx hb dX8_gaps_41 rfl (lv_at hl 0 rfl) ?_
          refine tw_ref S hW 33 33 (by decide) rfl q1532 rfl dX8_gaps_42 ?_
          refine lv_aload_n hx hb dX8_gaps_45 rfl (lv_at hl 0 rfl) ?_
          refine tw_int S hW 34 (by decide) rfl q1533 rfl dX8_gaps_46 ?_
          refine lv_iload_n hx hb dX8_gaps_49 rfl (lv_at hl 2 rfl) ?_
          obtain ⟨h_16, V_18, e_17, h⟩ := wrI_some h
          refine g_iast S hW (k := 33) rfl rfl h_16 e_17 dX8_gaps_50 (fun H locs hW => ?_)
          refine lv_aload_n hx hb dX8_gaps_51 rfl (lv_at hl 0 rfl) ?_
          refine lv_dup hx hb dX8_gaps_52 rfl ?_
          refine tw_int S hW 34 (by decide) rfl q1533 rfl dX8_gaps_53 ?_
          refine lv_iconst (v := 1) hx hb dX8_gaps_56 (by decide) ?_
          refine lv_iadd hx hb dX8_gaps_57 ?_
          obtain ⟨V_19, e_20, h⟩ := ptI_some h
          refine tw_puti S hW 34 (by decide) rfl rfl rfl rfl rfl q1533 e_20 dX8_gaps_58 (fun H locs hW => ?_)
          obtain ⟨x_21, e_22, h⟩ := nmI_some h
          refine lv_iinc (v := x_21) (lv' := [(2, .int x_21), (0, .ref (al 0)), (1, .int x1)]) hx hb dX8_gaps_61 hl (k := 2) rfl (by rw [e_22]; rfl) (by decide) rfl (fun ls hl => ?_)
          refine lv_goto (tgt := 22) hx hb dX8_gaps_64 (by decide) ?_
          exact ih x_21 V_19 out _ _ _ h hW (lv_sub hl [1, 2, 0] rfl) k1
        · have h := if_t h c_15
          refine lv_goto (tgt := 61) hx hb dX8_gaps_38 (by decide) ?_
          obtain ⟨x_23, e_24, h⟩ := nmI_some h
          refine lv_iinc (v := x_23) (lv' := [(2, .int x_23), (0, .ref (al 0)), (1, .int x1)]) hx hb dX8_gaps_61 hl (k := 2) rfl (by rw [e_24]; rfl) (by decide) rfl (fun ls hl => ?_)
          refine lv_goto (tgt := 22) hx hb dX8_gaps_64 (by decide) ?_
          exact ih x_23 V out _ _ _ h hW (lv_sub hl [1, 2, 0] rfl) k1
  unfold tw_gaps at h
  refine lv_aload_n hx hb dX8_gaps_0 rfl (lv_at hl 0 rfl) ?_
  obtain ⟨x_3, h_1, h⟩ := bnd_some h
  refine g_callVi (As := []) (rest := []) S hW (metX8_hasShaft h_1) (cwX8_hasShaft S.2.2.2.2 q1873 ⟨Nat.le_of_ble_eq_true rfl, Nat.le_of_ble_eq_true rfl⟩) (k := 0) rfl rfl rfl hl.1 rfl (Nat.le_of_ble_eq_true rfl) dX8_gaps_1 ⟨Nat.le_refl _, Nat.le_refl _⟩ (fun H locs hW => ?_)
  refine lv_if_ne (tgt := 10) hx hb dX8_gaps_4 (by decide) (fun c_4 => ?_) (fun c_4 => ?_)
  · have h := if_f h c_4
    refine lv_aload_n hx hb dX8_gaps_10 rfl (lv_at hl 0 rfl) ?_
    obtain ⟨x_7, V_8, h_5, h⟩ := bnd2_some h
    refine g_callVi (As := []) (rest := []) S hW (metX8_findGaps h_5) (cwX8_findGaps S.2.2.2.2 q1889 ⟨Nat.le_of_ble_eq_true rfl, Nat.le_of_ble_eq_true rfl⟩) (k := 0) rfl rfl rfl hl.1 rfl (Nat.le_of_ble_eq_true rfl) dX8_gaps_11 ⟨Nat.le_refl _, Nat.le_refl _⟩ (fun H locs hW => ?_)
    refine lv_istore_n (lv' := [(1, .int x_7), (0, .ref (al 0))]) hx hb dX8_gaps_14 rfl hl (by decide) rfl (fun ls hl => ?_)
    refine lv_aload_n hx hb dX8_gaps_15 rfl (lv_at hl 1 rfl) ?_
    refine lv_iconst (v := 0) hx hb dX8_gaps_16 (by decide) ?_
    obtain ⟨V_9, e_10, h⟩ := ptI_some h
    refine tw_puti S hW 34 (by decide) rfl rfl rfl rfl rfl q1533 e_10 dX8_gaps_17 (fun H locs hW => ?_)
    refine lv_iconst (v := 0) hx hb dX8_gaps_20 (by decide) ?_
    refine lv_istore_n (lv' := [(2, .int 0), (1, .int x_7), (0, .ref (al 0))]) hx hb dX8_gaps_21 rfl hl (by decide) rfl (fun ls hl => ?_)
    obtain ⟨V_27, h_26, h⟩ := bnd_some h
    refine Lp22 x_7 L0 1000 0 V_9  _ _ _ _ h_26 hW (lv_sub hl [2, 1, 0] rfl) ?_
    intro w0 eo H locs ls hW hl
    subst eo
    refine lv_iload_n hx hb dX8_gaps_67 rfl (lv_at hl 0 rfl) ?_
    cases h
    exact g_iret S hr hlk hW dX8_gaps_68
  · have h := if_t h c_4
    refine lv_bipush (v := (-6)) hx hb dX8_gaps_7 (by decide) ?_
    cases h
    exact g_iret S hr hlk hW dX8_gaps_9
theorem cwX8_gaps {R : Room} {s : State} {args : Array Value} {index : Nat} (hts : ∀ w ∈ lw_all, w.before args s = true) (hl : Cond.methodLink RX8 index yX8_gaps ∈ lw_all) (hR : rmX8_gaps.frames + 1 ≤ R.frames ∧ 8 + (3 + 11) + rmX8_gaps.locals ≤ R.locals) : CallW R s args RX8 RX8 index yX8_gaps cX8_gaps 3 (some .int) (ws_ yX8_gaps cX8_gaps 3 (some .int)) rmX8_gaps 0 0 0 := cwV 0 hts (lw_V hl q1886 q1887 q122 q1888) rfl rfl rfl (by decide +kernel) hR
def tw_condHolds (V0 : g_V) (a1 : Int32) : Option (Int32 × g_V) :=
  rdI (V0 1) 810 a1 fun x_1 => if x_1 = 0 then (bnd (tw_hasShaft V0) (fun x_26 => if x_26 = 0 then (some (0, V0)) else (bnd (tw_isShut V0) (un2 fun x_30 V_31 => if x_30 = 0 then (some (0, V_31)) else (some (1, V_31)))))) else (rdI (V0 1) 810 a1 fun x_5 => bnd (tw_wordOf V0 x_5) (un2 fun x_10 V_11 => rdI (V_11 1) 810 (a1 + 1) fun x_12 => if x_12 = 60 then (rdI (V_11 1) 810 (a1 + 2) fun x_20 => if x_20 ≤ x_10 then (some (0, V_11)) else (some (1, V_11))) else (rdI (V_11 1) 810 (a1 + 2) fun x_16 => if x_10 ≤ x_16 then (some (0, V_11)) else (some (1, V_11)))))
abbrev rmX8_condHolds : Room := rm_ 7 163
set_option maxHeartbeats 4000000 in
theorem metX8_condHolds {l : Launch} {gp : Nat → Nat} {nx : Nat} {D : va_G} {K : Nat → ClassId} {al : Nat → Nat} {V0 : g_V} {L0 : g_L} {a1 : Int32} {r : Int32} {V' : g_V} (h : tw_condHolds V0 a1 = some (r, V')) : Met l yX8_condHolds (ws_ yX8_condHolds cX8_condHolds 3 (some .boolean)) rmX8_condHolds (twPc gp nx [.ref (al 0), .int a1] D K al V0 L0) (twQi r nx D K al V' L0) 0 0 (g_A al twSh) := by
  refine g_met rfl (Nat.le_of_ble_eq_true rfl) ?_
  intro p e s m below meth c ls S hr hlk hnm hl hW
  have S : CallFix p m c cX8_condHolds 3 s ([.ref (al 0), .int a1] : List Value).toArray lw_all RX8 := S
  have hx := S.1
  have hb := S.2.1
  have hl : lv_has ls 3 [(0, .ref (al 0)), (1, .int a1)] := hl
  unfold tw_condHolds at h
  refine lv_aload_n hx hb dX8_condHolds_0 rfl (lv_at hl 0 rfl) ?_
  refine tw_ref S hW 1 1 (by decide) rfl q1500 rfl dX8_condHolds_1 ?_
  refine lv_iload_n hx hb dX8_condHolds_4 rfl (lv_at hl 1 rfl) ?_
  obtain ⟨h_2, x_1, e_3, h⟩ := rdI_some h
  refine g_iald S hW (k := 1) rfl rfl h_2 e_3 dX8_condHolds_5 ?_
  refine lv_if_ne (tgt := 29) hx hb dX8_condHolds_6 (by decide) (fun c_4 => ?_) (fun c_4 => ?_)
  · have h := if_f h c_4
    refine lv_aload_n hx hb dX8_condHolds_29 rfl (lv_at hl 0 rfl) ?_
    refine lv_aload_n hx hb dX8_condHolds_30 rfl (lv_at hl 0 rfl) ?_
    refine tw_ref S hW 1 1 (by decide) rfl q1500 rfl dX8_condHolds_31 ?_
    refine lv_iload_n hx hb dX8_condHolds_34 rfl (lv_at hl 1 rfl) ?_
    obtain ⟨h_6, x_5, e_7, h⟩ := rdI_some h
    refine g_iald S hW (k := 1) rfl rfl h_6 e_7 dX8_condHolds_35 ?_
    obtain ⟨x_10, V_11, h_8, h⟩ := bnd2_some h
    refine g_callVi (As := [.int x_5]) (rest := []) S hW (metX8_wordOf h_8) (cwX8_wordOf S.2.2.2.2 q1924 ⟨Nat.le_of_ble_eq_true rfl, Nat.le_of_ble_eq_true rfl⟩) (k := 0) rfl rfl rfl hl.1 rfl (Nat.le_of_ble_eq_true rfl) dX8_condHolds_36 ⟨Nat.le_refl _, Nat.le_refl _⟩ (fun H locs hW => ?_)
    refine lv_istore_n (lv' := [(2, .int x_10), (0, .ref (al 0)), (1, .int a1)]) hx hb dX8_condHolds_39 rfl hl (by decide) rfl (fun ls hl => ?_)
    refine lv_aload_n hx hb dX8_condHolds_40 rfl (lv_at hl 1 rfl) ?_
    refine tw_ref S hW 1 1 (by decide) rfl q1500 rfl dX8_condHolds_41 ?_
    refine lv_iload_n hx hb dX8_condHolds_44 rfl (lv_at hl 2 rfl) ?_
    refine lv_iconst (v := 1) hx hb dX8_condHolds_45 (by decide) ?_
    refine lv_iadd hx hb dX8_condHolds_46 ?_
    obtain ⟨h_13, x_12, e_14, h⟩ := rdI_some h
    refine g_iald S hW (k := 1) rfl rfl h_13 e_14 dX8_condHolds_47 ?_
    refine lv_bipush (v := 60) hx hb dX8_condHolds_48 (by decide) ?_
    refine lv_icmp_ne (tgt := 73) hx hb dX8_condHolds_50 (by decide) (fun c_15 => ?_) (fun c_15 => ?_)
    · have h := if_f h c_15
      refine lv_iload_n hx hb dX8_condHolds_73 rfl (lv_at hl 0 rfl) ?_
      refine lv_aload_n hx hb dX8_condHolds_74 rfl (lv_at hl 1 rfl) ?_
      refine tw_ref S hW 1 1 (by decide) rfl q1500 rfl dX8_condHolds_75 ?_
      refine lv_iload_n hx hb dX8_condHolds_78 rfl (lv_at hl 2 rfl) ?_
      refine lv_iconst (v := 2) hx hb dX8_condHolds_79 (by decide) ?_
      refine lv_iadd hx hb dX8_condHolds_80 ?_
      obtain ⟨h_17, x_16, e_18, h⟩ := rdI_some h
      refine g_iald S hW (k := 1) rfl rfl h_17 e_18 dX8_condHolds_81 ?_
      refine lv_icmp_le (tgt := 89) hx hb dX8_condHolds_82 (by decide) (fun c_19 => ?_) (fun c_19 => ?_)
      · have h := if_t h c_19
        refine lv_iconst (v := 0) hx hb dX8_condHolds_89 (by decide) ?_
        cases h
        exact g_zret S hr hlk rfl hW dX8_condHolds_90
      · have h := if_f h c_19
        refine lv_iconst (v := 1) hx hb dX8_condHolds_85 (by decide) ?_
        refine lv_goto (tgt := 90) hx hb dX8_condHolds_86 (by decide) ?_
        cases h
        exact g_zret S hr hlk rfl hW dX8_condHolds_90
    · have h := if_t h c_15
      refine lv_iload_n hx hb dX8_condHolds_53 rfl (lv_at hl 0 rfl) ?_
      refine lv_aload_n hx hb dX8_condHolds_54 rfl (lv_at hl 1 rfl) ?_
      refine tw_ref S hW 1 1 (by decide) rfl q1500 rfl dX8_condHolds_55 ?_
      refine lv_iload_n hx hb dX8_condHolds_58 rfl (lv_at hl 2 rfl) ?_
      refine lv_iconst (v := 2) hx hb dX8_condHolds_59 (by decide) ?_
      refine lv_iadd hx hb dX8_condHolds_60 ?_
      obtain ⟨h_21, x_20, e_22, h⟩ := rdI_some h
      refine g_iald S hW (k := 1) rfl rfl h_21 e_22 dX8_condHolds_61 ?_
      refine lv_icmp_ge (tgt := 69) hx hb dX8_condHolds_62 (by decide) (fun c_23 => ?_) (fun c_23 => ?_)
      · have h := if_t h c_23
        refine lv_iconst (v := 0) hx hb dX8_condHolds_69 (by decide) ?_
        refine lv_goto (tgt := 90) hx hb dX8_condHolds_70 (by decide) ?_
        cases h
        exact g_zret S hr hlk rfl hW dX8_condHolds_90
      · have h := if_f h c_23
        refine lv_iconst (v := 1) hx hb dX8_condHolds_65 (by decide) ?_
        refine lv_goto (tgt := 90) hx hb dX8_condHolds_66 (by decide) ?_
        cases h
        exact g_zret S hr hlk rfl hW dX8_condHolds_90
  · have h := if_t h c_4
    refine lv_aload_n hx hb dX8_condHolds_9 rfl (lv_at hl 0 rfl) ?_
    obtain ⟨x_26, h_24, h⟩ := bnd_some h
    refine g_callVi (As := []) (rest := []) S hW (metX8_hasShaft h_24) (cwX8_hasShaft S.2.2.2.2 q1873 ⟨Nat.le_of_ble_eq_true rfl, Nat.le_of_ble_eq_true rfl⟩) (k := 0) rfl rfl rfl hl.1 rfl (Nat.le_of_ble_eq_true rfl) dX8_condHolds_10 ⟨Nat.le_refl _, Nat.le_refl _⟩ (fun H locs hW => ?_)
    refine lv_if_eq (tgt := 27) hx hb dX8_condHolds_13 (by decide) (fun c_27 => ?_) (fun c_27 => ?_)
    · have h := if_t h c_27
      refine lv_iconst (v := 0) hx hb dX8_condHolds_27 (by decide) ?_
      cases h
      exact g_zret S hr hlk rfl hW dX8_condHolds_28
    · have h := if_f h c_27
      refine lv_aload_n hx hb dX8_condHolds_16 rfl (lv_at hl 0 rfl) ?_
      obtain ⟨x_30, V_31, h_28, h⟩ := bnd2_some h
      refine g_callVi (As := []) (rest := []) S hW (metX8_isShut h_28) (cwX8_isShut S.2.2.2.2 q1819 ⟨Nat.le_of_ble_eq_true rfl, Nat.le_of_ble_eq_true rfl⟩) (k := 0) rfl rfl rfl hl.1 rfl (Nat.le_of_ble_eq_true rfl) dX8_condHolds_17 ⟨Nat.le_refl _, Nat.le_refl _⟩ (fun H locs hW => ?_)
      refine lv_if_eq (tgt := 27) hx hb dX8_condHolds_20 (by decide) (fun c_32 => ?_) (fun c_32 => ?_)
      · have h := if_t h c_32
        refine lv_iconst (v := 0) hx hb dX8_condHolds_27 (by decide) ?_
        cases h
        exact g_zret S hr hlk rfl hW dX8_condHolds_28
      · have h := if_f h c_32
        refine lv_iconst (v := 1) hx hb dX8_condHolds_23 (by decide) ?_
        refine lv_goto (tgt := 28) hx hb dX8_condHolds_24 (by decide) ?_
        cases h
        exact g_zret S hr hlk rfl hW dX8_condHolds_28
theorem cwX8_condHolds {R : Room} {s : State} {args : Array Value} {index : Nat} (hts : ∀ w ∈ lw_all, w.before args s = true) (hl : Cond.methodLink RX8 index yX8_condHolds ∈ lw_all) (hR : rmX8_condHolds.frames + 1 ≤ R.frames ∧ 8 + (3 + 11) + rmX8_condHolds.locals ≤ R.locals) : CallW R s args RX8 RX8 index yX8_condHolds cX8_condHolds 3 (some .boolean) (ws_ yX8_condHolds cX8_condHolds 3 (some .boolean)) rmX8_condHolds 0 0 1 := cwV 1 hts (lw_V hl q1922 qs97 q122 q1923) rfl rfl rfl (by decide +kernel) hR
def tw_foretell_J37 (rec : Int32 → Int32 → g_V → Option (Int32 × g_V)) (x1 : Int32) (x2 : Int32) (V : g_V) : Option (Int32 × g_V) :=
  bnd (tw_isShut V) (un2 fun x_13 V_14 => if x_13 = 0 then (nmI (x2 + 1) fun x_16 => rec x1 x_16 V_14) else (nmI (x2 + 1) fun x_18 => rec x2 x_18 V_14))
def tw_foretell_B18 (rec : Int32 → Int32 → g_V → Option (Int32 × g_V)) (x1 : Int32) (x2 : Int32) (V : g_V) : Option (Int32 × g_V) :=
  if 60 < x2 then (some (x1, V)) else (if x1 = (-1) then (if x2 ≤ 0 then (tw_foretell_J37 rec x1 x2 V) else (bnd (tw_ticks V) (fun V_22 => tw_foretell_J37 rec x1 x2 V_22))) else (some (x1, V)))
abbrev tw_foretell_F18 : ((Int32 × Int32 × g_V) → Option (Int32 × g_V)) → (Int32 × Int32 × g_V) → Option (Int32 × g_V) := fun rec s => tw_foretell_B18 (fun x1 x2 V => rec (x1, x2, V)) s.1 s.2.1 s.2.2
def tw_foretell_L18 (n : Nat) (x1 : Int32) (x2 : Int32) (V : g_V) : Option (Int32 × g_V) := lp (tw_foretell_F18) n (x1, x2, V)
theorem tw_foretell_L18_s (n : Nat) (x1 : Int32) (x2 : Int32) (V : g_V) : tw_foretell_L18 (n + 1) x1 x2 V = tw_foretell_B18 (fun x1 x2 V => tw_foretell_L18 n x1 x2 V) x1 x2 V := lp_s (tw_foretell_F18) n (x1, x2, V)
def tw_foretell (V0 : g_V) : Option (Int32 × g_V) :=
  bnd (tw_hasShaft V0) (fun x_3 => if x_3 = 0 then (some ((-6), V0)) else (bnd (tw_saves V0) (fun V_7 => bnd (tw_foretell_L18 1000 (-1) 0 V_7) (un2 fun x_25 V_26 => bnd (tw_putsBack V_26) (fun V_29 => some (x_25, V_29))))))
abbrev rmX8_foretell : Room := rm_ 7 162
set_option maxHeartbeats 4000000 in
theorem metX8_foretell {l : Launch} {gp : Nat → Nat} {nx : Nat} {D : va_G} {K : Nat → ClassId} {al : Nat → Nat} {V0 : g_V} {L0 : g_L} {r : Int32} {V' : g_V} (h : tw_foretell V0 = some (r, V')) : Met l yX8_foretell (ws_ yX8_foretell cX8_foretell 3 (some .int)) rmX8_foretell (twPc gp nx [.ref (al 0)] D K al V0 L0) (twQi r nx D K al V' L0) 0 0 (g_A al twSh) := by
  refine g_met rfl (Nat.le_of_ble_eq_true rfl) ?_
  intro p e s m below meth c ls S hr hlk hnm hl hW
  have S : CallFix p m c cX8_foretell 3 s ([.ref (al 0)] : List Value).toArray lw_all RX8 := S
  have hx := S.1
  have hb := S.2.1
  have hl : lv_has ls 3 [(0, .ref (al 0))] := hl
  have Lp18 : ∀ (L : g_L) (n : Nat) (x1 : Int32) (x2 : Int32) (V : g_V) (out : (Int32 × g_V)) (H : Heap) (locs : List Loc) (ls : Array Slot), tw_foretell_L18 n x1 x2 V = some out → twW gp nx D K al s V L H locs → lv_has ls 3 [(0, .ref (al 0)), (1, .int x1), (2, .int x2)] → (∀ (o1 : Int32) (oV : g_V), out = (o1, oV) → ∀ (H : Heap) (locs : List Loc) (ls : Array Slot), twW gp nx D K al s oV L H locs → lv_has ls 3 [(0, .ref (al 0)), (1, .int o1)] → W p l e rmX8_foretell s m ([.ref (al 0)] : List Value).toArray below meth c H locs 0 0 (MQ below (twQi r nx D K al V' L0) ([.ref (al 0)] : List Value).toArray s 0 0 (g_A al twSh)) (F0 m 52 ls [])) → W p l e rmX8_foretell s m ([.ref (al 0)] : List Value).toArray below meth c H locs 0 0 (MQ below (twQi r nx D K al V' L0) ([.ref (al 0)] : List Value).toArray s 0 0 (g_A al twSh)) (F0 m 18 ls []) := by
    intro L n
    induction n with
    | zero =>
      intro x1 x2 V out H locs ls h
      exact (lp_0 h).elim
    | succ n ih =>
      intro x1 x2 V out H locs ls h hW hl k1
      have J37 : ∀ (x1 : Int32) (x2 : Int32) (V : g_V) (H : Heap) (locs : List Loc) (ls : Array Slot), tw_foretell_J37 (fun x1 x2 V => tw_foretell_L18 n x1 x2 V) x1 x2 V = some out → twW gp nx D K al s V L H locs → lv_has ls 3 [(0, .ref (al 0)), (1, .int x1), (2, .int x2)] → W p l e rmX8_foretell s m ([.ref (al 0)] : List Value).toArray below meth c H locs 0 0 (MQ below (twQi r nx D K al V' L0) ([.ref (al 0)] : List Value).toArray s 0 0 (g_A al twSh)) (F0 m 37 ls []) := by
        intro x1 x2 V H locs ls h hW hl
        unfold tw_foretell_J37 at h
        refine lv_aload_n hx hb dX8_foretell_37 rfl (lv_at hl 0 rfl) ?_
        obtain ⟨x_13, V_14, h_11, h⟩ := bnd2_some h
        refine g_callVi (As := []) (rest := []) S hW (metX8_isShut h_11) (cwX8_isShut S.2.2.2.2 q1819 ⟨Nat.le_of_ble_eq_true rfl, Nat.le_of_ble_eq_true rfl⟩) (k := 0) rfl rfl rfl hl.1 rfl (Nat.le_of_ble_eq_true rfl) dX8_foretell_38 ⟨Nat.le_refl _, Nat.le_refl _⟩ (fun H locs hW => ?_)
        refine lv_if_eq (tgt := 46) hx hb dX8_foretell_41 (by decide) (fun c_15 => ?_) (fun c_15 => ?_)
        · have h := if_t h c_15
          obtain ⟨x_16, e_17, h⟩ := nmI_some h
          refine lv_iinc (v := x_16) (lv' := [(2, .int x_16), (0, .ref (al 0)), (1, .int x1)]) hx hb dX8_foretell_46 hl (k := 2) rfl (by rw [e_17]; rfl) (by decide) rfl (fun ls hl => ?_)
          refine lv_goto (tgt := 18) hx hb dX8_foretell_49 (by decide) ?_
          exact ih x1 x_16 V_14 out _ _ _ h hW (lv_sub hl [1, 2, 0] rfl) k1
        · have h := if_f h c_15
          refine lv_iload_n hx hb dX8_foretell_44 rfl (lv_at hl 2 rfl) ?_
          refine lv_istore_n (lv' := [(1, .int x2), (0, .ref (al 0)), (2, .int x2)]) hx hb dX8_foretell_45 rfl hl (by decide) rfl (fun ls hl => ?_)
          obtain ⟨x_18, e_19, h⟩ := nmI_some h
          refine lv_iinc (v := x_18) (lv' := [(2, .int x_18), (1, .int x2), (0, .ref (al 0))]) hx hb dX8_foretell_46 hl (k := 2) rfl (by rw [e_19]; rfl) (by decide) rfl (fun ls hl => ?_)
          refine lv_goto (tgt := 18) hx hb dX8_foretell_49 (by decide) ?_
          exact ih x2 x_18 V_14 out _ _ _ h hW (lv_sub hl [2, 1, 0] rfl) k1
      rw [tw_foretell_L18_s] at h
      unfold tw_foretell_B18 at h
      refine lv_iload_n hx hb dX8_foretell_18 rfl (lv_at hl 2 rfl) ?_
      refine lv_bipush (v := 60) hx hb dX8_foretell_19 (by decide) ?_
      refine lv_icmp_gt (tgt := 52) hx hb dX8_foretell_21 (by decide) (fun c_8 => ?_) (fun c_8 => ?_)
      · have h := if_t h c_8
        exact k1 _ _ (Option.some.inj h).symm _ _ _ hW (lv_sub hl [0, 1] rfl)
      · have h := if_f h c_8
        refine lv_iload_n hx hb dX8_foretell_24 rfl (lv_at hl 1 rfl) ?_
        refine lv_iconst (v := (-1)) hx hb dX8_foretell_25 (by decide) ?_
        refine lv_icmp_ne (tgt := 52) hx hb dX8_foretell_26 (by decide) (fun c_9 => ?_) (fun c_9 => ?_)
        · have h := if_f h c_9
          exact k1 _ _ (Option.some.inj h).symm _ _ _ hW (lv_sub hl [0, 1] rfl)
        · have h := if_t h c_9
          refine lv_iload_n hx hb dX8_foretell_29 rfl (lv_at hl 2 rfl) ?_
          refine lv_if_le (tgt := 37) hx hb dX8_foretell_30 (by decide) (fun c_10 => ?_) (fun c_10 => ?_)
          · have h := if_t h c_10
            exact J37 x1 x2 V _ _ _ h hW hl
          · have h := if_f h c_10
            refine lv_aload_n hx hb dX8_foretell_33 rfl (lv_at hl 0 rfl) ?_
            obtain ⟨V_22, h_20, h⟩ := bnd_some h
            refine g_callVv (As := []) (rest := []) S hW (metX8_ticks h_20) (cwX8_ticks S.2.2.2.2 q1767 ⟨Nat.le_of_ble_eq_true rfl, Nat.le_of_ble_eq_true rfl⟩) (k := 0) rfl rfl rfl hl.1 rfl (Nat.le_of_ble_eq_true rfl) dX8_foretell_34 ⟨Nat.le_refl _, Nat.le_refl _⟩ (fun H locs hW => ?_)
            exact J37 x1 x2 V_22 _ _ _ h hW hl
  unfold tw_foretell at h
  refine lv_aload_n hx hb dX8_foretell_0 rfl (lv_at hl 0 rfl) ?_
  obtain ⟨x_3, h_1, h⟩ := bnd_some h
  refine g_callVi (As := []) (rest := []) S hW (metX8_hasShaft h_1) (cwX8_hasShaft S.2.2.2.2 q1873 ⟨Nat.le_of_ble_eq_true rfl, Nat.le_of_ble_eq_true rfl⟩) (k := 0) rfl rfl rfl hl.1 rfl (Nat.le_of_ble_eq_true rfl) dX8_foretell_1 ⟨Nat.le_refl _, Nat.le_refl _⟩ (fun H locs hW => ?_)
  refine lv_if_ne (tgt := 10) hx hb dX8_foretell_4 (by decide) (fun c_4 => ?_) (fun c_4 => ?_)
  · have h := if_f h c_4
    refine lv_aload_n hx hb dX8_foretell_10 rfl (lv_at hl 0 rfl) ?_
    obtain ⟨V_7, h_5, h⟩ := bnd_some h
    refine g_callVv (As := []) (rest := []) S hW (metX8_saves h_5) (cwX8_saves S.2.2.2.2 q1957 ⟨Nat.le_of_ble_eq_true rfl, Nat.le_of_ble_eq_true rfl⟩) (k := 0) rfl rfl rfl hl.1 rfl (Nat.le_of_ble_eq_true rfl) dX8_foretell_11 ⟨Nat.le_refl _, Nat.le_refl _⟩ (fun H locs hW => ?_)
    refine lv_iconst (v := (-1)) hx hb dX8_foretell_14 (by decide) ?_
    refine lv_istore_n (lv' := [(1, .int (-1)), (0, .ref (al 0))]) hx hb dX8_foretell_15 rfl hl (by decide) rfl (fun ls hl => ?_)
    refine lv_iconst (v := 0) hx hb dX8_foretell_16 (by decide) ?_
    refine lv_istore_n (lv' := [(2, .int 0), (1, .int (-1)), (0, .ref (al 0))]) hx hb dX8_foretell_17 rfl hl (by decide) rfl (fun ls hl => ?_)
    obtain ⟨x_25, V_26, h_24, h⟩ := bnd2_some h
    refine Lp18 L0 1000 (-1) 0 V_7  _ _ _ _ h_24 hW (lv_sub hl [2, 1, 0] rfl) ?_
    intro w0 w1 eo H locs ls hW hl
    cases eo
    refine lv_aload_n hx hb dX8_foretell_52 rfl (lv_at hl 0 rfl) ?_
    obtain ⟨V_29, h_27, h⟩ := bnd_some h
    refine g_callVv (As := []) (rest := []) S hW (metX8_putsBack h_27) (cwX8_putsBack S.2.2.2.2 q1961 ⟨Nat.le_of_ble_eq_true rfl, Nat.le_of_ble_eq_true rfl⟩) (k := 0) rfl rfl rfl hl.1 rfl (Nat.le_of_ble_eq_true rfl) dX8_foretell_53 ⟨Nat.le_refl _, Nat.le_refl _⟩ (fun H locs hW => ?_)
    refine lv_iload_n hx hb dX8_foretell_56 rfl (lv_at hl 1 rfl) ?_
    cases h
    exact g_iret S hr hlk hW dX8_foretell_57
  · have h := if_t h c_4
    refine lv_bipush (v := (-6)) hx hb dX8_foretell_7 (by decide) ?_
    cases h
    exact g_iret S hr hlk hW dX8_foretell_9
theorem cwX8_foretell {R : Room} {s : State} {args : Array Value} {index : Nat} (hts : ∀ w ∈ lw_all, w.before args s = true) (hl : Cond.methodLink RX8 index yX8_foretell ∈ lw_all) (hR : rmX8_foretell.frames + 1 ≤ R.frames ∧ 8 + (3 + 11) + rmX8_foretell.locals ≤ R.locals) : CallW R s args RX8 RX8 index yX8_foretell cX8_foretell 3 (some .int) (ws_ yX8_foretell cX8_foretell 3 (some .int)) rmX8_foretell 0 0 0 := cwV 0 hts (lw_V hl q1954 q1955 q122 q1956) rfl rfl rfl (by decide +kernel) hR
def tw_off_B26 (rec : Int32 → g_V → Option (g_V)) (x1 : Int32) (V : g_V) : Option (g_V) :=
  rdI (V 1) 810 2 fun x_13 => if x_13 ≤ x1 then (some V) else (wrI V 1 810 ((624 + (6 * x1)) + 3) 0 fun V_19 => nmI (x1 + 1) fun x_20 => rec x_20 V_19)
abbrev tw_off_F26 : ((Int32 × g_V) → Option (g_V)) → (Int32 × g_V) → Option (g_V) := fun rec s => tw_off_B26 (fun x1 V => rec (x1, V)) s.1 s.2
def tw_off_L26 (n : Nat) (x1 : Int32) (V : g_V) : Option (g_V) := lp (tw_off_F26) n (x1, V)
theorem tw_off_L26_s (n : Nat) (x1 : Int32) (V : g_V) : tw_off_L26 (n + 1) x1 V = tw_off_B26 (fun x1 V => tw_off_L26 n x1 V) x1 V := lp_s (tw_off_F26) n (x1, V)
def tw_off_B62 (rec : Int32 → Int32 → g_V → Option (Int32 × g_V)) (x1 : Int32) (x2 : Int32) (V : g_V) : Option (Int32 × g_V) :=
  if 60 < x2 then (some (x1, V)) else (if x1 = (-1) then (bnd (tw_ticks V) (fun V_29 => bnd (tw_isShut V_29) (un2 fun x_32 V_33 => if x_32 = 0 then (nmI (x2 + 1) fun x_37 => rec x2 x_37 V_33) else (nmI (x2 + 1) fun x_35 => rec x1 x_35 V_33)))) else (some (x1, V)))
abbrev tw_off_F62 : ((Int32 × Int32 × g_V) → Option (Int32 × g_V)) → (Int32 × Int32 × g_V) → Option (Int32 × g_V) := fun rec s => tw_off_B62 (fun x1 x2 V => rec (x1, x2, V)) s.1 s.2.1 s.2.2
def tw_off_L62 (n : Nat) (x1 : Int32) (x2 : Int32) (V : g_V) : Option (Int32 × g_V) := lp (tw_off_F62) n (x1, x2, V)
theorem tw_off_L62_s (n : Nat) (x1 : Int32) (x2 : Int32) (V : g_V) : tw_off_L62 (n + 1) x1 x2 V = tw_off_B62 (fun x1 x2 V => tw_off_L62 n x1 x2 V) x1 x2 V := lp_s (tw_off_F62) n (x1, x2, V)
def tw_off (V0 : g_V) : Option (Int32 × g_V) :=
  bnd (tw_hasShaft V0) (fun x_3 => if x_3 = 0 then (some ((-6), V0)) else (bnd (tw_isShut V0) (un2 fun x_7 V_8 => if x_7 = 0 then (some ((-5), V_8)) else (bnd (tw_saves V_8) (fun V_12 => bnd (tw_off_L26 1000 0 V_12) (fun V_24 => bnd (tw_off_L62 1000 (-1) 1 V_24) (un2 fun x_41 V_42 => bnd (tw_putsBack V_42) (fun V_45 => some (x_41, V_45)))))))))
abbrev rmX8_off : Room := rm_ 7 162
set_option maxHeartbeats 4000000 in
theorem metX8_off {l : Launch} {gp : Nat → Nat} {nx : Nat} {D : va_G} {K : Nat → ClassId} {al : Nat → Nat} {V0 : g_V} {L0 : g_L} {r : Int32} {V' : g_V} (h : tw_off V0 = some (r, V')) : Met l yX8_off (ws_ yX8_off cX8_off 3 (some .int)) rmX8_off (twPc gp nx [.ref (al 0)] D K al V0 L0) (twQi r nx D K al V' L0) 0 0 (g_A al twSh) := by
  refine g_met rfl (Nat.le_of_ble_eq_true rfl) ?_
  intro p e s m below meth c ls S hr hlk hnm hl hW
  have S : CallFix p m c cX8_off 3 s ([.ref (al 0)] : List Value).toArray lw_all RX8 := S
  have hx := S.1
  have hb := S.2.1
  have hl : lv_has ls 3 [(0, .ref (al 0))] := hl
  have Lp26 : ∀ (L : g_L) (n : Nat) (x1 : Int32) (V : g_V) (out : (g_V)) (H : Heap) (locs : List Loc) (ls : Array Slot), tw_off_L26 n x1 V = some out → twW gp nx D K al s V L H locs → lv_has ls 3 [(0, .ref (al 0)), (1, .int x1)] → (∀ (oV : g_V), out = oV → ∀ (H : Heap) (locs : List Loc) (ls : Array Slot), twW gp nx D K al s oV L H locs → lv_has ls 3 [(0, .ref (al 0))] → W p l e rmX8_off s m ([.ref (al 0)] : List Value).toArray below meth c H locs 0 0 (MQ below (twQi r nx D K al V' L0) ([.ref (al 0)] : List Value).toArray s 0 0 (g_A al twSh)) (F0 m 58 ls [])) → W p l e rmX8_off s m ([.ref (al 0)] : List Value).toArray below meth c H locs 0 0 (MQ below (twQi r nx D K al V' L0) ([.ref (al 0)] : List Value).toArray s 0 0 (g_A al twSh)) (F0 m 26 ls []) := by
    intro L n
    induction n with
    | zero =>
      intro x1 V out H locs ls h
      exact (lp_0 h).elim
    | succ n ih =>
      intro x1 V out H locs ls h hW hl k1
      rw [tw_off_L26_s] at h
      unfold tw_off_B26 at h
      refine lv_iload_n hx hb dX8_off_26 rfl (lv_at hl 1 rfl) ?_
      refine lv_aload_n hx hb dX8_off_27 rfl (lv_at hl 0 rfl) ?_
      refine tw_ref S hW 1 1 (by decide) rfl q1500 rfl dX8_off_28 ?_
      refine lv_iconst (v := 2) hx hb dX8_off_31 (by decide) ?_
      obtain ⟨h_14, x_13, e_15, h⟩ := rdI_some h
      refine g_iald S hW (k := 1) rfl rfl h_14 e_15 dX8_off_32 ?_
      refine lv_icmp_ge (tgt := 58) hx hb dX8_off_33 (by decide) (fun c_16 => ?_) (fun c_16 => ?_)
      · have h := if_t h c_16
        exact k1 _ (Option.some.inj h).symm _ _ _ hW (lv_sub hl [0] rfl)
      · have h := if_f h c_16
        refine lv_aload_n hx hb dX8_off_36 rfl (lv_at hl 0 rfl) ?_
        refine tw_ref S hW 1 1 (by decide) rfl q1500 rfl dX8_off_37 ?_
        refine lv_sipush (v := 624) hx hb dX8_off_40 (by decide) ?_
        refine lv_bipush (v := 6) hx hb dX8_off_43 (by decide) ?_
        refine lv_iload_n hx hb dX8_off_45 rfl (lv_at hl 1 rfl) ?_
        refine lv_imul hx hb dX8_off_46 ?_
        refine lv_iadd hx hb dX8_off_47 ?_
        refine lv_iconst (v := 3) hx hb dX8_off_48 (by decide) ?_
        refine lv_iadd hx hb dX8_off_49 ?_
        refine lv_iconst (v := 0) hx hb dX8_off_50 (by decide) ?_
        obtain ⟨h_17, V_19, e_18, h⟩ := wrI_some h
        refine g_iast S hW (k := 1) rfl rfl h_17 e_18 dX8_off_51 (fun H locs hW => ?_)
        obtain ⟨x_20, e_21, h⟩ := nmI_some h
        refine lv_iinc (v := x_20) (lv' := [(1, .int x_20), (0, .ref (al 0))]) hx hb dX8_off_52 hl (k := 1) rfl (by rw [e_21]; rfl) (by decide) rfl (fun ls hl => ?_)
        refine lv_goto (tgt := 26) hx hb dX8_off_55 (by decide) ?_
        exact ih x_20 V_19 out _ _ _ h hW (lv_sub hl [1, 0] rfl) k1
  have Lp62 : ∀ (L : g_L) (n : Nat) (x1 : Int32) (x2 : Int32) (V : g_V) (out : (Int32 × g_V)) (H : Heap) (locs : List Loc) (ls : Array Slot), tw_off_L62 n x1 x2 V = some out → twW gp nx D K al s V L H locs → lv_has ls 3 [(0, .ref (al 0)), (1, .int x1), (2, .int x2)] → (∀ (o1 : Int32) (oV : g_V), out = (o1, oV) → ∀ (H : Heap) (locs : List Loc) (ls : Array Slot), twW gp nx D K al s oV L H locs → lv_has ls 3 [(0, .ref (al 0)), (1, .int o1)] → W p l e rmX8_off s m ([.ref (al 0)] : List Value).toArray below meth c H locs 0 0 (MQ below (twQi r nx D K al V' L0) ([.ref (al 0)] : List Value).toArray s 0 0 (g_A al twSh)) (F0 m 92 ls [])) → W p l e rmX8_off s m ([.ref (al 0)] : List Value).toArray below meth c H locs 0 0 (MQ below (twQi r nx D K al V' L0) ([.ref (al 0)] : List Value).toArray s 0 0 (g_A al twSh)) (F0 m 62 ls []) := by
    intro L n
    induction n with
    | zero =>
      intro x1 x2 V out H locs ls h
      exact (lp_0 h).elim
    | succ n ih =>
      intro x1 x2 V out H locs ls h hW hl k1
      rw [tw_off_L62_s] at h
      unfold tw_off_B62 at h
      refine lv_iload_n hx hb dX8_off_62 rfl (lv_at hl 2 rfl) ?_
      refine lv_bipush (v := 60) hx hb dX8_off_63 (by decide) ?_
      refine lv_icmp_gt (tgt := 92) hx hb dX8_off_65 (by decide) (fun c_25 => ?_) (fun c_25 => ?_)
      · have h := if_t h c_25
        exact k1 _ _ (Option.some.inj h).symm _ _ _ hW (lv_sub hl [0, 1] rfl)
      · have h := if_f h c_25
        refine lv_iload_n hx hb dX8_off_68 rfl (lv_at hl 1 rfl) ?_
        refine lv_iconst (v := (-1)) hx hb dX8_off_69 (by decide) ?_
        refine lv_icmp_ne (tgt := 92) hx hb dX8_off_70 (by decide) (fun c_26 => ?_) (fun c_26 => ?_)
        · have h := if_f h c_26
          exact k1 _ _ (Option.some.inj h).symm _ _ _ hW (lv_sub hl [0, 1] rfl)
        · have h := if_t h c_26
          refine lv_aload_n hx hb dX8_off_73 rfl (lv_at hl 0 rfl) ?_
          obtain ⟨V_29, h_27, h⟩ := bnd_some h
          refine g_callVv (As := []) (rest := []) S hW (metX8_ticks h_27) (cwX8_ticks S.2.2.2.2 q1767 ⟨Nat.le_of_ble_eq_true rfl, Nat.le_of_ble_eq_true rfl⟩) (k := 0) rfl rfl rfl hl.1 rfl (Nat.le_of_ble_eq_true rfl) dX8_off_74 ⟨Nat.le_refl _, Nat.le_refl _⟩ (fun H locs hW => ?_)
          refine lv_aload_n hx hb dX8_off_77 rfl (lv_at hl 0 rfl) ?_
          obtain ⟨x_32, V_33, h_30, h⟩ := bnd2_some h
          refine g_callVi (As := []) (rest := []) S hW (metX8_isShut h_30) (cwX8_isShut S.2.2.2.2 q1819 ⟨Nat.le_of_ble_eq_true rfl, Nat.le_of_ble_eq_true rfl⟩) (k := 0) rfl rfl rfl hl.1 rfl (Nat.le_of_ble_eq_true rfl) dX8_off_78 ⟨Nat.le_refl _, Nat.le_refl _⟩ (fun H locs hW => ?_)
          refine lv_if_ne (tgt := 86) hx hb dX8_off_81 (by decide) (fun c_34 => ?_) (fun c_34 => ?_)
          · have h := if_f h c_34
            obtain ⟨x_35, e_36, h⟩ := nmI_some h
            refine lv_iinc (v := x_35) (lv' := [(2, .int x_35), (0, .ref (al 0)), (1, .int x1)]) hx hb dX8_off_86 hl (k := 2) rfl (by rw [e_36]; rfl) (by decide) rfl (fun ls hl => ?_)
            refine lv_goto (tgt := 62) hx hb dX8_off_89 (by decide) ?_
            exact ih x1 x_35 V_33 out _ _ _ h hW (lv_sub hl [1, 2, 0] rfl) k1
          · have h := if_t h c_34
            refine lv_iload_n hx hb dX8_off_84 rfl (lv_at hl 2 rfl) ?_
            refine lv_istore_n (lv' := [(1, .int x2), (0, .ref (al 0)), (2, .int x2)]) hx hb dX8_off_85 rfl hl (by decide) rfl (fun ls hl => ?_)
            obtain ⟨x_37, e_38, h⟩ := nmI_some h
            refine lv_iinc (v := x_37) (lv' := [(2, .int x_37), (1, .int x2), (0, .ref (al 0))]) hx hb dX8_off_86 hl (k := 2) rfl (by rw [e_38]; rfl) (by decide) rfl (fun ls hl => ?_)
            refine lv_goto (tgt := 62) hx hb dX8_off_89 (by decide) ?_
            exact ih x2 x_37 V_33 out _ _ _ h hW (lv_sub hl [2, 1, 0] rfl) k1
  unfold tw_off at h
  refine lv_aload_n hx hb dX8_off_0 rfl (lv_at hl 0 rfl) ?_
  obtain ⟨x_3, h_1, h⟩ := bnd_some h
  refine g_callVi (As := []) (rest := []) S hW (metX8_hasShaft h_1) (cwX8_hasShaft S.2.2.2.2 q1873 ⟨Nat.le_of_ble_eq_true rfl, Nat.le_of_ble_eq_true rfl⟩) (k := 0) rfl rfl rfl hl.1 rfl (Nat.le_of_ble_eq_true rfl) dX8_off_1 ⟨Nat.le_refl _, Nat.le_refl _⟩ (fun H locs hW => ?_)
  refine lv_if_ne (tgt := 10) hx hb dX8_off_4 (by decide) (fun c_4 => ?_) (fun c_4 => ?_)
  · have h := if_f h c_4
    refine lv_aload_n hx hb dX8_off_10 rfl (lv_at hl 0 rfl) ?_
    obtain ⟨x_7, V_8, h_5, h⟩ := bnd2_some h
    refine g_callVi (As := []) (rest := []) S hW (metX8_isShut h_5) (cwX8_isShut S.2.2.2.2 q1819 ⟨Nat.le_of_ble_eq_true rfl, Nat.le_of_ble_eq_true rfl⟩) (k := 0) rfl rfl rfl hl.1 rfl (Nat.le_of_ble_eq_true rfl) dX8_off_11 ⟨Nat.le_refl _, Nat.le_refl _⟩ (fun H locs hW => ?_)
    refine lv_if_ne (tgt := 20) hx hb dX8_off_14 (by decide) (fun c_9 => ?_) (fun c_9 => ?_)
    · have h := if_f h c_9
      refine lv_aload_n hx hb dX8_off_20 rfl (lv_at hl 0 rfl) ?_
      obtain ⟨V_12, h_10, h⟩ := bnd_some h
      refine g_callVv (As := []) (rest := []) S hW (metX8_saves h_10) (cwX8_saves S.2.2.2.2 q1957 ⟨Nat.le_of_ble_eq_true rfl, Nat.le_of_ble_eq_true rfl⟩) (k := 0) rfl rfl rfl hl.1 rfl (Nat.le_of_ble_eq_true rfl) dX8_off_21 ⟨Nat.le_refl _, Nat.le_refl _⟩ (fun H locs hW => ?_)
      refine lv_iconst (v := 0) hx hb dX8_off_24 (by decide) ?_
      refine lv_istore_n (lv' := [(1, .int 0), (0, .ref (al 0))]) hx hb dX8_off_25 rfl hl (by decide) rfl (fun ls hl => ?_)
      obtain ⟨V_24, h_23, h⟩ := bnd_some h
      refine Lp26 L0 1000 0 V_12  _ _ _ _ h_23 hW (lv_sub hl [1, 0] rfl) ?_
      intro w0 eo H locs ls hW hl
      subst eo
      refine lv_iconst (v := (-1)) hx hb dX8_off_58 (by decide) ?_
      refine lv_istore_n (lv' := [(1, .int (-1)), (0, .ref (al 0))]) hx hb dX8_off_59 rfl hl (by decide) rfl (fun ls hl => ?_)
      refine lv_iconst (v := 1) hx hb dX8_off_60 (by decide) ?_
      refine lv_istore_n (lv' := [(2, .int 1), (1, .int (-1)), (0, .ref (al 0))]) hx hb dX8_off_61 rfl hl (by decide) rfl (fun ls hl => ?_)
      obtain ⟨x_41, V_42, h_40, h⟩ := bnd2_some h
      refine Lp62 L0 1000 (-1) 1 V_24  _ _ _ _ h_40 hW (lv_sub hl [2, 1, 0] rfl) ?_
      intro w0 w1 eo H locs ls hW hl
      cases eo
      refine lv_aload_n hx hb dX8_off_92 rfl (lv_at hl 0 rfl) ?_
      obtain ⟨V_45, h_43, h⟩ := bnd_some h
      refine g_callVv (As := []) (rest := []) S hW (metX8_putsBack h_43) (cwX8_putsBack S.2.2.2.2 q1961 ⟨Nat.le_of_ble_eq_true rfl, Nat.le_of_ble_eq_true rfl⟩) (k := 0) rfl rfl rfl hl.1 rfl (Nat.le_of_ble_eq_true rfl) dX8_off_93 ⟨Nat.le_refl _, Nat.le_refl _⟩ (fun H locs hW => ?_)
      refine lv_iload_n hx hb dX8_off_96 rfl (lv_at hl 1 rfl) ?_
      cases h
      exact g_iret S hr hlk hW dX8_off_97
    · have h := if_t h c_9
      refine lv_bipush (v := (-5)) hx hb dX8_off_17 (by decide) ?_
      cases h
      exact g_iret S hr hlk hW dX8_off_19
  · have h := if_t h c_4
    refine lv_bipush (v := (-6)) hx hb dX8_off_7 (by decide) ?_
    cases h
    exact g_iret S hr hlk hW dX8_off_9
theorem cwX8_off {R : Room} {s : State} {args : Array Value} {index : Nat} (hts : ∀ w ∈ lw_all, w.before args s = true) (hl : Cond.methodLink RX8 index yX8_off ∈ lw_all) (hR : rmX8_off.frames + 1 ≤ R.frames ∧ 8 + (3 + 11) + rmX8_off.locals ≤ R.locals) : CallW R s args RX8 RX8 index yX8_off cX8_off 3 (some .int) (ws_ yX8_off cX8_off 3 (some .int)) rmX8_off 0 0 0 := cwV 0 hts (lw_V hl q1966 q1967 q122 q1968) rfl rfl rfl (by decide +kernel) hR
def tw_shutsBy_B48 (x1 : Int32) (x2 : Int32) (x3 : Int32) (x4 : Int32) (x5 : Int32) (L : g_L) (rec : Int32 → g_V → Option (g_V)) (x6 : Int32) (V : g_V) : Option (g_V) :=
  if 6 ≤ x6 then (some V) else (wrI V 1 810 (x5 + x6) 0 fun V_17 => nmI (x6 + 1) fun x_18 => rec x_18 V_17)
abbrev tw_shutsBy_F48 (x1 : Int32) (x2 : Int32) (x3 : Int32) (x4 : Int32) (x5 : Int32) (L : g_L) : ((Int32 × g_V) → Option (g_V)) → (Int32 × g_V) → Option (g_V) := fun rec s => tw_shutsBy_B48 x1 x2 x3 x4 x5 L (fun x6 V => rec (x6, V)) s.1 s.2
def tw_shutsBy_L48 (x1 : Int32) (x2 : Int32) (x3 : Int32) (x4 : Int32) (x5 : Int32) (L : g_L) (n : Nat) (x6 : Int32) (V : g_V) : Option (g_V) := lp (tw_shutsBy_F48 x1 x2 x3 x4 x5 L) n (x6, V)
theorem tw_shutsBy_L48_s (x1 : Int32) (x2 : Int32) (x3 : Int32) (x4 : Int32) (x5 : Int32) (L : g_L) (n : Nat) (x6 : Int32) (V : g_V) : tw_shutsBy_L48 x1 x2 x3 x4 x5 L (n + 1) x6 V = tw_shutsBy_B48 x1 x2 x3 x4 x5 L (fun x6 V => tw_shutsBy_L48 x1 x2 x3 x4 x5 L n x6 V) x6 V := lp_s (tw_shutsBy_F48 x1 x2 x3 x4 x5 L) n (x6, V)
def tw_shutsBy_B7 (x1 : Int32) (x2 : Int32) (x3 : Int32) (L : g_L) (rec : Int32 → g_V → Option (g_V)) (x4 : Int32) (V : g_V) : Option (g_V) :=
  rdI (V 36) 4 x1 fun x_4 => if x_4 ≤ x4 then (some V) else (if ((x2 >>> (x4 &&& 31)) &&& 1) = 0 then (nmI (x4 + 1) fun x_52 => rec x_52 V) else (rdI (V 1) 810 2 fun x_9 => nmI (624 + (6 * x_9)) fun x_12 => bnd (tw_shutsBy_L48 x1 x2 x3 x4 x_12 L 1000 0 V) (fun V_22 => rdL (L 38) 240 ((60 * x1) + x4) fun x_23 => wrI V_22 1 810 x_12 x_23.toInt32 fun V_28 => rdI (V_28 1) 810 625 fun x_29 => wrI V_28 1 810 (x_12 + 1) x_29 fun V_34 => rdI (V_34 1) 810 626 fun x_35 => wrI V_34 1 810 (x_12 + 2) x_35 fun V_40 => wrI V_40 1 810 (x_12 + 3) 1 fun V_43 => rdI (V_43 1) 810 2 fun x_44 => wrI V_43 1 810 2 (x_44 + 1) fun V_49 => nmI (x4 + 1) fun x_50 => rec x_50 V_49)))
abbrev tw_shutsBy_F7 (x1 : Int32) (x2 : Int32) (x3 : Int32) (L : g_L) : ((Int32 × g_V) → Option (g_V)) → (Int32 × g_V) → Option (g_V) := fun rec s => tw_shutsBy_B7 x1 x2 x3 L (fun x4 V => rec (x4, V)) s.1 s.2
def tw_shutsBy_L7 (x1 : Int32) (x2 : Int32) (x3 : Int32) (L : g_L) (n : Nat) (x4 : Int32) (V : g_V) : Option (g_V) := lp (tw_shutsBy_F7 x1 x2 x3 L) n (x4, V)
theorem tw_shutsBy_L7_s (x1 : Int32) (x2 : Int32) (x3 : Int32) (L : g_L) (n : Nat) (x4 : Int32) (V : g_V) : tw_shutsBy_L7 x1 x2 x3 L (n + 1) x4 V = tw_shutsBy_B7 x1 x2 x3 L (fun x4 V => tw_shutsBy_L7 x1 x2 x3 L n x4 V) x4 V := lp_s (tw_shutsBy_F7 x1 x2 x3 L) n (x4, V)
def tw_shutsBy_B155 (x3 : Int32) (L : g_L) (rec : Int32 → g_V → Option (g_V)) (x4 : Int32) (V : g_V) : Option (g_V) :=
  if x3 ≤ x4 then (some V) else (bnd (tw_ticks V) (fun V_60 => nmI (x4 + 1) fun x_61 => rec x_61 V_60))
abbrev tw_shutsBy_F155 (x3 : Int32) (L : g_L) : ((Int32 × g_V) → Option (g_V)) → (Int32 × g_V) → Option (g_V) := fun rec s => tw_shutsBy_B155 x3 L (fun x4 V => rec (x4, V)) s.1 s.2
def tw_shutsBy_L155 (x3 : Int32) (L : g_L) (n : Nat) (x4 : Int32) (V : g_V) : Option (g_V) := lp (tw_shutsBy_F155 x3 L) n (x4, V)
theorem tw_shutsBy_L155_s (x3 : Int32) (L : g_L) (n : Nat) (x4 : Int32) (V : g_V) : tw_shutsBy_L155 x3 L (n + 1) x4 V = tw_shutsBy_B155 x3 L (fun x4 V => tw_shutsBy_L155 x3 L n x4 V) x4 V := lp_s (tw_shutsBy_F155 x3 L) n (x4, V)
def tw_shutsBy (V0 : g_V) (L0 : g_L) (a1 : Int32) (a2 : Int32) (a3 : Int32) : Option (Int32 × g_V) :=
  bnd (tw_saves V0) (fun V_3 => bnd (tw_shutsBy_L7 a1 a2 a3 L0 1000 0 V_3) (fun V_56 => bnd (tw_shutsBy_L155 a3 L0 1000 0 V_56) (fun V_65 => bnd (tw_isShut V_65) (un2 fun x_68 V_69 => bnd (tw_putsBack V_69) (fun V_72 => okI (isB x_68) <| some (x_68, V_72))))))
abbrev rmX8_shutsBy : Room := rm_ 7 162
set_option maxHeartbeats 4000000 in
theorem metX8_shutsBy {l : Launch} {gp : Nat → Nat} {nx : Nat} {D : va_G} {K : Nat → ClassId} {al : Nat → Nat} {V0 : g_V} {L0 : g_L} {a1 : Int32} {a2 : Int32} {a3 : Int32} {r : Int32} {V' : g_V} (h : tw_shutsBy V0 L0 a1 a2 a3 = some (r, V')) : Met l yX8_shutsBy (ws_ yX8_shutsBy cX8_shutsBy 7 (some .boolean)) rmX8_shutsBy (twPc gp nx [.ref (al 0), .int a1, .int a2, .int a3] D K al V0 L0) (twQi r nx D K al V' L0) 0 0 (g_A al twSh) := by
  refine g_met rfl (Nat.le_of_ble_eq_true rfl) ?_
  intro p e s m below meth c ls S hr hlk hnm hl hW
  have S : CallFix p m c cX8_shutsBy 7 s ([.ref (al 0), .int a1, .int a2, .int a3] : List Value).toArray lw_all RX8 := S
  have hx := S.1
  have hb := S.2.1
  have hl : lv_has ls 7 [(0, .ref (al 0)), (1, .int a1), (2, .int a2), (3, .int a3)] := hl
  have Lp48 : ∀ (x1 : Int32) (x2 : Int32) (x3 : Int32) (x4 : Int32) (x5 : Int32) (L : g_L) (n : Nat) (x6 : Int32) (V : g_V) (out : (g_V)) (H : Heap) (locs : List Loc) (ls : Array Slot), tw_shutsBy_L48 x1 x2 x3 x4 x5 L n x6 V = some out → twW gp nx D K al s V L H locs → lv_has ls 7 [(0, .ref (al 0)), (1, .int x1), (2, .int x2), (3, .int x3), (4, .int x4), (5, .int x5), (6, .int x6)] → (∀ (oV : g_V), out = oV → ∀ (H : Heap) (locs : List Loc) (ls : Array Slot), twW gp nx D K al s oV L H locs → lv_has ls 7 [(0, .ref (al 0)), (1, .int x1), (2, .int x2), (3, .int x3), (4, .int x4), (5, .int x5)] → W p l e rmX8_shutsBy s m ([.ref (al 0), .int a1, .int a2, .int a3] : List Value).toArray below meth c H locs 0 0 (MQ below (twQi r nx D K al V' L0) ([.ref (al 0), .int a1, .int a2, .int a3] : List Value).toArray s 0 0 (g_A al twSh)) (F0 m 72 ls [])) → W p l e rmX8_shutsBy s m ([.ref (al 0), .int a1, .int a2, .int a3] : List Value).toArray below meth c H locs 0 0 (MQ below (twQi r nx D K al V' L0) ([.ref (al 0), .int a1, .int a2, .int a3] : List Value).toArray s 0 0 (g_A al twSh)) (F0 m 48 ls []) := by
    intro x1 x2 x3 x4 x5 L n
    induction n with
    | zero =>
      intro x6 V out H locs ls h
      exact (lp_0 h).elim
    | succ n ih =>
      intro x6 V out H locs ls h hW hl k1
      rw [tw_shutsBy_L48_s] at h
      unfold tw_shutsBy_B48 at h
      refine lv_iload hx hb dX8_shutsBy_48 (lv_at hl 6 rfl) ?_
      refine lv_bipush (v := 6) hx hb dX8_shutsBy_50 (by decide) ?_
      refine lv_icmp_ge (tgt := 72) hx hb dX8_shutsBy_52 (by decide) (fun c_14 => ?_) (fun c_14 => ?_)
      · have h := if_t h c_14
        exact k1 _ (Option.some.inj h).symm _ _ _ hW (lv_sub hl [0, 1, 2, 3, 4, 5] rfl)
      · have h := if_f h c_14
        refine lv_aload_n hx hb dX8_shutsBy_55 rfl (lv_at hl 0 rfl) ?_
        refine tw_ref S hW 1 1 (by decide) rfl q1500 rfl dX8_shutsBy_56 ?_
        refine lv_iload hx hb dX8_shutsBy_59 (lv_at hl 5 rfl) ?_
        refine lv_iload hx hb dX8_shutsBy_61 (lv_at hl 6 rfl) ?_
        refine lv_iadd hx hb dX8_shutsBy_63 ?_
        refine lv_iconst (v := 0) hx hb dX8_shutsBy_64 (by decide) ?_
        obtain ⟨h_15, V_17, e_16, h⟩ := wrI_some h
        refine g_iast S hW (k := 1) rfl rfl h_15 e_16 dX8_shutsBy_65 (fun H locs hW => ?_)
        obtain ⟨x_18, e_19, h⟩ := nmI_some h
        refine lv_iinc (v := x_18) (lv' := [(6, .int x_18), (0, .ref (al 0)), (1, .int x1), (2, .int x2), (3, .int x3), (4, .int x4), (5, .int x5)]) hx hb dX8_shutsBy_66 hl (k := 6) rfl (by rw [e_19]; rfl) (by decide) rfl (fun ls hl => ?_)
        refine lv_goto (tgt := 48) hx hb dX8_shutsBy_69 (by decide) ?_
        exact ih x_18 V_17 out _ _ _ h hW (lv_sub hl [1, 2, 3, 4, 5, 6, 0] rfl) k1
  have Lp7 : ∀ (x1 : Int32) (x2 : Int32) (x3 : Int32) (L : g_L) (n : Nat) (x4 : Int32) (V : g_V) (out : (g_V)) (H : Heap) (locs : List Loc) (ls : Array Slot), tw_shutsBy_L7 x1 x2 x3 L n x4 V = some out → twW gp nx D K al s V L H locs → lv_has ls 7 [(0, .ref (al 0)), (1, .int x1), (2, .int x2), (3, .int x3), (4, .int x4)] → (∀ (oV : g_V), out = oV → ∀ (H : Heap) (locs : List Loc) (ls : Array Slot), twW gp nx D K al s oV L H locs → lv_has ls 7 [(0, .ref (al 0)), (3, .int x3)] → W p l e rmX8_shutsBy s m ([.ref (al 0), .int a1, .int a2, .int a3] : List Value).toArray below meth c H locs 0 0 (MQ below (twQi r nx D K al V' L0) ([.ref (al 0), .int a1, .int a2, .int a3] : List Value).toArray s 0 0 (g_A al twSh)) (F0 m 152 ls [])) → W p l e rmX8_shutsBy s m ([.ref (al 0), .int a1, .int a2, .int a3] : List Value).toArray below meth c H locs 0 0 (MQ below (twQi r nx D K al V' L0) ([.ref (al 0), .int a1, .int a2, .int a3] : List Value).toArray s 0 0 (g_A al twSh)) (F0 m 7 ls []) := by
    intro x1 x2 x3 L n
    induction n with
    | zero =>
      intro x4 V out H locs ls h
      exact (lp_0 h).elim
    | succ n ih =>
      intro x4 V out H locs ls h hW hl k1
      rw [tw_shutsBy_L7_s] at h
      unfold tw_shutsBy_B7 at h
      refine lv_iload hx hb dX8_shutsBy_7 (lv_at hl 4 rfl) ?_
      refine lv_aload_n hx hb dX8_shutsBy_9 rfl (lv_at hl 0 rfl) ?_
      refine tw_ref S hW 36 36 (by decide) rfl q1535 rfl dX8_shutsBy_10 ?_
      refine lv_iload_n hx hb dX8_shutsBy_13 rfl (lv_at hl 1 rfl) ?_
      obtain ⟨h_5, x_4, e_6, h⟩ := rdI_some h
      refine g_iald S hW (k := 36) rfl rfl h_5 e_6 dX8_shutsBy_14 ?_
      refine lv_icmp_ge (tgt := 152) hx hb dX8_shutsBy_15 (by decide) (fun c_7 => ?_) (fun c_7 => ?_)
      · have h := if_t h c_7
        exact k1 _ (Option.some.inj h).symm _ _ _ hW (lv_sub hl [0, 3] rfl)
      · have h := if_f h c_7
        refine lv_iload_n hx hb dX8_shutsBy_18 rfl (lv_at hl 2 rfl) ?_
        refine lv_iload hx hb dX8_shutsBy_19 (lv_at hl 4 rfl) ?_
        refine lv_ishr hx hb dX8_shutsBy_21 ?_
        refine lv_iconst (v := 1) hx hb dX8_shutsBy_22 (by decide) ?_
        refine lv_iand hx hb dX8_shutsBy_23 ?_
        refine lv_if_ne (tgt := 30) hx hb dX8_shutsBy_24 (by decide) (fun c_8 => ?_) (fun c_8 => ?_)
        · have h := if_f h c_8
          refine lv_sipush (v := 624) hx hb dX8_shutsBy_30 (by decide) ?_
          refine lv_bipush (v := 6) hx hb dX8_shutsBy_33 (by decide) ?_
          refine lv_aload_n hx hb dX8_shutsBy_35 rfl (lv_at hl 0 rfl) ?_
          refine tw_ref S hW 1 1 (by decide) rfl q1500 rfl dX8_shutsBy_36 ?_
          refine lv_iconst (v := 2) hx hb dX8_shutsBy_39 (by decide) ?_
          obtain ⟨h_10, x_9, e_11, h⟩ := rdI_some h
          refine g_iald S hW (k := 1) rfl rfl h_10 e_11 dX8_shutsBy_40 ?_
          refine lv_imul hx hb dX8_shutsBy_41 ?_
          refine lv_iadd hx hb dX8_shutsBy_42 ?_
          obtain ⟨x_12, e_13, h⟩ := nmI_some h
          refine g_nmi e_13 ?_
          refine lv_istore (lv' := [(5, .int x_12), (0, .ref (al 0)), (1, .int x1), (2, .int x2), (3, .int x3), (4, .int x4)]) hx hb dX8_shutsBy_43 hl (by decide) rfl (fun ls hl => ?_)
          refine lv_iconst (v := 0) hx hb dX8_shutsBy_45 (by decide) ?_
          refine lv_istore (lv' := [(6, .int 0), (5, .int x_12), (0, .ref (al 0)), (1, .int x1), (2, .int x2), (3, .int x3), (4, .int x4)]) hx hb dX8_shutsBy_46 hl (by decide) rfl (fun ls hl => ?_)
          obtain ⟨V_22, h_21, h⟩ := bnd_some h
          refine Lp48 x1 x2 x3 x4 x_12 L 1000 0 V  _ _ _ _ h_21 hW (lv_sub hl [2, 3, 4, 5, 6, 1, 0] rfl) ?_
          intro w0 eo H locs ls hW hl
          subst eo
          refine lv_aload_n hx hb dX8_shutsBy_72 rfl (lv_at hl 0 rfl) ?_
          refine tw_ref S hW 1 1 (by decide) rfl q1500 rfl dX8_shutsBy_73 ?_
          refine lv_iload hx hb dX8_shutsBy_76 (lv_at hl 5 rfl) ?_
          refine lv_aload_n hx hb dX8_shutsBy_78 rfl (lv_at hl 0 rfl) ?_
          refine tw_ref S hW 38 38 (by decide) rfl q1537 rfl dX8_shutsBy_79 ?_
          refine lv_bipush (v := 60) hx hb dX8_shutsBy_82 (by decide) ?_
          refine lv_iload_n hx hb dX8_shutsBy_84 rfl (lv_at hl 1 rfl) ?_
          refine lv_imul hx hb dX8_shutsBy_85 ?_
          refine lv_iload hx hb dX8_shutsBy_86 (lv_at hl 4 rfl) ?_
          refine lv_iadd hx hb dX8_shutsBy_88 ?_
          obtain ⟨h_24, x_23, e_25, h⟩ := rdL_some h
          refine g_lald S hW (k := 38) rfl rfl h_24 e_25 dX8_shutsBy_89 ?_
          refine lv_l2i (v := x_23.toInt32) hx hb dX8_shutsBy_90 rfl ?_
          obtain ⟨h_26, V_28, e_27, h⟩ := wrI_some h
          refine g_iast S hW (k := 1) rfl rfl h_26 e_27 dX8_shutsBy_91 (fun H locs hW => ?_)
          refine lv_aload_n hx hb dX8_shutsBy_92 rfl (lv_at hl 0 rfl) ?_
          refine tw_ref S hW 1 1 (by decide) rfl q1500 rfl dX8_shutsBy_93 ?_
          refine lv_iload hx hb dX8_shutsBy_96 (lv_at hl 5 rfl) ?_
          refine lv_iconst (v := 1) hx hb dX8_shutsBy_98 (by decide) ?_
          refine lv_iadd hx hb dX8_shutsBy_99 ?_
          refine lv_aload_n hx hb dX8_shutsBy_100 rfl (lv_at hl 0 rfl) ?_
          refine tw_ref S hW 1 1 (by decide) rfl q1500 rfl dX8_shutsBy_101 ?_
          refine lv_sipush (v := 625) hx hb dX8_shutsBy_104 (by decide) ?_
          obtain ⟨h_30, x_29, e_31, h⟩ := rdI_some h
          refine g_iald S hW (k := 1) rfl rfl h_30 e_31 dX8_shutsBy_107 ?_
          obtain ⟨h_32, V_34, e_33, h⟩ := wrI_some h
          refine g_iast S hW (k := 1) rfl rfl h_32 e_33 dX8_shutsBy_108 (fun H locs hW => ?_)
          refine lv_aload_n hx hb dX8_shutsBy_109 rfl (lv_at hl 0 rfl) ?_
          refine tw_ref S hW 1 1 (by decide) rfl q1500 rfl dX8_shutsBy_110 ?_
          refine lv_iload hx hb dX8_shutsBy_113 (lv_at hl 5 rfl) ?_
          refine lv_iconst (v := 2) hx hb dX8_shutsBy_115 (by decide) ?_
          refine lv_iadd hx hb dX8_shutsBy_116 ?_
          refine lv_aload_n hx hb dX8_shutsBy_117 rfl (lv_at hl 0 rfl) ?_
          refine tw_ref S hW 1 1 (by decide) rfl q1500 rfl dX8_shutsBy_118 ?_
          refine lv_sipush (v := 626) hx hb dX8_shutsBy_121 (by decide) ?_
          obtain ⟨h_36, x_35, e_37, h⟩ := rdI_some h
          refine g_iald S hW (k := 1) rfl rfl h_36 e_37 dX8_shutsBy_124 ?_
          obtain ⟨h_38, V_40, e_39, h⟩ := wrI_some h
          refine g_iast S hW (k := 1) rfl rfl h_38 e_39 dX8_shutsBy_125 (fun H locs hW => ?_)
          refine lv_aload_n hx hb dX8_shutsBy_126 rfl (lv_at hl 0 rfl) ?_
          refine tw_ref S hW 1 1 (by decide) rfl q1500 rfl dX8_shutsBy_127 ?_
          refine lv_iload hx hb dX8_shutsBy_130 (lv_at hl 5 rfl) ?_
          refine lv_iconst (v := 3) hx hb dX8_shutsBy_132 (by decide) ?_
          refine lv_iadd hx hb dX8_shutsBy_133 ?_
          refine lv_iconst (v := 1) hx hb dX8_shutsBy_134 (by decide) ?_
          obtain ⟨h_41, V_43, e_42, h⟩ := wrI_some h
          refine g_iast S hW (k := 1) rfl rfl h_41 e_42 dX8_shutsBy_135 (fun H locs hW => ?_)
          refine lv_aload_n hx hb dX8_shutsBy_136 rfl (lv_at hl 0 rfl) ?_
          refine tw_ref S hW 1 1 (by decide) rfl q1500 rfl dX8_shutsBy_137 ?_
          refine lv_iconst (v := 2) hx hb dX8_shutsBy_140 (by decide) ?_
          refine lv_dup2_11 hx hb dX8_shutsBy_141 rfl rfl ?_
          obtain ⟨h_45, x_44, e_46, h⟩ := rdI_some h
          refine g_iald S hW (k := 1) rfl rfl h_45 e_46 dX8_shutsBy_142 ?_
          refine lv_iconst (v := 1) hx hb dX8_shutsBy_143 (by decide) ?_
          refine lv_iadd hx hb dX8_shutsBy_144 ?_
          obtain ⟨h_47, V_49, e_48, h⟩ := wrI_some h
          refine g_iast S hW (k := 1) rfl rfl h_47 e_48 dX8_shutsBy_145 (fun H locs hW => ?_)
          obtain ⟨x_50, e_51, h⟩ := nmI_some h
          refine lv_iinc (v := x_50) (lv' := [(4, .int x_50), (0, .ref (al 0)), (1, .int x1), (2, .int x2), (3, .int x3), (5, .int x_12)]) hx hb dX8_shutsBy_146 hl (k := 4) rfl (by rw [e_51]; rfl) (by decide) rfl (fun ls hl => ?_)
          refine lv_goto (tgt := 7) hx hb dX8_shutsBy_149 (by decide) ?_
          exact ih x_50 V_49 out _ _ _ h hW (lv_sub hl [1, 2, 3, 4, 0] rfl) k1
        · have h := if_t h c_8
          refine lv_goto (tgt := 146) hx hb dX8_shutsBy_27 (by decide) ?_
          obtain ⟨x_52, e_53, h⟩ := nmI_some h
          refine lv_iinc (v := x_52) (lv' := [(4, .int x_52), (0, .ref (al 0)), (1, .int x1), (2, .int x2), (3, .int x3)]) hx hb dX8_shutsBy_146 hl (k := 4) rfl (by rw [e_53]; rfl) (by decide) rfl (fun ls hl => ?_)
          refine lv_goto (tgt := 7) hx hb dX8_shutsBy_149 (by decide) ?_
          exact ih x_52 V out _ _ _ h hW (lv_sub hl [1, 2, 3, 4, 0] rfl) k1
  have Lp155 : ∀ (x3 : Int32) (L : g_L) (n : Nat) (x4 : Int32) (V : g_V) (out : (g_V)) (H : Heap) (locs : List Loc) (ls : Array Slot), tw_shutsBy_L155 x3 L n x4 V = some out → twW gp nx D K al s V L H locs → lv_has ls 7 [(0, .ref (al 0)), (3, .int x3), (4, .int x4)] → (∀ (oV : g_V), out = oV → ∀ (H : Heap) (locs : List Loc) (ls : Array Slot), twW gp nx D K al s oV L H locs → lv_has ls 7 [(0, .ref (al 0))] → W p l e rmX8_shutsBy s m ([.ref (al 0), .int a1, .int a2, .int a3] : List Value).toArray below meth c H locs 0 0 (MQ below (twQi r nx D K al V' L0) ([.ref (al 0), .int a1, .int a2, .int a3] : List Value).toArray s 0 0 (g_A al twSh)) (F0 m 171 ls [])) → W p l e rmX8_shutsBy s m ([.ref (al 0), .int a1, .int a2, .int a3] : List Value).toArray below meth c H locs 0 0 (MQ below (twQi r nx D K al V' L0) ([.ref (al 0), .int a1, .int a2, .int a3] : List Value).toArray s 0 0 (g_A al twSh)) (F0 m 155 ls []) := by
    intro x3 L n
    induction n with
    | zero =>
      intro x4 V out H locs ls h
      exact (lp_0 h).elim
    | succ n ih =>
      intro x4 V out H locs ls h hW hl k1
      rw [tw_shutsBy_L155_s] at h
      unfold tw_shutsBy_B155 at h
      refine lv_iload hx hb dX8_shutsBy_155 (lv_at hl 2 rfl) ?_
      refine lv_iload_n hx hb dX8_shutsBy_157 rfl (lv_at hl 1 rfl) ?_
      refine lv_icmp_ge (tgt := 171) hx hb dX8_shutsBy_158 (by decide) (fun c_57 => ?_) (fun c_57 => ?_)
      · have h := if_t h c_57
        exact k1 _ (Option.some.inj h).symm _ _ _ hW (lv_sub hl [0] rfl)
      · have h := if_f h c_57
        refine lv_aload_n hx hb dX8_shutsBy_161 rfl (lv_at hl 0 rfl) ?_
        obtain ⟨V_60, h_58, h⟩ := bnd_some h
        refine g_callVv (As := []) (rest := []) S hW (metX8_ticks h_58) (cwX8_ticks S.2.2.2.2 q1767 ⟨Nat.le_of_ble_eq_true rfl, Nat.le_of_ble_eq_true rfl⟩) (k := 0) rfl rfl rfl hl.1 rfl (Nat.le_of_ble_eq_true rfl) dX8_shutsBy_162 ⟨Nat.le_refl _, Nat.le_refl _⟩ (fun H locs hW => ?_)
        obtain ⟨x_61, e_62, h⟩ := nmI_some h
        refine lv_iinc (v := x_61) (lv' := [(4, .int x_61), (0, .ref (al 0)), (3, .int x3)]) hx hb dX8_shutsBy_165 hl (k := 2) rfl (by rw [e_62]; rfl) (by decide) rfl (fun ls hl => ?_)
        refine lv_goto (tgt := 155) hx hb dX8_shutsBy_168 (by decide) ?_
        exact ih x_61 V_60 out _ _ _ h hW (lv_sub hl [1, 2, 0] rfl) k1
  unfold tw_shutsBy at h
  refine lv_aload_n hx hb dX8_shutsBy_0 rfl (lv_at hl 0 rfl) ?_
  obtain ⟨V_3, h_1, h⟩ := bnd_some h
  refine g_callVv (As := []) (rest := []) S hW (metX8_saves h_1) (cwX8_saves S.2.2.2.2 q1957 ⟨Nat.le_of_ble_eq_true rfl, Nat.le_of_ble_eq_true rfl⟩) (k := 0) rfl rfl rfl hl.1 rfl (Nat.le_of_ble_eq_true rfl) dX8_shutsBy_1 ⟨Nat.le_refl _, Nat.le_refl _⟩ (fun H locs hW => ?_)
  refine lv_iconst (v := 0) hx hb dX8_shutsBy_4 (by decide) ?_
  refine lv_istore (lv' := [(4, .int 0), (0, .ref (al 0)), (1, .int a1), (2, .int a2), (3, .int a3)]) hx hb dX8_shutsBy_5 hl (by decide) rfl (fun ls hl => ?_)
  obtain ⟨V_56, h_55, h⟩ := bnd_some h
  refine Lp7 a1 a2 a3 L0 1000 0 V_3  _ _ _ _ h_55 hW (lv_sub hl [1, 2, 3, 4, 0] rfl) ?_
  intro w0 eo H locs ls hW hl
  subst eo
  refine lv_iconst (v := 0) hx hb dX8_shutsBy_152 (by decide) ?_
  refine lv_istore (lv' := [(4, .int 0), (0, .ref (al 0)), (3, .int a3)]) hx hb dX8_shutsBy_153 hl (by decide) rfl (fun ls hl => ?_)
  obtain ⟨V_65, h_64, h⟩ := bnd_some h
  refine Lp155 a3 L0 1000 0 V_56  _ _ _ _ h_64 hW (lv_sub hl [1, 2, 0] rfl) ?_
  intro w0 eo H locs ls hW hl
  subst eo
  refine lv_aload_n hx hb dX8_shutsBy_171 rfl (lv_at hl 0 rfl) ?_
  obtain ⟨x_68, V_69, h_66, h⟩ := bnd2_some h
  refine g_callVi (As := []) (rest := []) S hW (metX8_isShut h_66) (cwX8_isShut S.2.2.2.2 q1819 ⟨Nat.le_of_ble_eq_true rfl, Nat.le_of_ble_eq_true rfl⟩) (k := 0) rfl rfl rfl hl.1 rfl (Nat.le_of_ble_eq_true rfl) dX8_shutsBy_172 ⟨Nat.le_refl _, Nat.le_refl _⟩ (fun H locs hW => ?_)
  refine lv_istore (lv' := [(4, .int x_68), (0, .ref (al 0))]) hx hb dX8_shutsBy_175 hl (by decide) rfl (fun ls hl => ?_)
  refine lv_aload_n hx hb dX8_shutsBy_177 rfl (lv_at hl 1 rfl) ?_
  obtain ⟨V_72, h_70, h⟩ := bnd_some h
  refine g_callVv (As := []) (rest := []) S hW (metX8_putsBack h_70) (cwX8_putsBack S.2.2.2.2 q1961 ⟨Nat.le_of_ble_eq_true rfl, Nat.le_of_ble_eq_true rfl⟩) (k := 0) rfl rfl rfl hl.1 rfl (Nat.le_of_ble_eq_true rfl) dX8_shutsBy_178 ⟨Nat.le_refl _, Nat.le_refl _⟩ (fun H locs hW => ?_)
  refine lv_iload hx hb dX8_shutsBy_181 (lv_at hl 0 rfl) ?_
  obtain ⟨h_73, h⟩ := okI_some h
  cases h
  exact g_zret S hr hlk (isB_narrow h_73) hW dX8_shutsBy_183
theorem cwX8_shutsBy {R : Room} {s : State} {args : Array Value} {index : Nat} (hts : ∀ w ∈ lw_all, w.before args s = true) (hl : Cond.methodLink RX8 index yX8_shutsBy ∈ lw_all) (hR : rmX8_shutsBy.frames + 1 ≤ R.frames ∧ 8 + (7 + 11) + rmX8_shutsBy.locals ≤ R.locals) : CallW R s args RX8 RX8 index yX8_shutsBy cX8_shutsBy 7 (some .boolean) (ws_ yX8_shutsBy cX8_shutsBy 7 (some .boolean)) rmX8_shutsBy 0 0 3 := cwV 3 hts (lw_V hl q1990 qs103 q122 q1991) rfl rfl rfl (by decide +kernel) hR
def tw_text_B47 (rec : Int32 → g_V → Option (g_V)) (x1 : Int32) (V : g_V) : Option (g_V) :=
  if 4 ≤ x1 then (some V) else (wrI V 16 4 x1 0 fun V_21 => nmI (x1 + 1) fun x_22 => rec x_22 V_21)
abbrev tw_text_F47 : ((Int32 × g_V) → Option (g_V)) → (Int32 × g_V) → Option (g_V) := fun rec s => tw_text_B47 (fun x1 V => rec (x1, V)) s.1 s.2
def tw_text_L47 (n : Nat) (x1 : Int32) (V : g_V) : Option (g_V) := lp (tw_text_F47) n (x1, V)
theorem tw_text_L47_s (n : Nat) (x1 : Int32) (V : g_V) : tw_text_L47 (n + 1) x1 V = tw_text_B47 (fun x1 V => tw_text_L47 n x1 V) x1 V := lp_s (tw_text_F47) n (x1, V)
def tw_text_B67 (rec : Int32 → g_V → Option (g_V)) (x1 : Int32) (V : g_V) : Option (g_V) :=
  if 12 ≤ x1 then (some V) else (wrI V 17 12 x1 0 fun V_30 => nmI (x1 + 1) fun x_31 => rec x_31 V_30)
abbrev tw_text_F67 : ((Int32 × g_V) → Option (g_V)) → (Int32 × g_V) → Option (g_V) := fun rec s => tw_text_B67 (fun x1 V => rec (x1, V)) s.1 s.2
def tw_text_L67 (n : Nat) (x1 : Int32) (V : g_V) : Option (g_V) := lp (tw_text_F67) n (x1, V)
theorem tw_text_L67_s (n : Nat) (x1 : Int32) (V : g_V) : tw_text_L67 (n + 1) x1 V = tw_text_B67 (fun x1 V => tw_text_L67 n x1 V) x1 V := lp_s (tw_text_F67) n (x1, V)
def tw_text_B90 (rec : g_V → Option (g_V)) (V : g_V) : Option (g_V) :=
  bnd (tw_good V) (fun x_41 => if x_41 = 0 then (some V) else (if (V 0 11) = 0 then (some V) else (bnd (tw_readLine V) (fun V_46 => rec V_46))))
abbrev tw_text_F90 : ((g_V) → Option (g_V)) → (g_V) → Option (g_V) := fun rec s => tw_text_B90 (fun V => rec V) s
def tw_text_L90 (n : Nat) (V : g_V) : Option (g_V) := lp (tw_text_F90) n V
theorem tw_text_L90_s (n : Nat) (V : g_V) : tw_text_L90 (n + 1) V = tw_text_B90 (fun V => tw_text_L90 n V) V := lp_s (tw_text_F90) n V
def tw_text_B123 (rec : Int32 → g_V → Option (g_V)) (x1 : Int32) (V : g_V) : Option (g_V) :=
  if 810 ≤ x1 then (some V) else (rdI (V 15) 810 x1 fun x_55 => wrI V 1 810 x1 x_55 fun V_60 => nmI (x1 + 1) fun x_61 => rec x_61 V_60)
abbrev tw_text_F123 : ((Int32 × g_V) → Option (g_V)) → (Int32 × g_V) → Option (g_V) := fun rec s => tw_text_B123 (fun x1 V => rec (x1, V)) s.1 s.2
def tw_text_L123 (n : Nat) (x1 : Int32) (V : g_V) : Option (g_V) := lp (tw_text_F123) n (x1, V)
theorem tw_text_L123_s (n : Nat) (x1 : Int32) (V : g_V) : tw_text_L123 (n + 1) x1 V = tw_text_B123 (fun x1 V => tw_text_L123 n x1 V) x1 V := lp_s (tw_text_F123) n (x1, V)
def tw_text_J111 (V : g_V) : Option (Int32 × g_V) :=
  bnd (tw_good V) (fun x_52 => if x_52 = 0 then (some ((-4), V)) else (bnd (tw_text_L123 1000 0 V) (fun V_65 => bnd (tw_begins V_65) (fun V_68 => rdI (V_68 1) 810 0 fun x_69 => some (x_69, V_68)))))
def tw_text (V0 : g_V) : Option (Int32 × g_V) :=
  ptI V0 0 8 (V0 0 6) fun V_1 => ptI V_1 0 6 0 fun V_3 => ptI V_3 0 9 0 fun V_5 => ptI V_5 0 13 0 fun V_7 => ptI V_7 0 14 (-1) fun V_9 => bnd (tw_plain 15 V_9) (fun V_13 => ptI V_13 0 18 0 fun V_14 => ptI V_14 0 19 0 fun V_16 => bnd (tw_text_L47 1000 0 V_16) (fun V_26 => bnd (tw_text_L67 1000 0 V_26) (fun V_35 => bnd (tw_step V_35) (fun V_38 => bnd (tw_text_L90 1000 V_38) (fun V_49 => tw_text_J111 V_49)))))
abbrev rmX8_text : Room := rm_ 10 248
set_option maxHeartbeats 4000000 in
theorem metX8_text {l : Launch} {gp : Nat → Nat} {nx : Nat} {D : va_G} {K : Nat → ClassId} {al : Nat → Nat} {V0 : g_V} {L0 : g_L} {r : Int32} {V' : g_V} (h : tw_text V0 = some (r, V')) : Met l yX8_text (ws_ yX8_text cX8_text 2 (some .int)) rmX8_text (twPc gp nx [.ref (al 0)] D K al V0 L0) (twQi r nx D K al V' L0) 0 0 (g_A al twSh) := by
  refine g_met rfl (Nat.le_of_ble_eq_true rfl) ?_
  intro p e s m below meth c ls S hr hlk hnm hl hW
  have S : CallFix p m c cX8_text 2 s ([.ref (al 0)] : List Value).toArray lw_all RX8 := S
  have hx := S.1
  have hb := S.2.1
  have hl : lv_has ls 2 [(0, .ref (al 0))] := hl
  have Lp47 : ∀ (L : g_L) (n : Nat) (x1 : Int32) (V : g_V) (out : (g_V)) (H : Heap) (locs : List Loc) (ls : Array Slot), tw_text_L47 n x1 V = some out → twW gp nx D K al s V L H locs → lv_has ls 2 [(0, .ref (al 0)), (1, .int x1)] → (∀ (oV : g_V), out = oV → ∀ (H : Heap) (locs : List Loc) (ls : Array Slot), twW gp nx D K al s oV L H locs → lv_has ls 2 [(0, .ref (al 0))] → W p l e rmX8_text s m ([.ref (al 0)] : List Value).toArray below meth c H locs 0 0 (MQ below (twQi r nx D K al V' L0) ([.ref (al 0)] : List Value).toArray s 0 0 (g_A al twSh)) (F0 m 65 ls [])) → W p l e rmX8_text s m ([.ref (al 0)] : List Value).toArray below meth c H locs 0 0 (MQ below (twQi r nx D K al V' L0) ([.ref (al 0)] : List Value).toArray s 0 0 (g_A al twSh)) (F0 m 47 ls []) := by
    intro L n
    induction n with
    | zero =>
      intro x1 V out H locs ls h
      exact (lp_0 h).elim
    | succ n ih =>
      intro x1 V out H locs ls h hW hl k1
      rw [tw_text_L47_s] at h
      unfold tw_text_B47 at h
      refine lv_iload_n hx hb dX8_text_47 rfl (lv_at hl 1 rfl) ?_
      refine lv_iconst (v := 4) hx hb dX8_text_48 (by decide) ?_
      refine lv_icmp_ge (tgt := 65) hx hb dX8_text_49 (by decide) (fun c_18 => ?_) (fun c_18 => ?_)
      · have h := if_t h c_18
        exact k1 _ (Option.some.inj h).symm _ _ _ hW (lv_sub hl [0] rfl)
      · have h := if_f h c_18
        refine lv_aload_n hx hb dX8_text_52 rfl (lv_at hl 0 rfl) ?_
        refine tw_ref S hW 16 16 (by decide) rfl q1515 rfl dX8_text_53 ?_
        refine lv_iload_n hx hb dX8_text_56 rfl (lv_at hl 1 rfl) ?_
        refine lv_iconst (v := 0) hx hb dX8_text_57 (by decide) ?_
        obtain ⟨h_19, V_21, e_20, h⟩ := wrI_some h
        refine g_zast S hW (k := 16) rfl rfl h_19 e_20 (by decide) dX8_text_58 (fun H locs hW => ?_)
        obtain ⟨x_22, e_23, h⟩ := nmI_some h
        refine lv_iinc (v := x_22) (lv' := [(1, .int x_22), (0, .ref (al 0))]) hx hb dX8_text_59 hl (k := 1) rfl (by rw [e_23]; rfl) (by decide) rfl (fun ls hl => ?_)
        refine lv_goto (tgt := 47) hx hb dX8_text_62 (by decide) ?_
        exact ih x_22 V_21 out _ _ _ h hW (lv_sub hl [1, 0] rfl) k1
  have Lp67 : ∀ (L : g_L) (n : Nat) (x1 : Int32) (V : g_V) (out : (g_V)) (H : Heap) (locs : List Loc) (ls : Array Slot), tw_text_L67 n x1 V = some out → twW gp nx D K al s V L H locs → lv_has ls 2 [(0, .ref (al 0)), (1, .int x1)] → (∀ (oV : g_V), out = oV → ∀ (H : Heap) (locs : List Loc) (ls : Array Slot), twW gp nx D K al s oV L H locs → lv_has ls 2 [(0, .ref (al 0))] → W p l e rmX8_text s m ([.ref (al 0)] : List Value).toArray below meth c H locs 0 0 (MQ below (twQi r nx D K al V' L0) ([.ref (al 0)] : List Value).toArray s 0 0 (g_A al twSh)) (F0 m 86 ls [])) → W p l e rmX8_text s m ([.ref (al 0)] : List Value).toArray below meth c H locs 0 0 (MQ below (twQi r nx D K al V' L0) ([.ref (al 0)] : List Value).toArray s 0 0 (g_A al twSh)) (F0 m 67 ls []) := by
    intro L n
    induction n with
    | zero =>
      intro x1 V out H locs ls h
      exact (lp_0 h).elim
    | succ n ih =>
      intro x1 V out H locs ls h hW hl k1
      rw [tw_text_L67_s] at h
      unfold tw_text_B67 at h
      refine lv_iload_n hx hb dX8_text_67 rfl (lv_at hl 1 rfl) ?_
      refine lv_bipush (v := 12) hx hb dX8_text_68 (by decide) ?_
      refine lv_icmp_ge (tgt := 86) hx hb dX8_text_70 (by decide) (fun c_27 => ?_) (fun c_27 => ?_)
      · have h := if_t h c_27
        exact k1 _ (Option.some.inj h).symm _ _ _ hW (lv_sub hl [0] rfl)
      · have h := if_f h c_27
        refine lv_aload_n hx hb dX8_text_73 rfl (lv_at hl 0 rfl) ?_
        refine tw_ref S hW 17 17 (by decide) rfl q1516 rfl dX8_text_74 ?_
        refine lv_iload_n hx hb dX8_text_77 rfl (lv_at hl 1 rfl) ?_
        refine lv_iconst (v := 0) hx hb dX8_text_78 (by decide) ?_
        obtain ⟨h_28, V_30, e_29, h⟩ := wrI_some h
        refine g_zast S hW (k := 17) rfl rfl h_28 e_29 (by decide) dX8_text_79 (fun H locs hW => ?_)
        obtain ⟨x_31, e_32, h⟩ := nmI_some h
        refine lv_iinc (v := x_31) (lv' := [(1, .int x_31), (0, .ref (al 0))]) hx hb dX8_text_80 hl (k := 1) rfl (by rw [e_32]; rfl) (by decide) rfl (fun ls hl => ?_)
        refine lv_goto (tgt := 67) hx hb dX8_text_83 (by decide) ?_
        exact ih x_31 V_30 out _ _ _ h hW (lv_sub hl [1, 0] rfl) k1
  have Lp90 : ∀ (L : g_L) (n : Nat) (V : g_V) (out : (g_V)) (H : Heap) (locs : List Loc) (ls : Array Slot), tw_text_L90 n V = some out → twW gp nx D K al s V L H locs → lv_has ls 2 [(0, .ref (al 0))] → (∀ (oV : g_V), out = oV → ∀ (H : Heap) (locs : List Loc) (ls : Array Slot), twW gp nx D K al s oV L H locs → lv_has ls 2 [(0, .ref (al 0))] → W p l e rmX8_text s m ([.ref (al 0)] : List Value).toArray below meth c H locs 0 0 (MQ below (twQi r nx D K al V' L0) ([.ref (al 0)] : List Value).toArray s 0 0 (g_A al twSh)) (F0 m 111 ls [])) → W p l e rmX8_text s m ([.ref (al 0)] : List Value).toArray below meth c H locs 0 0 (MQ below (twQi r nx D K al V' L0) ([.ref (al 0)] : List Value).toArray s 0 0 (g_A al twSh)) (F0 m 90 ls []) := by
    intro L n
    induction n with
    | zero =>
      intro V out H locs ls h
      exact (lp_0 h).elim
    | succ n ih =>
      intro V out H locs ls h hW hl k1
      rw [tw_text_L90_s] at h
      unfold tw_text_B90 at h
      refine lv_aload_n hx hb dX8_text_90 rfl (lv_at hl 0 rfl) ?_
      obtain ⟨x_41, h_39, h⟩ := bnd_some h
      refine g_callVi (As := []) (rest := []) S hW (metX8_good h_39) (cwX8_good S.2.2.2.2 q1658 ⟨Nat.le_of_ble_eq_true rfl, Nat.le_of_ble_eq_true rfl⟩) (k := 0) rfl rfl rfl hl.1 rfl (Nat.le_of_ble_eq_true rfl) dX8_text_91 ⟨Nat.le_refl _, Nat.le_refl _⟩ (fun H locs hW => ?_)
      refine lv_if_eq (tgt := 111) hx hb dX8_text_94 (by decide) (fun c_42 => ?_) (fun c_42 => ?_)
      · have h := if_t h c_42
        exact k1 _ (Option.some.inj h).symm _ _ _ hW hl
      · have h := if_f h c_42
        refine lv_aload_n hx hb dX8_text_97 rfl (lv_at hl 0 rfl) ?_
        refine tw_int S hW 11 (by decide) rfl q1510 rfl dX8_text_98 ?_
        refine lv_if_eq (tgt := 111) hx hb dX8_text_101 (by decide) (fun c_43 => ?_) (fun c_43 => ?_)
        · have h := if_t h c_43
          exact k1 _ (Option.some.inj h).symm _ _ _ hW hl
        · have h := if_f h c_43
          refine lv_aload_n hx hb dX8_text_104 rfl (lv_at hl 0 rfl) ?_
          obtain ⟨V_46, h_44, h⟩ := bnd_some h
          refine g_callVv (As := []) (rest := []) S hW (metX8_readLine h_44) (cwX8_readLine S.2.2.2.2 q1662 ⟨Nat.le_of_ble_eq_true rfl, Nat.le_of_ble_eq_true rfl⟩) (k := 0) rfl rfl rfl hl.1 rfl (Nat.le_of_ble_eq_true rfl) dX8_text_105 ⟨Nat.le_refl _, Nat.le_refl _⟩ (fun H locs hW => ?_)
          refine lv_goto (tgt := 90) hx hb dX8_text_108 (by decide) ?_
          exact ih V_46 out _ _ _ h hW hl k1
  have Lp123 : ∀ (L : g_L) (n : Nat) (x1 : Int32) (V : g_V) (out : (g_V)) (H : Heap) (locs : List Loc) (ls : Array Slot), tw_text_L123 n x1 V = some out → twW gp nx D K al s V L H locs → lv_has ls 2 [(0, .ref (al 0)), (1, .int x1)] → (∀ (oV : g_V), out = oV → ∀ (H : Heap) (locs : List Loc) (ls : Array Slot), twW gp nx D K al s oV L H locs → lv_has ls 2 [(0, .ref (al 0))] → W p l e rmX8_text s m ([.ref (al 0)] : List Value).toArray below meth c H locs 0 0 (MQ below (twQi r nx D K al V' L0) ([.ref (al 0)] : List Value).toArray s 0 0 (g_A al twSh)) (F0 m 148 ls [])) → W p l e rmX8_text s m ([.ref (al 0)] : List Value).toArray below meth c H locs 0 0 (MQ below (twQi r nx D K al V' L0) ([.ref (al 0)] : List Value).toArray s 0 0 (g_A al twSh)) (F0 m 123 ls []) := by
    intro L n
    induction n with
    | zero =>
      intro x1 V out H locs ls h
      exact (lp_0 h).elim
    | succ n ih =>
      intro x1 V out H locs ls h hW hl k1
      rw [tw_text_L123_s] at h
      unfold tw_text_B123 at h
      refine lv_iload_n hx hb dX8_text_123 rfl (lv_at hl 1 rfl) ?_
      refine lv_sipush (v := 810) hx hb dX8_text_124 (by decide) ?_
      refine lv_icmp_ge (tgt := 148) hx hb dX8_text_127 (by decide) (fun c_54 => ?_) (fun c_54 => ?_)
      · have h := if_t h c_54
        exact k1 _ (Option.some.inj h).symm _ _ _ hW (lv_sub hl [0] rfl)
      · have h := if_f h c_54
        refine lv_aload_n hx hb dX8_text_130 rfl (lv_at hl 0 rfl) ?_
        refine tw_ref S hW 1 1 (by decide) rfl q1500 rfl dX8_text_131 ?_
        refine lv_iload_n hx hb dX8_text_134 rfl (lv_at hl 1 rfl) ?_
        refine lv_aload_n hx hb dX8_text_135 rfl (lv_at hl 0 rfl) ?_
        refine tw_ref S hW 15 15 (by decide) rfl q1514 rfl dX8_text_136 ?_
        refine lv_iload_n hx hb dX8_text_139 rfl (lv_at hl 1 rfl) ?_
        obtain ⟨h_56, x_55, e_57, h⟩ := rdI_some h
        refine g_iald S hW (k := 15) rfl rfl h_56 e_57 dX8_text_140 ?_
        obtain ⟨h_58, V_60, e_59, h⟩ := wrI_some h
        refine g_iast S hW (k := 1) rfl rfl h_58 e_59 dX8_text_141 (fun H locs hW => ?_)
        obtain ⟨x_61, e_62, h⟩ := nmI_some h
        refine lv_iinc (v := x_61) (lv' := [(1, .int x_61), (0, .ref (al 0))]) hx hb dX8_text_142 hl (k := 1) rfl (by rw [e_62]; rfl) (by decide) rfl (fun ls hl => ?_)
        refine lv_goto (tgt := 123) hx hb dX8_text_145 (by decide) ?_
        exact ih x_61 V_60 out _ _ _ h hW (lv_sub hl [1, 0] rfl) k1
  have J111 : ∀ (V : g_V) (H : Heap) (locs : List Loc) (ls : Array Slot), tw_text_J111 V = some (r, V') → twW gp nx D K al s V L0 H locs → lv_has ls 2 [(0, .ref (al 0))] → W p l e rmX8_text s m ([.ref (al 0)] : List Value).toArray below meth c H locs 0 0 (MQ below (twQi r nx D K al V' L0) ([.ref (al 0)] : List Value).toArray s 0 0 (g_A al twSh)) (F0 m 111 ls []) := by
    intro V H locs ls h hW hl
    unfold tw_text_J111 at h
    refine lv_aload_n hx hb dX8_text_111 rfl (lv_at hl 0 rfl) ?_
    obtain ⟨x_52, h_50, h⟩ := bnd_some h
    refine g_callVi (As := []) (rest := []) S hW (metX8_good h_50) (cwX8_good S.2.2.2.2 q1658 ⟨Nat.le_of_ble_eq_true rfl, Nat.le_of_ble_eq_true rfl⟩) (k := 0) rfl rfl rfl hl.1 rfl (Nat.le_of_ble_eq_true rfl) dX8_text_112 ⟨Nat.le_refl _, Nat.le_refl _⟩ (fun H locs hW => ?_)
    refine lv_if_ne (tgt := 121) hx hb dX8_text_115 (by decide) (fun c_53 => ?_) (fun c_53 => ?_)
    · have h := if_f h c_53
      refine lv_iconst (v := 0) hx hb dX8_text_121 (by decide) ?_
      refine lv_istore_n (lv' := [(1, .int 0), (0, .ref (al 0))]) hx hb dX8_text_122 rfl hl (by decide) rfl (fun ls hl => ?_)
      obtain ⟨V_65, h_64, h⟩ := bnd_some h
      refine Lp123 L0 1000 0 V  _ _ _ _ h_64 hW (lv_sub hl [1, 0] rfl) ?_
      intro w0 eo H locs ls hW hl
      subst eo
      refine lv_aload_n hx hb dX8_text_148 rfl (lv_at hl 0 rfl) ?_
      obtain ⟨V_68, h_66, h⟩ := bnd_some h
      refine g_callVv (As := []) (rest := []) S hW (metX8_begins h_66) (cwX8_begins S.2.2.2.2 q1492 ⟨Nat.le_of_ble_eq_true rfl, Nat.le_of_ble_eq_true rfl⟩) (k := 0) rfl rfl rfl hl.1 rfl (Nat.le_of_ble_eq_true rfl) dX8_text_149 ⟨Nat.le_refl _, Nat.le_refl _⟩ (fun H locs hW => ?_)
      refine lv_aload_n hx hb dX8_text_152 rfl (lv_at hl 0 rfl) ?_
      refine tw_ref S hW 1 1 (by decide) rfl q1500 rfl dX8_text_153 ?_
      refine lv_iconst (v := 0) hx hb dX8_text_156 (by decide) ?_
      obtain ⟨h_70, x_69, e_71, h⟩ := rdI_some h
      refine g_iald S hW (k := 1) rfl rfl h_70 e_71 dX8_text_157 ?_
      cases h
      exact g_iret S hr hlk hW dX8_text_158
    · have h := if_t h c_53
      refine lv_bipush (v := (-4)) hx hb dX8_text_118 (by decide) ?_
      cases h
      exact g_iret S hr hlk hW dX8_text_120
  unfold tw_text at h
  refine lv_aload_n hx hb dX8_text_0 rfl (lv_at hl 0 rfl) ?_
  refine lv_aload_n hx hb dX8_text_1 rfl (lv_at hl 0 rfl) ?_
  refine tw_int S hW 6 (by decide) rfl q1505 rfl dX8_text_2 ?_
  obtain ⟨V_1, e_2, h⟩ := ptI_some h
  refine tw_puti S hW 8 (by decide) rfl rfl rfl rfl rfl q1507 e_2 dX8_text_5 (fun H locs hW => ?_)
  refine lv_aload_n hx hb dX8_text_8 rfl (lv_at hl 0 rfl) ?_
  refine lv_iconst (v := 0) hx hb dX8_text_9 (by decide) ?_
  obtain ⟨V_3, e_4, h⟩ := ptI_some h
  refine tw_puti S hW 6 (by decide) rfl rfl rfl rfl rfl q1505 e_4 dX8_text_10 (fun H locs hW => ?_)
  refine lv_aload_n hx hb dX8_text_13 rfl (lv_at hl 0 rfl) ?_
  refine lv_iconst (v := 0) hx hb dX8_text_14 (by decide) ?_
  obtain ⟨V_5, e_6, h⟩ := ptI_some h
  refine tw_puti S hW 9 (by decide) rfl rfl rfl rfl rfl q1508 e_6 dX8_text_15 (fun H locs hW => ?_)
  refine lv_aload_n hx hb dX8_text_18 rfl (lv_at hl 0 rfl) ?_
  refine lv_iconst (v := 0) hx hb dX8_text_19 (by decide) ?_
  obtain ⟨V_7, e_8, h⟩ := ptI_some h
  refine tw_puti S hW 13 (by decide) rfl rfl rfl rfl rfl q1512 e_8 dX8_text_20 (fun H locs hW => ?_)
  refine lv_aload_n hx hb dX8_text_23 rfl (lv_at hl 0 rfl) ?_
  refine lv_iconst (v := (-1)) hx hb dX8_text_24 (by decide) ?_
  obtain ⟨V_9, e_10, h⟩ := ptI_some h
  refine tw_puti S hW 14 (by decide) rfl rfl rfl rfl rfl q1513 e_10 dX8_text_25 (fun H locs hW => ?_)
  refine lv_aload_n hx hb dX8_text_28 rfl (lv_at hl 0 rfl) ?_
  refine tw_ref S hW 15 15 (by decide) rfl q1514 rfl dX8_text_29 ?_
  obtain ⟨V_13, h_11, h⟩ := bnd_some h
  refine g_callSv (As := [.ref (al 15)]) (rest := []) S hW (metX8_plain rfl h_11) (cwX8_plain S.2.2.2.2 q1485 ⟨Nat.le_of_ble_eq_true rfl, Nat.le_of_ble_eq_true rfl⟩) rfl hl.1 rfl (Nat.le_of_ble_eq_true rfl) dX8_text_32 ⟨Nat.le_refl _, Nat.le_refl _⟩ (fun H locs hW => ?_)
  refine lv_aload_n hx hb dX8_text_35 rfl (lv_at hl 0 rfl) ?_
  refine lv_iconst (v := 0) hx hb dX8_text_36 (by decide) ?_
  obtain ⟨V_14, e_15, h⟩ := ptI_some h
  refine tw_puti S hW 18 (by decide) rfl rfl rfl rfl rfl q1517 e_15 dX8_text_37 (fun H locs hW => ?_)
  refine lv_aload_n hx hb dX8_text_40 rfl (lv_at hl 0 rfl) ?_
  refine lv_iconst (v := 0) hx hb dX8_text_41 (by decide) ?_
  obtain ⟨V_16, e_17, h⟩ := ptI_some h
  refine tw_puti S hW 19 (by decide) rfl rfl rfl rfl rfl q1518 e_17 dX8_text_42 (fun H locs hW => ?_)
  refine lv_iconst (v := 0) hx hb dX8_text_45 (by decide) ?_
  refine lv_istore_n (lv' := [(1, .int 0), (0, .ref (al 0))]) hx hb dX8_text_46 rfl hl (by decide) rfl (fun ls hl => ?_)
  obtain ⟨V_26, h_25, h⟩ := bnd_some h
  refine Lp47 L0 1000 0 V_16  _ _ _ _ h_25 hW (lv_sub hl [1, 0] rfl) ?_
  intro w0 eo H locs ls hW hl
  subst eo
  refine lv_iconst (v := 0) hx hb dX8_text_65 (by decide) ?_
  refine lv_istore_n (lv' := [(1, .int 0), (0, .ref (al 0))]) hx hb dX8_text_66 rfl hl (by decide) rfl (fun ls hl => ?_)
  obtain ⟨V_35, h_34, h⟩ := bnd_some h
  refine Lp67 L0 1000 0 V_26  _ _ _ _ h_34 hW (lv_sub hl [1, 0] rfl) ?_
  intro w0 eo H locs ls hW hl
  subst eo
  refine lv_aload_n hx hb dX8_text_86 rfl (lv_at hl 0 rfl) ?_
  obtain ⟨V_38, h_36, h⟩ := bnd_some h
  refine g_callVv (As := []) (rest := []) S hW (metX8_step h_36) (cwX8_step S.2.2.2.2 q1644 ⟨Nat.le_of_ble_eq_true rfl, Nat.le_of_ble_eq_true rfl⟩) (k := 0) rfl rfl rfl hl.1 rfl (Nat.le_of_ble_eq_true rfl) dX8_text_87 ⟨Nat.le_refl _, Nat.le_refl _⟩ (fun H locs hW => ?_)
  obtain ⟨V_49, h_48, h⟩ := bnd_some h
  refine Lp90 L0 1000 V_38  _ _ _ _ h_48 hW hl ?_
  intro w0 eo H locs ls hW hl
  subst eo
  exact J111 V_49 _ _ _ h hW hl
theorem cwX8_text {R : Room} {s : State} {args : Array Value} {index : Nat} (hts : ∀ w ∈ lw_all, w.before args s = true) (hl : Cond.methodLink RX8 index yX8_text ∈ lw_all) (hR : rmX8_text.frames + 1 ≤ R.frames ∧ 8 + (2 + 11) + rmX8_text.locals ≤ R.locals) : CallW R s args RX8 RX8 index yX8_text cX8_text 2 (some .int) (ws_ yX8_text cX8_text 2 (some .int)) rmX8_text 0 0 0 := cwV 0 hts (lw_V hl q1641 q1642 q122 q1643) rfl rfl rfl (by decide +kernel) hR
