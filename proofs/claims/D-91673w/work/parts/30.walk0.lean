/-! walks of the reference: X8_groundAtFirst X8_heatNow X8_in X8_back X8_feed X8_end X8_see X8_good X8_is X8_wrong X8_isSign X8_wordHere X8_fault X8_isDug X8_isPlace X8_groundOf X8_pipes -/
set_option maxRecDepth 100000
def tw_groundAtFirst (j : Nat) (V0 : g_V) (a1 : Int32) : Option (g_V) :=
  wrI V0 j 810 a1 10 fun V_3 => wrI V_3 j 810 (a1 + 1) 15 fun V_6 => wrI V_6 j 810 (a1 + 2) 100 fun V_9 => wrI V_9 j 810 (a1 + 3) 0 fun V_12 => some V_12
abbrev rmX8_groundAtFirst : Room := rm_ 0 0
set_option maxHeartbeats 4000000 in
theorem metX8_groundAtFirst {l : Launch} {gp : Nat → Nat} {nx : Nat} {D : va_G} {K : Nat → ClassId} {al : Nat → Nat} {j : Nat} {V0 : g_V} {L0 : g_L} {a1 : Int32} {V' : g_V} (hj : twSh j = some (.inl (0, 810))) (h : tw_groundAtFirst j V0 a1 = some V') : Met l yX8_groundAtFirst (ws_ yX8_groundAtFirst cX8_groundAtFirst 2 (none)) rmX8_groundAtFirst (twPc gp nx [.ref (al j), .int a1] D K al V0 L0) (twQv nx D K al V' L0) 0 0 (g_A al twSh) := by
  refine g_met rfl (Nat.le_of_ble_eq_true rfl) ?_
  intro p e s m below meth c ls S hr hlk hnm hl hW
  have S : CallFix p m c cX8_groundAtFirst 2 s ([.ref (al j), .int a1] : List Value).toArray lw_all RX8 := S
  have hx := S.1
  have hb := S.2.1
  have hl : lv_has ls 2 [(0, .ref (al j)), (1, .int a1)] := hl
  unfold tw_groundAtFirst at h
  refine lv_aload_n hx hb dX8_groundAtFirst_0 rfl (lv_at hl 0 rfl) ?_
  refine lv_iload_n hx hb dX8_groundAtFirst_1 rfl (lv_at hl 1 rfl) ?_
  refine lv_bipush (v := 10) hx hb dX8_groundAtFirst_2 (by decide) ?_
  obtain ⟨h_1, V_3, e_2, h⟩ := wrI_some h
  refine g_iast S hW (k := j) hj rfl h_1 e_2 dX8_groundAtFirst_4 (fun H locs hW => ?_)
  refine lv_aload_n hx hb dX8_groundAtFirst_5 rfl (lv_at hl 0 rfl) ?_
  refine lv_iload_n hx hb dX8_groundAtFirst_6 rfl (lv_at hl 1 rfl) ?_
  refine lv_iconst (v := 1) hx hb dX8_groundAtFirst_7 (by decide) ?_
  refine lv_iadd hx hb dX8_groundAtFirst_8 ?_
  refine lv_bipush (v := 15) hx hb dX8_groundAtFirst_9 (by decide) ?_
  obtain ⟨h_4, V_6, e_5, h⟩ := wrI_some h
  refine g_iast S hW (k := j) hj rfl h_4 e_5 dX8_groundAtFirst_11 (fun H locs hW => ?_)
  refine lv_aload_n hx hb dX8_groundAtFirst_12 rfl (lv_at hl 0 rfl) ?_
  refine lv_iload_n hx hb dX8_groundAtFirst_13 rfl (lv_at hl 1 rfl) ?_
  refine lv_iconst (v := 2) hx hb dX8_groundAtFirst_14 (by decide) ?_
  refine lv_iadd hx hb dX8_groundAtFirst_15 ?_
  refine lv_bipush (v := 100) hx hb dX8_groundAtFirst_16 (by decide) ?_
  obtain ⟨h_7, V_9, e_8, h⟩ := wrI_some h
  refine g_iast S hW (k := j) hj rfl h_7 e_8 dX8_groundAtFirst_18 (fun H locs hW => ?_)
  refine lv_aload_n hx hb dX8_groundAtFirst_19 rfl (lv_at hl 0 rfl) ?_
  refine lv_iload_n hx hb dX8_groundAtFirst_20 rfl (lv_at hl 1 rfl) ?_
  refine lv_iconst (v := 3) hx hb dX8_groundAtFirst_21 (by decide) ?_
  refine lv_iadd hx hb dX8_groundAtFirst_22 ?_
  refine lv_iconst (v := 0) hx hb dX8_groundAtFirst_23 (by decide) ?_
  obtain ⟨h_10, V_12, e_11, h⟩ := wrI_some h
  refine g_iast S hW (k := j) hj rfl h_10 e_11 dX8_groundAtFirst_24 (fun H locs hW => ?_)
  cases h
  exact g_vret S hr hlk hW dX8_groundAtFirst_25
theorem cwX8_groundAtFirst {R : Room} {s : State} {args : Array Value} {index : Nat} (hts : ∀ w ∈ lw_all, w.before args s = true) (hl : Cond.methodLink RX8 index yX8_groundAtFirst ∈ lw_all) (hR : rmX8_groundAtFirst.frames + 1 ≤ R.frames ∧ 8 + (2 + 11) + rmX8_groundAtFirst.locals ≤ R.locals) : CallB R s args RX8 index yX8_groundAtFirst cX8_groundAtFirst 2 (none) (ws_ yX8_groundAtFirst cX8_groundAtFirst 2 (none)) rmX8_groundAtFirst 0 0 2 ∧ (Cond.static yX8_groundAtFirst).before args s = true := va_cwS 2 hts (lw_S hl q1490 q122 q1491) rfl rfl rfl (by decide +kernel) hR
def tw_heatNow_B4 (V : g_V) (rec : Int32 → Int32 → Option (Int32)) (x1 : Int32) (x2 : Int32) : Option (Int32) :=
  if 144 ≤ x2 then (some x1) else (rdI (V 1) 810 (480 + x2) fun x_2 => if x_2 = 1 then (nmI (x1 + 0) fun x_16 => nmI (x2 + 1) fun x_18 => rec x_16 x_18) else (rdI (V 1) 810 (192 + x2) fun x_6 => rdI (V 1) 810 (336 + x2) fun x_9 => nmI (x1 + (x_6 - x_9)) fun x_12 => nmI (x2 + 1) fun x_14 => rec x_12 x_14))
abbrev tw_heatNow_F4 (V : g_V) : ((Int32 × Int32) → Option (Int32)) → (Int32 × Int32) → Option (Int32) := fun rec s => tw_heatNow_B4 V (fun x1 x2 => rec (x1, x2)) s.1 s.2
def tw_heatNow_L4 (V : g_V) (n : Nat) (x1 : Int32) (x2 : Int32) : Option (Int32) := lp (tw_heatNow_F4 V) n (x1, x2)
theorem tw_heatNow_L4_s (V : g_V) (n : Nat) (x1 : Int32) (x2 : Int32) : tw_heatNow_L4 V (n + 1) x1 x2 = tw_heatNow_B4 V (fun x1 x2 => tw_heatNow_L4 V n x1 x2) x1 x2 := lp_s (tw_heatNow_F4 V) n (x1, x2)
def tw_heatNow (V0 : g_V) : Option (Int32) :=
  bnd (tw_heatNow_L4 V0 1000 0 0) (fun x_22 => some x_22)
abbrev rmX8_heatNow : Room := rm_ 0 0
set_option maxHeartbeats 4000000 in
theorem metX8_heatNow {l : Launch} {gp : Nat → Nat} {nx : Nat} {D : va_G} {K : Nat → ClassId} {al : Nat → Nat} {V0 : g_V} {L0 : g_L} {r : Int32} (h : tw_heatNow V0 = some r) : Met l yX8_heatNow (ws_ yX8_heatNow cX8_heatNow 3 (some .int)) rmX8_heatNow (twPc gp nx [.ref (al 0)] D K al V0 L0) (twQi r nx D K al V0 L0) 0 0 (g_A al twSh) := by
  refine g_met rfl (Nat.le_of_ble_eq_true rfl) ?_
  intro p e s m below meth c ls S hr hlk hnm hl hW
  have S : CallFix p m c cX8_heatNow 3 s ([.ref (al 0)] : List Value).toArray lw_all RX8 := S
  have hx := S.1
  have hb := S.2.1
  have hl : lv_has ls 3 [(0, .ref (al 0))] := hl
  have Lp4 : ∀ (V : g_V) (L : g_L) (n : Nat) (x1 : Int32) (x2 : Int32) (out : (Int32)) (H : Heap) (locs : List Loc) (ls : Array Slot), tw_heatNow_L4 V n x1 x2 = some out → twW gp nx D K al s V L H locs → lv_has ls 3 [(0, .ref (al 0)), (1, .int x1), (2, .int x2)] → (∀ (o1 : Int32), out = o1 → ∀ (H : Heap) (locs : List Loc) (ls : Array Slot), twW gp nx D K al s V L H locs → lv_has ls 3 [(1, .int o1)] → W p l e rmX8_heatNow s m ([.ref (al 0)] : List Value).toArray below meth c H locs 0 0 (MQ below (twQi r nx D K al V0 L0) ([.ref (al 0)] : List Value).toArray s 0 0 (g_A al twSh)) (F0 m 59 ls [])) → W p l e rmX8_heatNow s m ([.ref (al 0)] : List Value).toArray below meth c H locs 0 0 (MQ below (twQi r nx D K al V0 L0) ([.ref (al 0)] : List Value).toArray s 0 0 (g_A al twSh)) (F0 m 4 ls []) := by
    intro V L n
    induction n with
    | zero =>
      intro x1 x2 out H locs ls h
      exact (lp_0 h).elim
    | succ n ih =>
      intro x1 x2 out H locs ls h hW hl k1
      rw [tw_heatNow_L4_s] at h
      unfold tw_heatNow_B4 at h
      refine lv_iload_n hx hb dX8_heatNow_4 rfl (lv_at hl 2 rfl) ?_
      refine lv_sipush (v := 144) hx hb dX8_heatNow_5 (by decide) ?_
      refine lv_icmp_ge (tgt := 59) hx hb dX8_heatNow_8 (by decide) (fun c_1 => ?_) (fun c_1 => ?_)
      · have h := if_t h c_1
        exact k1 _ (Option.some.inj h).symm _ _ _ hW (lv_sub hl [1] rfl)
      · have h := if_f h c_1
        refine lv_iload_n hx hb dX8_heatNow_11 rfl (lv_at hl 1 rfl) ?_
        refine lv_aload_n hx hb dX8_heatNow_12 rfl (lv_at hl 0 rfl) ?_
        refine tw_ref S hW 1 1 (by decide) rfl q1500 rfl dX8_heatNow_13 ?_
        refine lv_sipush (v := 480) hx hb dX8_heatNow_16 (by decide) ?_
        refine lv_iload_n hx hb dX8_heatNow_19 rfl (lv_at hl 2 rfl) ?_
        refine lv_iadd hx hb dX8_heatNow_20 ?_
        obtain ⟨h_3, x_2, e_4, h⟩ := rdI_some h
        refine g_iald S hW (k := 1) rfl rfl h_3 e_4 dX8_heatNow_21 ?_
        refine lv_iconst (v := 1) hx hb dX8_heatNow_22 (by decide) ?_
        refine lv_icmp_ne (tgt := 30) hx hb dX8_heatNow_23 (by decide) (fun c_5 => ?_) (fun c_5 => ?_)
        · have h := if_f h c_5
          refine lv_aload_n hx hb dX8_heatNow_30 rfl (lv_at hl 0 rfl) ?_
          refine tw_ref S hW 1 1 (by decide) rfl q1500 rfl dX8_heatNow_31 ?_
          refine lv_sipush (v := 192) hx hb dX8_heatNow_34 (by decide) ?_
          refine lv_iload_n hx hb dX8_heatNow_37 rfl (lv_at hl 2 rfl) ?_
          refine lv_iadd hx hb dX8_heatNow_38 ?_
          obtain ⟨h_7, x_6, e_8, h⟩ := rdI_some h
          refine g_iald S hW (k := 1) rfl rfl h_7 e_8 dX8_heatNow_39 ?_
          refine lv_aload_n hx hb dX8_heatNow_40 rfl (lv_at hl 0 rfl) ?_
          refine tw_ref S hW 1 1 (by decide) rfl q1500 rfl dX8_heatNow_41 ?_
          refine lv_sipush (v := 336) hx hb dX8_heatNow_44 (by decide) ?_
          refine lv_iload_n hx hb dX8_heatNow_47 rfl (lv_at hl 2 rfl) ?_
          refine lv_iadd hx hb dX8_heatNow_48 ?_
          obtain ⟨h_10, x_9, e_11, h⟩ := rdI_some h
          refine g_iald S hW (k := 1) rfl rfl h_10 e_11 dX8_heatNow_49 ?_
          refine lv_isub hx hb dX8_heatNow_50 ?_
          refine lv_iadd hx hb dX8_heatNow_51 ?_
          obtain ⟨x_12, e_13, h⟩ := nmI_some h
          refine g_nmi e_13 ?_
          refine lv_istore_n (lv' := [(1, .int x_12), (0, .ref (al 0)), (2, .int x2)]) hx hb dX8_heatNow_52 rfl hl (by decide) rfl (fun ls hl => ?_)
          obtain ⟨x_14, e_15, h⟩ := nmI_some h
          refine lv_iinc (v := x_14) (lv' := [(2, .int x_14), (1, .int x_12), (0, .ref (al 0))]) hx hb dX8_heatNow_53 hl (k := 2) rfl (by rw [e_15]; rfl) (by decide) rfl (fun ls hl => ?_)
          refine lv_goto (tgt := 4) hx hb dX8_heatNow_56 (by decide) ?_
          exact ih x_12 x_14 out _ _ _ h hW (lv_sub hl [2, 1, 0] rfl) k1
        · have h := if_t h c_5
          refine lv_iconst (v := 0) hx hb dX8_heatNow_26 (by decide) ?_
          refine lv_goto (tgt := 51) hx hb dX8_heatNow_27 (by decide) ?_
          refine lv_iadd hx hb dX8_heatNow_51 ?_
          obtain ⟨x_16, e_17, h⟩ := nmI_some h
          refine g_nmi e_17 ?_
          refine lv_istore_n (lv' := [(1, .int x_16), (0, .ref (al 0)), (2, .int x2)]) hx hb dX8_heatNow_52 rfl hl (by decide) rfl (fun ls hl => ?_)
          obtain ⟨x_18, e_19, h⟩ := nmI_some h
          refine lv_iinc (v := x_18) (lv' := [(2, .int x_18), (1, .int x_16), (0, .ref (al 0))]) hx hb dX8_heatNow_53 hl (k := 2) rfl (by rw [e_19]; rfl) (by decide) rfl (fun ls hl => ?_)
          refine lv_goto (tgt := 4) hx hb dX8_heatNow_56 (by decide) ?_
          exact ih x_16 x_18 out _ _ _ h hW (lv_sub hl [2, 1, 0] rfl) k1
  unfold tw_heatNow at h
  refine lv_iconst (v := 0) hx hb dX8_heatNow_0 (by decide) ?_
  refine lv_istore_n (lv' := [(1, .int 0), (0, .ref (al 0))]) hx hb dX8_heatNow_1 rfl hl (by decide) rfl (fun ls hl => ?_)
  refine lv_iconst (v := 0) hx hb dX8_heatNow_2 (by decide) ?_
  refine lv_istore_n (lv' := [(2, .int 0), (1, .int 0), (0, .ref (al 0))]) hx hb dX8_heatNow_3 rfl hl (by decide) rfl (fun ls hl => ?_)
  obtain ⟨x_22, h_21, h⟩ := bnd_some h
  refine Lp4 V0 L0 1000 0 0  _ _ _ _ h_21 hW (lv_sub hl [2, 1, 0] rfl) ?_
  intro w0 eo H locs ls hW hl
  subst eo
  refine lv_iload_n hx hb dX8_heatNow_59 rfl (lv_at hl 0 rfl) ?_
  cases h
  exact g_iret S hr hlk hW dX8_heatNow_60
theorem cwX8_heatNow {R : Room} {s : State} {args : Array Value} {index : Nat} (hts : ∀ w ∈ lw_all, w.before args s = true) (hl : Cond.methodLink RX8 index yX8_heatNow ∈ lw_all) (hR : rmX8_heatNow.frames + 1 ≤ R.frames ∧ 8 + (3 + 11) + rmX8_heatNow.locals ≤ R.locals) : CallW R s args RX8 RX8 index yX8_heatNow cX8_heatNow 3 (some .int) (ws_ yX8_heatNow cX8_heatNow 3 (some .int)) rmX8_heatNow 0 0 0 := cwV 0 hts (lw_V hl q1498 qs53 q122 q1499) rfl rfl rfl (by decide +kernel) hR
def tw_in (a0 : Int64) (a2 : Int64) (a4 : Int64) : Option (Int32) :=
  if (lg_cmp a0 a2) < 0 then (some 0) else (if 0 < (lg_cmp a0 a4) then (some 0) else (some 1))
abbrev rmX8_in : Room := rm_ 0 0
set_option maxHeartbeats 4000000 in
theorem metX8_in {l : Launch} {gp : Nat → Nat} {nx : Nat} {D : va_G} {K : Nat → ClassId} {al : Nat → Nat} {V0 : g_V} {L0 : g_L} {a0 : Int64} {a2 : Int64} {a4 : Int64} {r : Int32} (h : tw_in a0 a2 a4 = some r) : Met l yX8_in (ws_ yX8_in cX8_in 6 (some .boolean)) rmX8_in (twPc gp nx [.long a0, .long a2, .long a4] D K al V0 L0) (twQi r nx D K al V0 L0) 0 0 (g_A al twSh) := by
  refine g_met rfl (Nat.le_of_ble_eq_true rfl) ?_
  intro p e s m below meth c ls S hr hlk hnm hl hW
  have S : CallFix p m c cX8_in 6 s ([.long a0, .long a2, .long a4] : List Value).toArray lw_all RX8 := S
  have hx := S.1
  have hb := S.2.1
  have hl : lv_has ls 6 [(0, .long a0), (2, .long a2), (4, .long a4)] := hl
  unfold tw_in at h
  refine lv_lload_n hx hb dX8_in_0 rfl (lv_at hl 0 rfl) ?_
  refine lv_lload_n hx hb dX8_in_1 rfl (lv_at hl 1 rfl) ?_
  refine W.lcmp hx hb dX8_in_2 ?_
  refine lv_if_lt (tgt := 17) hx hb dX8_in_3 (by decide) (fun c_1 => ?_) (fun c_1 => ?_)
  · have h := if_t h c_1
    refine lv_iconst (v := 0) hx hb dX8_in_17 (by decide) ?_
    cases h
    exact g_zret S hr hlk rfl hW dX8_in_18
  · have h := if_f h c_1
    refine lv_lload_n hx hb dX8_in_6 rfl (lv_at hl 0 rfl) ?_
    refine lv_lload hx hb dX8_in_7 (lv_at hl 2 rfl) ?_
    refine W.lcmp hx hb dX8_in_9 ?_
    refine lv_if_gt (tgt := 17) hx hb dX8_in_10 (by decide) (fun c_2 => ?_) (fun c_2 => ?_)
    · have h := if_t h c_2
      refine lv_iconst (v := 0) hx hb dX8_in_17 (by decide) ?_
      cases h
      exact g_zret S hr hlk rfl hW dX8_in_18
    · have h := if_f h c_2
      refine lv_iconst (v := 1) hx hb dX8_in_13 (by decide) ?_
      refine lv_goto (tgt := 18) hx hb dX8_in_14 (by decide) ?_
      cases h
      exact g_zret S hr hlk rfl hW dX8_in_18
theorem cwX8_in {R : Room} {s : State} {args : Array Value} {index : Nat} (hts : ∀ w ∈ lw_all, w.before args s = true) (hl : Cond.methodLink RX8 index yX8_in ∈ lw_all) (hR : rmX8_in.frames + 1 ≤ R.frames ∧ 8 + (6 + 11) + rmX8_in.locals ≤ R.locals) : CallB R s args RX8 index yX8_in cX8_in 6 (some .boolean) (ws_ yX8_in cX8_in 6 (some .boolean)) rmX8_in 0 0 3 ∧ (Cond.static yX8_in).before args s = true := va_cwS 3 hts (lw_S hl q1626 q122 q1627) rfl rfl rfl (by decide +kernel) hR
def tw_back_B29 (x1 : Int32) (rec : Int32 → g_V → Option (g_V)) (x2 : Int32) (V : g_V) : Option (g_V) :=
  if 810 ≤ x2 then (some V) else (rdI (V 3) 2430 ((810 * x1) + x2) fun x_10 => wrI V 1 810 x2 x_10 fun V_15 => nmI (x2 + 1) fun x_16 => rec x_16 V_15)
abbrev tw_back_F29 (x1 : Int32) : ((Int32 × g_V) → Option (g_V)) → (Int32 × g_V) → Option (g_V) := fun rec s => tw_back_B29 x1 (fun x2 V => rec (x2, V)) s.1 s.2
def tw_back_L29 (x1 : Int32) (n : Nat) (x2 : Int32) (V : g_V) : Option (g_V) := lp (tw_back_F29 x1) n (x2, V)
theorem tw_back_L29_s (x1 : Int32) (n : Nat) (x2 : Int32) (V : g_V) : tw_back_L29 x1 (n + 1) x2 V = tw_back_B29 x1 (fun x2 V => tw_back_L29 x1 n x2 V) x2 V := lp_s (tw_back_F29 x1) n (x2, V)
def tw_back (V0 : g_V) (a1 : Int32) : Option (Int32 × g_V) :=
  bnd (tw_in a1.toInt64 0 2) (fun x_3 => if x_3 = 0 then (some ((-2), V0)) else (rdI (V0 4) 3 a1 fun x_5 => if x_5 = 0 then (some ((-6), V0)) else (bnd (tw_back_L29 a1 1000 0 V0) (fun V_20 => some (0, V_20)))))
abbrev rmX8_back : Room := rm_ 1 25
set_option maxHeartbeats 4000000 in
theorem metX8_back {l : Launch} {gp : Nat → Nat} {nx : Nat} {D : va_G} {K : Nat → ClassId} {al : Nat → Nat} {V0 : g_V} {L0 : g_L} {a1 : Int32} {r : Int32} {V' : g_V} (h : tw_back V0 a1 = some (r, V')) : Met l yX8_back (ws_ yX8_back cX8_back 3 (some .int)) rmX8_back (twPc gp nx [.ref (al 0), .int a1] D K al V0 L0) (twQi r nx D K al V' L0) 0 0 (g_A al twSh) := by
  refine g_met rfl (Nat.le_of_ble_eq_true rfl) ?_
  intro p e s m below meth c ls S hr hlk hnm hl hW
  have S : CallFix p m c cX8_back 3 s ([.ref (al 0), .int a1] : List Value).toArray lw_all RX8 := S
  have hx := S.1
  have hb := S.2.1
  have hl : lv_has ls 3 [(0, .ref (al 0)), (1, .int a1)] := hl
  have Lp29 : ∀ (x1 : Int32) (L : g_L) (n : Nat) (x2 : Int32) (V : g_V) (out : (g_V)) (H : Heap) (locs : List Loc) (ls : Array Slot), tw_back_L29 x1 n x2 V = some out → twW gp nx D K al s V L H locs → lv_has ls 3 [(0, .ref (al 0)), (1, .int x1), (2, .int x2)] → (∀ (oV : g_V), out = oV → ∀ (H : Heap) (locs : List Loc) (ls : Array Slot), twW gp nx D K al s oV L H locs → lv_has ls 3 [] → W p l e rmX8_back s m ([.ref (al 0), .int a1] : List Value).toArray below meth c H locs 0 0 (MQ below (twQi r nx D K al V' L0) ([.ref (al 0), .int a1] : List Value).toArray s 0 0 (g_A al twSh)) (F0 m 60 ls [])) → W p l e rmX8_back s m ([.ref (al 0), .int a1] : List Value).toArray below meth c H locs 0 0 (MQ below (twQi r nx D K al V' L0) ([.ref (al 0), .int a1] : List Value).toArray s 0 0 (g_A al twSh)) (F0 m 29 ls []) := by
    intro x1 L n
    induction n with
    | zero =>
      intro x2 V out H locs ls h
      exact (lp_0 h).elim
    | succ n ih =>
      intro x2 V out H locs ls h hW hl k1
      rw [tw_back_L29_s] at h
      unfold tw_back_B29 at h
      refine lv_iload_n hx hb dX8_back_29 rfl (lv_at hl 2 rfl) ?_
      refine lv_sipush (v := 810) hx hb dX8_back_30 (by decide) ?_
      refine lv_icmp_ge (tgt := 60) hx hb dX8_back_33 (by decide) (fun c_9 => ?_) (fun c_9 => ?_)
      · have h := if_t h c_9
        exact k1 _ (Option.some.inj h).symm _ _ _ hW (lv_sub hl [] rfl)
      · have h := if_f h c_9
        refine lv_aload_n hx hb dX8_back_36 rfl (lv_at hl 0 rfl) ?_
        refine tw_ref S hW 1 1 (by decide) rfl q1500 rfl dX8_back_37 ?_
        refine lv_iload_n hx hb dX8_back_40 rfl (lv_at hl 2 rfl) ?_
        refine lv_aload_n hx hb dX8_back_41 rfl (lv_at hl 0 rfl) ?_
        refine tw_ref S hW 3 3 (by decide) rfl q1502 rfl dX8_back_42 ?_
        refine lv_sipush (v := 810) hx hb dX8_back_45 (by decide) ?_
        refine lv_iload_n hx hb dX8_back_48 rfl (lv_at hl 1 rfl) ?_
        refine lv_imul hx hb dX8_back_49 ?_
        refine lv_iload_n hx hb dX8_back_50 rfl (lv_at hl 2 rfl) ?_
        refine lv_iadd hx hb dX8_back_51 ?_
        obtain ⟨h_11, x_10, e_12, h⟩ := rdI_some h
        refine g_iald S hW (k := 3) rfl rfl h_11 e_12 dX8_back_52 ?_
        obtain ⟨h_13, V_15, e_14, h⟩ := wrI_some h
        refine g_iast S hW (k := 1) rfl rfl h_13 e_14 dX8_back_53 (fun H locs hW => ?_)
        obtain ⟨x_16, e_17, h⟩ := nmI_some h
        refine lv_iinc (v := x_16) (lv' := [(2, .int x_16), (0, .ref (al 0)), (1, .int x1)]) hx hb dX8_back_54 hl (k := 2) rfl (by rw [e_17]; rfl) (by decide) rfl (fun ls hl => ?_)
        refine lv_goto (tgt := 29) hx hb dX8_back_57 (by decide) ?_
        exact ih x_16 V_15 out _ _ _ h hW (lv_sub hl [1, 2, 0] rfl) k1
  unfold tw_back at h
  refine lv_iload_n hx hb dX8_back_0 rfl (lv_at hl 1 rfl) ?_
  refine lv_i2l (v := a1.toInt64) hx hb dX8_back_1 rfl ?_
  refine lv_lconst (v := 0) hx hb dX8_back_2 (by decide) ?_
  refine lv_ldc2 (v := 2) hx hb S.2.2.2.1 (S.2.2.2.2 _ q1624) dX8_back_3 ?_
  obtain ⟨x_3, h_1, h⟩ := bnd_some h
  refine g_callSi (As := [.long a1.toInt64, .long 0, .long 2]) (rest := []) S hW (metX8_in h_1) (cwX8_in S.2.2.2.2 q1625 ⟨Nat.le_of_ble_eq_true rfl, Nat.le_of_ble_eq_true rfl⟩) rfl hl.1 rfl (Nat.le_of_ble_eq_true rfl) dX8_back_6 ⟨Nat.le_refl _, Nat.le_refl _⟩ (fun H locs hW => ?_)
  refine lv_if_ne (tgt := 15) hx hb dX8_back_9 (by decide) (fun c_4 => ?_) (fun c_4 => ?_)
  · have h := if_f h c_4
    refine lv_aload_n hx hb dX8_back_15 rfl (lv_at hl 0 rfl) ?_
    refine tw_ref S hW 4 4 (by decide) rfl q1503 rfl dX8_back_16 ?_
    refine lv_iload_n hx hb dX8_back_19 rfl (lv_at hl 1 rfl) ?_
    obtain ⟨h_6, x_5, e_7, h⟩ := rdI_some h
    refine g_zald S hW (k := 4) rfl rfl h_6 e_7 dX8_back_20 ?_
    refine lv_if_ne (tgt := 27) hx hb dX8_back_21 (by decide) (fun c_8 => ?_) (fun c_8 => ?_)
    · have h := if_f h c_8
      refine lv_iconst (v := 0) hx hb dX8_back_27 (by decide) ?_
      refine lv_istore_n (lv' := [(2, .int 0), (0, .ref (al 0)), (1, .int a1)]) hx hb dX8_back_28 rfl hl (by decide) rfl (fun ls hl => ?_)
      obtain ⟨V_20, h_19, h⟩ := bnd_some h
      refine Lp29 a1 L0 1000 0 V0  _ _ _ _ h_19 hW (lv_sub hl [1, 2, 0] rfl) ?_
      intro w0 eo H locs ls hW hl
      subst eo
      refine lv_iconst (v := 0) hx hb dX8_back_60 (by decide) ?_
      cases h
      exact g_iret S hr hlk hW dX8_back_61
    · have h := if_t h c_8
      refine lv_bipush (v := (-6)) hx hb dX8_back_24 (by decide) ?_
      cases h
      exact g_iret S hr hlk hW dX8_back_26
  · have h := if_t h c_4
    refine lv_bipush (v := (-2)) hx hb dX8_back_12 (by decide) ?_
    cases h
    exact g_iret S hr hlk hW dX8_back_14
theorem cwX8_back {R : Room} {s : State} {args : Array Value} {index : Nat} (hts : ∀ w ∈ lw_all, w.before args s = true) (hl : Cond.methodLink RX8 index yX8_back ∈ lw_all) (hR : rmX8_back.frames + 1 ≤ R.frames ∧ 8 + (3 + 11) + rmX8_back.locals ≤ R.locals) : CallW R s args RX8 RX8 index yX8_back cX8_back 3 (some .int) (ws_ yX8_back cX8_back 3 (some .int)) rmX8_back 0 0 1 := cwV 1 hts (lw_V hl q1629 q1630 q122 q1631) rfl rfl rfl (by decide +kernel) hR
def tw_feed_B55 (rec : Int32 → g_V → Option (g_V)) (x6 : Int32) (V : g_V) : Option (g_V) :=
  if 20 ≤ x6 then (some V) else (rdI (V 7) 5 (x6 / 4) fun x_18 => wrI V 5 700 ((V 0 6) + x6) ((x_18 >>> ((24 - (8 * (x6 - x6 / 4 * 4))) &&& 31)).toInt8.toInt32) fun V_23 => nmI (x6 + 1) fun x_24 => rec x_24 V_23)
abbrev tw_feed_F55 : ((Int32 × g_V) → Option (g_V)) → (Int32 × g_V) → Option (g_V) := fun rec s => tw_feed_B55 (fun x6 V => rec (x6, V)) s.1 s.2
def tw_feed_L55 (n : Nat) (x6 : Int32) (V : g_V) : Option (g_V) := lp (tw_feed_F55) n (x6, V)
theorem tw_feed_L55_s (n : Nat) (x6 : Int32) (V : g_V) : tw_feed_L55 (n + 1) x6 V = tw_feed_B55 (fun x6 V => tw_feed_L55 n x6 V) x6 V := lp_s (tw_feed_F55) n (x6, V)
def tw_feed (V0 : g_V) (a1 : Int32) (a2 : Int32) (a3 : Int32) (a4 : Int32) (a5 : Int32) : Option (Int32 × g_V) :=
  if ((V0 0 6) + 20) ≤ 700 then (wrI V0 7 5 0 a1 fun V_4 => wrI V_4 7 5 1 a2 fun V_7 => wrI V_7 7 5 2 a3 fun V_10 => wrI V_10 7 5 3 a4 fun V_13 => wrI V_13 7 5 4 a5 fun V_16 => bnd (tw_feed_L55 1000 0 V_16) (fun V_28 => ptI V_28 0 6 ((V_28 0 6) + 20) fun V_29 => some (V_29 0 6, V_29))) else (some ((-1), V0))
abbrev rmX8_feed : Room := rm_ 0 0
set_option maxHeartbeats 4000000 in
theorem metX8_feed {l : Launch} {gp : Nat → Nat} {nx : Nat} {D : va_G} {K : Nat → ClassId} {al : Nat → Nat} {V0 : g_V} {L0 : g_L} {a1 : Int32} {a2 : Int32} {a3 : Int32} {a4 : Int32} {a5 : Int32} {r : Int32} {V' : g_V} (h : tw_feed V0 a1 a2 a3 a4 a5 = some (r, V')) : Met l yX8_feed (ws_ yX8_feed cX8_feed 7 (some .int)) rmX8_feed (twPc gp nx [.ref (al 0), .int a1, .int a2, .int a3, .int a4, .int a5] D K al V0 L0) (twQi r nx D K al V' L0) 0 0 (g_A al twSh) := by
  refine g_met rfl (Nat.le_of_ble_eq_true rfl) ?_
  intro p e s m below meth c ls S hr hlk hnm hl hW
  have S : CallFix p m c cX8_feed 7 s ([.ref (al 0), .int a1, .int a2, .int a3, .int a4, .int a5] : List Value).toArray lw_all RX8 := S
  have hx := S.1
  have hb := S.2.1
  have hl : lv_has ls 7 [(0, .ref (al 0)), (1, .int a1), (2, .int a2), (3, .int a3), (4, .int a4), (5, .int a5)] := hl
  have Lp55 : ∀ (L : g_L) (n : Nat) (x6 : Int32) (V : g_V) (out : (g_V)) (H : Heap) (locs : List Loc) (ls : Array Slot), tw_feed_L55 n x6 V = some out → twW gp nx D K al s V L H locs → lv_has ls 7 [(0, .ref (al 0)), (6, .int x6)] → (∀ (oV : g_V), out = oV → ∀ (H : Heap) (locs : List Loc) (ls : Array Slot), twW gp nx D K al s oV L H locs → lv_has ls 7 [(0, .ref (al 0))] → W p l e rmX8_feed s m ([.ref (al 0), .int a1, .int a2, .int a3, .int a4, .int a5] : List Value).toArray below meth c H locs 0 0 (MQ below (twQi r nx D K al V' L0) ([.ref (al 0), .int a1, .int a2, .int a3, .int a4, .int a5] : List Value).toArray s 0 0 (g_A al twSh)) (F0 m 101 ls [])) → W p l e rmX8_feed s m ([.ref (al 0), .int a1, .int a2, .int a3, .int a4, .int a5] : List Value).toArray below meth c H locs 0 0 (MQ below (twQi r nx D K al V' L0) ([.ref (al 0), .int a1, .int a2, .int a3, .int a4, .int a5] : List Value).toArray s 0 0 (g_A al twSh)) (F0 m 55 ls []) := by
    intro L n
    induction n with
    | zero =>
      intro x6 V out H locs ls h
      exact (lp_0 h).elim
    | succ n ih =>
      intro x6 V out H locs ls h hW hl k1
      rw [tw_feed_L55_s] at h
      unfold tw_feed_B55 at h
      refine lv_iload hx hb dX8_feed_55 (lv_at hl 1 rfl) ?_
      refine lv_bipush (v := 20) hx hb dX8_feed_57 (by decide) ?_
      refine lv_icmp_ge (tgt := 101) hx hb dX8_feed_59 (by decide) (fun c_17 => ?_) (fun c_17 => ?_)
      · have h := if_t h c_17
        exact k1 _ (Option.some.inj h).symm _ _ _ hW (lv_sub hl [0] rfl)
      · have h := if_f h c_17
        refine lv_aload_n hx hb dX8_feed_62 rfl (lv_at hl 0 rfl) ?_
        refine tw_ref S hW 5 5 (by decide) rfl q1504 rfl dX8_feed_63 ?_
        refine lv_aload_n hx hb dX8_feed_66 rfl (lv_at hl 0 rfl) ?_
        refine tw_int S hW 6 (by decide) rfl q1505 rfl dX8_feed_67 ?_
        refine lv_iload hx hb dX8_feed_70 (lv_at hl 1 rfl) ?_
        refine lv_iadd hx hb dX8_feed_72 ?_
        refine lv_aload_n hx hb dX8_feed_73 rfl (lv_at hl 0 rfl) ?_
        refine tw_ref S hW 7 7 (by decide) rfl q1506 rfl dX8_feed_74 ?_
        refine lv_iload hx hb dX8_feed_77 (lv_at hl 1 rfl) ?_
        refine lv_iconst (v := 4) hx hb dX8_feed_79 (by decide) ?_
        refine lv_idiv hx hb dX8_feed_80 (by decide) ?_
        obtain ⟨h_19, x_18, e_20, h⟩ := rdI_some h
        refine g_iald S hW (k := 7) rfl rfl h_19 e_20 dX8_feed_81 ?_
        refine lv_bipush (v := 24) hx hb dX8_feed_82 (by decide) ?_
        refine lv_bipush (v := 8) hx hb dX8_feed_84 (by decide) ?_
        refine lv_iload hx hb dX8_feed_86 (lv_at hl 1 rfl) ?_
        refine lv_iconst (v := 4) hx hb dX8_feed_88 (by decide) ?_
        refine lv_irem hx hb dX8_feed_89 (by decide) ?_
        refine lv_imul hx hb dX8_feed_90 ?_
        refine lv_isub hx hb dX8_feed_91 ?_
        refine lv_ishr hx hb dX8_feed_92 ?_
        refine lv_i2b (v := (x_18 >>> ((24 - (8 * (x6 - x6 / 4 * 4))) &&& 31)).toInt8.toInt32) hx hb dX8_feed_93 rfl ?_
        obtain ⟨h_21, V_23, e_22, h⟩ := wrI_some h
        refine g_bast S hW (k := 5) rfl rfl h_21 e_22 (pk_vb _) dX8_feed_94 (fun H locs hW => ?_)
        obtain ⟨x_24, e_25, h⟩ := nmI_some h
        refine lv_iinc (v := x_24) (lv' := [(6, .int x_24), (0, .ref (al 0))]) hx hb dX8_feed_95 hl (k := 1) rfl (by rw [e_25]; rfl) (by decide) rfl (fun ls hl => ?_)
        refine lv_goto (tgt := 55) hx hb dX8_feed_98 (by decide) ?_
        exact ih x_24 V_23 out _ _ _ h hW (lv_sub hl [1, 0] rfl) k1
  unfold tw_feed at h
  refine lv_aload_n hx hb dX8_feed_0 rfl (lv_at hl 0 rfl) ?_
  refine tw_int S hW 6 (by decide) rfl q1505 rfl dX8_feed_1 ?_
  refine lv_bipush (v := 20) hx hb dX8_feed_4 (by decide) ?_
  refine lv_iadd hx hb dX8_feed_6 ?_
  refine lv_sipush (v := 700) hx hb dX8_feed_7 (by decide) ?_
  refine lv_icmp_le (tgt := 15) hx hb dX8_feed_10 (by decide) (fun c_1 => ?_) (fun c_1 => ?_)
  · have h := if_t h c_1
    refine lv_aload_n hx hb dX8_feed_15 rfl (lv_at hl 0 rfl) ?_
    refine tw_ref S hW 7 7 (by decide) rfl q1506 rfl dX8_feed_16 ?_
    refine lv_iconst (v := 0) hx hb dX8_feed_19 (by decide) ?_
    refine lv_iload_n hx hb dX8_feed_20 rfl (lv_at hl 1 rfl) ?_
    obtain ⟨h_2, V_4, e_3, h⟩ := wrI_some h
    refine g_iast S hW (k := 7) rfl rfl h_2 e_3 dX8_feed_21 (fun H locs hW => ?_)
    refine lv_aload_n hx hb dX8_feed_22 rfl (lv_at hl 0 rfl) ?_
    refine tw_ref S hW 7 7 (by decide) rfl q1506 rfl dX8_feed_23 ?_
    refine lv_iconst (v := 1) hx hb dX8_feed_26 (by decide) ?_
    refine lv_iload_n hx hb dX8_feed_27 rfl (lv_at hl 2 rfl) ?_
    obtain ⟨h_5, V_7, e_6, h⟩ := wrI_some h
    refine g_iast S hW (k := 7) rfl rfl h_5 e_6 dX8_feed_28 (fun H locs hW => ?_)
    refine lv_aload_n hx hb dX8_feed_29 rfl (lv_at hl 0 rfl) ?_
    refine tw_ref S hW 7 7 (by decide) rfl q1506 rfl dX8_feed_30 ?_
    refine lv_iconst (v := 2) hx hb dX8_feed_33 (by decide) ?_
    refine lv_iload_n hx hb dX8_feed_34 rfl (lv_at hl 3 rfl) ?_
    obtain ⟨h_8, V_10, e_9, h⟩ := wrI_some h
    refine g_iast S hW (k := 7) rfl rfl h_8 e_9 dX8_feed_35 (fun H locs hW => ?_)
    refine lv_aload_n hx hb dX8_feed_36 rfl (lv_at hl 0 rfl) ?_
    refine tw_ref S hW 7 7 (by decide) rfl q1506 rfl dX8_feed_37 ?_
    refine lv_iconst (v := 3) hx hb dX8_feed_40 (by decide) ?_
    refine lv_iload hx hb dX8_feed_41 (lv_at hl 4 rfl) ?_
    obtain ⟨h_11, V_13, e_12, h⟩ := wrI_some h
    refine g_iast S hW (k := 7) rfl rfl h_11 e_12 dX8_feed_43 (fun H locs hW => ?_)
    refine lv_aload_n hx hb dX8_feed_44 rfl (lv_at hl 0 rfl) ?_
    refine tw_ref S hW 7 7 (by decide) rfl q1506 rfl dX8_feed_45 ?_
    refine lv_iconst (v := 4) hx hb dX8_feed_48 (by decide) ?_
    refine lv_iload hx hb dX8_feed_49 (lv_at hl 5 rfl) ?_
    obtain ⟨h_14, V_16, e_15, h⟩ := wrI_some h
    refine g_iast S hW (k := 7) rfl rfl h_14 e_15 dX8_feed_51 (fun H locs hW => ?_)
    refine lv_iconst (v := 0) hx hb dX8_feed_52 (by decide) ?_
    refine lv_istore (lv' := [(6, .int 0), (0, .ref (al 0)), (1, .int a1), (2, .int a2), (3, .int a3), (4, .int a4), (5, .int a5)]) hx hb dX8_feed_53 hl (by decide) rfl (fun ls hl => ?_)
    obtain ⟨V_28, h_27, h⟩ := bnd_some h
    refine Lp55 L0 1000 0 V_16  _ _ _ _ h_27 hW (lv_sub hl [1, 0] rfl) ?_
    intro w0 eo H locs ls hW hl
    subst eo
    refine lv_aload_n hx hb dX8_feed_101 rfl (lv_at hl 0 rfl) ?_
    refine lv_dup hx hb dX8_feed_102 rfl ?_
    refine tw_int S hW 6 (by decide) rfl q1505 rfl dX8_feed_103 ?_
    refine lv_bipush (v := 20) hx hb dX8_feed_106 (by decide) ?_
    refine lv_iadd hx hb dX8_feed_108 ?_
    obtain ⟨V_29, e_30, h⟩ := ptI_some h
    refine tw_puti S hW 6 (by decide) rfl rfl rfl rfl rfl q1505 e_30 dX8_feed_109 (fun H locs hW => ?_)
    refine lv_aload_n hx hb dX8_feed_112 rfl (lv_at hl 0 rfl) ?_
    refine tw_int S hW 6 (by decide) rfl q1505 rfl dX8_feed_113 ?_
    cases h
    exact g_iret S hr hlk hW dX8_feed_116
  · have h := if_f h c_1
    refine lv_iconst (v := (-1)) hx hb dX8_feed_13 (by decide) ?_
    cases h
    exact g_iret S hr hlk hW dX8_feed_14
theorem cwX8_feed {R : Room} {s : State} {args : Array Value} {index : Nat} (hts : ∀ w ∈ lw_all, w.before args s = true) (hl : Cond.methodLink RX8 index yX8_feed ∈ lw_all) (hR : rmX8_feed.frames + 1 ≤ R.frames ∧ 8 + (7 + 11) + rmX8_feed.locals ≤ R.locals) : CallW R s args RX8 RX8 index yX8_feed cX8_feed 7 (some .int) (ws_ yX8_feed cX8_feed 7 (some .int)) rmX8_feed 0 0 5 := cwV 5 hts (lw_V hl q1633 q1634 q122 q1635) rfl rfl rfl (by decide +kernel) hR
def tw_end (V0 : g_V) (a1 : Int32) : Option (Int32 × g_V) :=
  bnd (tw_in a1.toInt64 0 ((V0 0 6).toInt64)) (fun x_3 => if x_3 = 0 then (some ((-1), V0)) else (ptI V0 0 6 a1 fun V_5 => some (a1, V_5)))
abbrev rmX8_end : Room := rm_ 1 25
set_option maxHeartbeats 4000000 in
theorem metX8_end {l : Launch} {gp : Nat → Nat} {nx : Nat} {D : va_G} {K : Nat → ClassId} {al : Nat → Nat} {V0 : g_V} {L0 : g_L} {a1 : Int32} {r : Int32} {V' : g_V} (h : tw_end V0 a1 = some (r, V')) : Met l yX8_end (ws_ yX8_end cX8_end 2 (some .int)) rmX8_end (twPc gp nx [.ref (al 0), .int a1] D K al V0 L0) (twQi r nx D K al V' L0) 0 0 (g_A al twSh) := by
  refine g_met rfl (Nat.le_of_ble_eq_true rfl) ?_
  intro p e s m below meth c ls S hr hlk hnm hl hW
  have S : CallFix p m c cX8_end 2 s ([.ref (al 0), .int a1] : List Value).toArray lw_all RX8 := S
  have hx := S.1
  have hb := S.2.1
  have hl : lv_has ls 2 [(0, .ref (al 0)), (1, .int a1)] := hl
  unfold tw_end at h
  refine lv_iload_n hx hb dX8_end_0 rfl (lv_at hl 1 rfl) ?_
  refine lv_i2l (v := a1.toInt64) hx hb dX8_end_1 rfl ?_
  refine lv_lconst (v := 0) hx hb dX8_end_2 (by decide) ?_
  refine lv_aload_n hx hb dX8_end_3 rfl (lv_at hl 0 rfl) ?_
  refine tw_int S hW 6 (by decide) rfl q1505 rfl dX8_end_4 ?_
  refine lv_i2l (v := (V0 0 6).toInt64) hx hb dX8_end_7 rfl ?_
  obtain ⟨x_3, h_1, h⟩ := bnd_some h
  refine g_callSi (As := [.long a1.toInt64, .long 0, .long ((V0 0 6).toInt64)]) (rest := []) S hW (metX8_in h_1) (cwX8_in S.2.2.2.2 q1625 ⟨Nat.le_of_ble_eq_true rfl, Nat.le_of_ble_eq_true rfl⟩) rfl hl.1 rfl (Nat.le_of_ble_eq_true rfl) dX8_end_8 ⟨Nat.le_refl _, Nat.le_refl _⟩ (fun H locs hW => ?_)
  refine lv_if_ne (tgt := 16) hx hb dX8_end_11 (by decide) (fun c_4 => ?_) (fun c_4 => ?_)
  · have h := if_f h c_4
    refine lv_aload_n hx hb dX8_end_16 rfl (lv_at hl 0 rfl) ?_
    refine lv_iload_n hx hb dX8_end_17 rfl (lv_at hl 1 rfl) ?_
    obtain ⟨V_5, e_6, h⟩ := ptI_some h
    refine tw_puti S hW 6 (by decide) rfl rfl rfl rfl rfl q1505 e_6 dX8_end_18 (fun H locs hW => ?_)
    refine lv_iload_n hx hb dX8_end_21 rfl (lv_at hl 1 rfl) ?_
    cases h
    exact g_iret S hr hlk hW dX8_end_22
  · have h := if_t h c_4
    refine lv_iconst (v := (-1)) hx hb dX8_end_14 (by decide) ?_
    cases h
    exact g_iret S hr hlk hW dX8_end_15
theorem cwX8_end {R : Room} {s : State} {args : Array Value} {index : Nat} (hts : ∀ w ∈ lw_all, w.before args s = true) (hl : Cond.methodLink RX8 index yX8_end ∈ lw_all) (hR : rmX8_end.frames + 1 ≤ R.frames ∧ 8 + (2 + 11) + rmX8_end.locals ≤ R.locals) : CallW R s args RX8 RX8 index yX8_end cX8_end 2 (some .int) (ws_ yX8_end cX8_end 2 (some .int)) rmX8_end 0 0 1 := cwV 1 hts (lw_V hl q1637 q1638 q122 q1639) rfl rfl rfl (by decide +kernel) hR
def tw_see (V0 : g_V) (a1 : Int32) : Option (Int32) :=
  if (V0 0 8) ≤ a1 then (some (-1)) else (rdI (V0 5) 700 a1 fun x_2 => some (x_2 &&& 255))
abbrev rmX8_see : Room := rm_ 0 0
set_option maxHeartbeats 4000000 in
theorem metX8_see {l : Launch} {gp : Nat → Nat} {nx : Nat} {D : va_G} {K : Nat → ClassId} {al : Nat → Nat} {V0 : g_V} {L0 : g_L} {a1 : Int32} {r : Int32} (h : tw_see V0 a1 = some r) : Met l yX8_see (ws_ yX8_see cX8_see 2 (some .int)) rmX8_see (twPc gp nx [.ref (al 0), .int a1] D K al V0 L0) (twQi r nx D K al V0 L0) 0 0 (g_A al twSh) := by
  refine g_met rfl (Nat.le_of_ble_eq_true rfl) ?_
  intro p e s m below meth c ls S hr hlk hnm hl hW
  have S : CallFix p m c cX8_see 2 s ([.ref (al 0), .int a1] : List Value).toArray lw_all RX8 := S
  have hx := S.1
  have hb := S.2.1
  have hl : lv_has ls 2 [(0, .ref (al 0)), (1, .int a1)] := hl
  unfold tw_see at h
  refine lv_iload_n hx hb dX8_see_0 rfl (lv_at hl 1 rfl) ?_
  refine lv_aload_n hx hb dX8_see_1 rfl (lv_at hl 0 rfl) ?_
  refine tw_int S hW 8 (by decide) rfl q1507 rfl dX8_see_2 ?_
  refine lv_icmp_ge (tgt := 21) hx hb dX8_see_5 (by decide) (fun c_1 => ?_) (fun c_1 => ?_)
  · have h := if_t h c_1
    refine lv_iconst (v := (-1)) hx hb dX8_see_21 (by decide) ?_
    cases h
    exact g_iret S hr hlk hW dX8_see_22
  · have h := if_f h c_1
    refine lv_aload_n hx hb dX8_see_8 rfl (lv_at hl 0 rfl) ?_
    refine tw_ref S hW 5 5 (by decide) rfl q1504 rfl dX8_see_9 ?_
    refine lv_iload_n hx hb dX8_see_12 rfl (lv_at hl 1 rfl) ?_
    obtain ⟨h_3, x_2, e_4, h⟩ := rdI_some h
    refine g_bald S hW (k := 5) rfl rfl h_3 e_4 dX8_see_13 ?_
    refine lv_sipush (v := 255) hx hb dX8_see_14 (by decide) ?_
    refine lv_iand hx hb dX8_see_17 ?_
    refine lv_goto (tgt := 22) hx hb dX8_see_18 (by decide) ?_
    cases h
    exact g_iret S hr hlk hW dX8_see_22
theorem cwX8_see {R : Room} {s : State} {args : Array Value} {index : Nat} (hts : ∀ w ∈ lw_all, w.before args s = true) (hl : Cond.methodLink RX8 index yX8_see ∈ lw_all) (hR : rmX8_see.frames + 1 ≤ R.frames ∧ 8 + (2 + 11) + rmX8_see.locals ≤ R.locals) : CallW R s args RX8 RX8 index yX8_see cX8_see 2 (some .int) (ws_ yX8_see cX8_see 2 (some .int)) rmX8_see 0 0 1 := cwV 1 hts (lw_V hl q1650 qs55 q122 q1651) rfl rfl rfl (by decide +kernel) hR
def tw_good (V0 : g_V) : Option (Int32) :=
  if (V0 0 13) = 0 then (some 1) else (some 0)
abbrev rmX8_good : Room := rm_ 0 0
set_option maxHeartbeats 4000000 in
theorem metX8_good {l : Launch} {gp : Nat → Nat} {nx : Nat} {D : va_G} {K : Nat → ClassId} {al : Nat → Nat} {V0 : g_V} {L0 : g_L} {r : Int32} (h : tw_good V0 = some r) : Met l yX8_good (ws_ yX8_good cX8_good 1 (some .boolean)) rmX8_good (twPc gp nx [.ref (al 0)] D K al V0 L0) (twQi r nx D K al V0 L0) 0 0 (g_A al twSh) := by
  refine g_met rfl (Nat.le_of_ble_eq_true rfl) ?_
  intro p e s m below meth c ls S hr hlk hnm hl hW
  have S : CallFix p m c cX8_good 1 s ([.ref (al 0)] : List Value).toArray lw_all RX8 := S
  have hx := S.1
  have hb := S.2.1
  have hl : lv_has ls 1 [(0, .ref (al 0))] := hl
  unfold tw_good at h
  refine lv_aload_n hx hb dX8_good_0 rfl (lv_at hl 0 rfl) ?_
  refine tw_int S hW 13 (by decide) rfl q1512 rfl dX8_good_1 ?_
  refine lv_if_ne (tgt := 11) hx hb dX8_good_4 (by decide) (fun c_1 => ?_) (fun c_1 => ?_)
  · have h := if_f h c_1
    refine lv_iconst (v := 0) hx hb dX8_good_11 (by decide) ?_
    cases h
    exact g_zret S hr hlk rfl hW dX8_good_12
  · have h := if_t h c_1
    refine lv_iconst (v := 1) hx hb dX8_good_7 (by decide) ?_
    refine lv_goto (tgt := 12) hx hb dX8_good_8 (by decide) ?_
    cases h
    exact g_zret S hr hlk rfl hW dX8_good_12
theorem cwX8_good {R : Room} {s : State} {args : Array Value} {index : Nat} (hts : ∀ w ∈ lw_all, w.before args s = true) (hl : Cond.methodLink RX8 index yX8_good ∈ lw_all) (hR : rmX8_good.frames + 1 ≤ R.frames ∧ 8 + (1 + 11) + rmX8_good.locals ≤ R.locals) : CallW R s args RX8 RX8 index yX8_good cX8_good 1 (some .boolean) (ws_ yX8_good cX8_good 1 (some .boolean)) rmX8_good 0 0 0 := cwV 0 hts (lw_V hl q1660 qs56 q122 q1661) rfl rfl rfl (by decide +kernel) hR
def tw_is_B39 (V : g_V) (w : Nat) (rec : Int32 → Int32 → Option (Int32)) (x2 : Int32) (x3 : Int32) : Option (Int32) :=
  if (stL w) ≤ x3 then (some x2) else (if x2 = 0 then (some x2) else (rdI (V 5) 700 ((V 0 10) + x3) fun x_7 => rdI (stC w) (stLen.getD w 0) x3 fun x_10 => if x_7 = x_10 then (nmI (x3 + 1) fun x_16 => rec 1 x_16) else (nmI (x3 + 1) fun x_14 => rec 0 x_14)))
abbrev tw_is_F39 (V : g_V) (w : Nat) : ((Int32 × Int32) → Option (Int32)) → (Int32 × Int32) → Option (Int32) := fun rec s => tw_is_B39 V w (fun x2 x3 => rec (x2, x3)) s.1 s.2
def tw_is_L39 (V : g_V) (w : Nat) (n : Nat) (x2 : Int32) (x3 : Int32) : Option (Int32) := lp (tw_is_F39 V w) n (x2, x3)
theorem tw_is_L39_s (V : g_V) (w : Nat) (n : Nat) (x2 : Int32) (x3 : Int32) : tw_is_L39 V w (n + 1) x2 x3 = tw_is_B39 V w (fun x2 x3 => tw_is_L39 V w n x2 x3) x2 x3 := lp_s (tw_is_F39 V w) n (x2, x3)
def tw_is_J36 (w : Nat) (z0 : Int32) (V0 : g_V) : Option (Int32) :=
  bnd (tw_is_L39 V0 w 1000 z0 0) (fun x_20 => okI (isB x_20) <| some x_20)
def tw_is_J35 (w : Nat) (V0 : g_V) : Option (Int32) :=
  tw_is_J36 w 0 V0
def tw_is (w : Nat) (V0 : g_V) : Option (Int32) :=
  bnd (tw_good V0) (fun x_3 => if x_3 = 0 then (tw_is_J35 w V0) else (if (V0 0 11) = 1 then (if ((V0 0 9) - (V0 0 10)) = (stL w) then (tw_is_J36 w 1 V0) else (tw_is_J35 w V0)) else (tw_is_J35 w V0)))
abbrev rmX8_is : Room := rm_ 4 111
set_option maxHeartbeats 4000000 in
theorem metX8_is {l : Launch} {gp : Nat → Nat} {nx : Nat} {D : va_G} {K : Nat → ClassId} {al : Nat → Nat} {w : Nat} {V0 : g_V} {L0 : g_L} {r : Int32} (hw : w < 24) (h : tw_is w V0 = some r) : Met l yX8_is (ws_ yX8_is cX8_is 4 (some .boolean)) rmX8_is (twPc gp nx [.ref (al 0), .ref (gp w)] D K al V0 L0) (twQi r nx D K al V0 L0) 0 0 (g_A al twSh) := by
  refine g_met rfl (Nat.le_of_ble_eq_true rfl) ?_
  intro p e s m below meth c ls S hr hlk hnm hl hW
  have S : CallFix p m c cX8_is 4 s ([.ref (al 0), .ref (gp w)] : List Value).toArray lw_all RX8 := S
  have hx := S.1
  have hb := S.2.1
  have hl : lv_has ls 4 [(0, .ref (al 0)), (1, .ref (gp w))] := hl
  have Lp39 : ∀ (V : g_V) (L : g_L) (n : Nat) (x2 : Int32) (x3 : Int32) (out : (Int32)) (H : Heap) (locs : List Loc) (ls : Array Slot), tw_is_L39 V w n x2 x3 = some out → twW gp nx D K al s V L H locs → lv_has ls 4 [(0, .ref (al 0)), (1, .ref (gp w)), (2, .int x2), (3, .int x3)] → (∀ (o2 : Int32), out = o2 → ∀ (H : Heap) (locs : List Loc) (ls : Array Slot), twW gp nx D K al s V L H locs → lv_has ls 4 [(2, .int o2)] → W p l e rmX8_is s m ([.ref (al 0), .ref (gp w)] : List Value).toArray below meth c H locs 0 0 (MQ below (twQi r nx D K al V0 L0) ([.ref (al 0), .ref (gp w)] : List Value).toArray s 0 0 (g_A al twSh)) (F0 m 82 ls [])) → W p l e rmX8_is s m ([.ref (al 0), .ref (gp w)] : List Value).toArray below meth c H locs 0 0 (MQ below (twQi r nx D K al V0 L0) ([.ref (al 0), .ref (gp w)] : List Value).toArray s 0 0 (g_A al twSh)) (F0 m 39 ls []) := by
    intro V L n
    induction n with
    | zero =>
      intro x2 x3 out H locs ls h
      exact (lp_0 h).elim
    | succ n ih =>
      intro x2 x3 out H locs ls h hW hl k1
      rw [tw_is_L39_s] at h
      unfold tw_is_B39 at h
      refine lv_iload_n hx hb dX8_is_39 rfl (lv_at hl 3 rfl) ?_
      refine lv_aload_n hx hb dX8_is_40 rfl (lv_at hl 1 rfl) ?_
      refine g_slen S hW hw q1671 ⟨Nat.le_of_ble_eq_true rfl, Nat.le_of_ble_eq_true rfl⟩ hl.1 (Nat.le_of_ble_eq_true rfl) ⟨Nat.le_refl _, Nat.le_refl _⟩ dX8_is_41 ?_
      refine lv_icmp_ge (tgt := 82) hx hb dX8_is_44 (by decide) (fun c_5 => ?_) (fun c_5 => ?_)
      · have h := if_t h c_5
        exact k1 _ (Option.some.inj h).symm _ _ _ hW (lv_sub hl [2] rfl)
      · have h := if_f h c_5
        refine lv_iload_n hx hb dX8_is_47 rfl (lv_at hl 2 rfl) ?_
        refine lv_if_eq (tgt := 82) hx hb dX8_is_48 (by decide) (fun c_6 => ?_) (fun c_6 => ?_)
        · have h := if_t h c_6
          exact k1 _ (Option.some.inj h).symm _ _ _ hW (lv_sub hl [2] rfl)
        · have h := if_f h c_6
          refine lv_aload_n hx hb dX8_is_51 rfl (lv_at hl 0 rfl) ?_
          refine tw_ref S hW 5 5 (by decide) rfl q1504 rfl dX8_is_52 ?_
          refine lv_aload_n hx hb dX8_is_55 rfl (lv_at hl 0 rfl) ?_
          refine tw_int S hW 10 (by decide) rfl q1509 rfl dX8_is_56 ?_
          refine lv_iload_n hx hb dX8_is_59 rfl (lv_at hl 3 rfl) ?_
          refine lv_iadd hx hb dX8_is_60 ?_
          obtain ⟨h_8, x_7, e_9, h⟩ := rdI_some h
          refine g_bald S hW (k := 5) rfl rfl h_8 e_9 dX8_is_61 ?_
          refine lv_aload_n hx hb dX8_is_62 rfl (lv_at hl 1 rfl) ?_
          refine lv_iload_n hx hb dX8_is_63 rfl (lv_at hl 3 rfl) ?_
          obtain ⟨h_11, x_10, e_12, h⟩ := rdI_some h
          refine g_schar S hW hw h_11 e_12 q1672 ⟨Nat.le_of_ble_eq_true rfl, Nat.le_of_ble_eq_true rfl⟩ hl.1 (Nat.le_of_ble_eq_true rfl) ⟨Nat.le_refl _, Nat.le_refl _⟩ dX8_is_64 ?_
          refine lv_icmp_ne (tgt := 74) hx hb dX8_is_67 (by decide) (fun c_13 => ?_) (fun c_13 => ?_)
          · have h := if_f h c_13
            refine lv_iconst (v := 0) hx hb dX8_is_74 (by decide) ?_
            refine lv_istore_n (lv' := [(2, .int 0), (0, .ref (al 0)), (1, .ref (gp w)), (3, .int x3)]) hx hb dX8_is_75 rfl hl (by decide) rfl (fun ls hl => ?_)
            obtain ⟨x_14, e_15, h⟩ := nmI_some h
            refine lv_iinc (v := x_14) (lv' := [(3, .int x_14), (2, .int 0), (0, .ref (al 0)), (1, .ref (gp w))]) hx hb dX8_is_76 hl (k := 3) rfl (by rw [e_15]; rfl) (by decide) rfl (fun ls hl => ?_)
            refine lv_goto (tgt := 39) hx hb dX8_is_79 (by decide) ?_
            exact ih 0 x_14 out _ _ _ h hW (lv_sub hl [2, 3, 1, 0] rfl) k1
          · have h := if_t h c_13
            refine lv_iconst (v := 1) hx hb dX8_is_70 (by decide) ?_
            refine lv_goto (tgt := 75) hx hb dX8_is_71 (by decide) ?_
            refine lv_istore_n (lv' := [(2, .int 1), (0, .ref (al 0)), (1, .ref (gp w)), (3, .int x3)]) hx hb dX8_is_75 rfl hl (by decide) rfl (fun ls hl => ?_)
            obtain ⟨x_16, e_17, h⟩ := nmI_some h
            refine lv_iinc (v := x_16) (lv' := [(3, .int x_16), (2, .int 1), (0, .ref (al 0)), (1, .ref (gp w))]) hx hb dX8_is_76 hl (k := 3) rfl (by rw [e_17]; rfl) (by decide) rfl (fun ls hl => ?_)
            refine lv_goto (tgt := 39) hx hb dX8_is_79 (by decide) ?_
            exact ih 1 x_16 out _ _ _ h hW (lv_sub hl [2, 3, 1, 0] rfl) k1
  have J36 : ∀ (z0 : Int32) (H : Heap) (locs : List Loc) (ls : Array Slot), tw_is_J36 w z0 V0 = some r → twW gp nx D K al s V0 L0 H locs → lv_has ls 4 [(0, .ref (al 0)), (1, .ref (gp w))] → W p l e rmX8_is s m ([.ref (al 0), .ref (gp w)] : List Value).toArray below meth c H locs 0 0 (MQ below (twQi r nx D K al V0 L0) ([.ref (al 0), .ref (gp w)] : List Value).toArray s 0 0 (g_A al twSh)) (F0 m 36 ls [.int z0]) := by
    intro z0 H locs ls h hW hl
    unfold tw_is_J36 at h
    refine lv_istore_n (lv' := [(2, .int z0), (0, .ref (al 0)), (1, .ref (gp w))]) hx hb dX8_is_36 rfl hl (by decide) rfl (fun ls hl => ?_)
    refine lv_iconst (v := 0) hx hb dX8_is_37 (by decide) ?_
    refine lv_istore_n (lv' := [(3, .int 0), (2, .int z0), (0, .ref (al 0)), (1, .ref (gp w))]) hx hb dX8_is_38 rfl hl (by decide) rfl (fun ls hl => ?_)
    obtain ⟨x_20, h_19, h⟩ := bnd_some h
    refine Lp39 V0 L0 1000 z0 0  _ _ _ _ h_19 hW (lv_sub hl [2, 3, 1, 0] rfl) ?_
    intro w0 eo H locs ls hW hl
    subst eo
    refine lv_iload_n hx hb dX8_is_82 rfl (lv_at hl 0 rfl) ?_
    obtain ⟨h_21, h⟩ := okI_some h
    cases h
    exact g_zret S hr hlk (isB_narrow h_21) hW dX8_is_83
  have J35 : ∀  (H : Heap) (locs : List Loc) (ls : Array Slot), tw_is_J35 w V0 = some r → twW gp nx D K al s V0 L0 H locs → lv_has ls 4 [(0, .ref (al 0)), (1, .ref (gp w))] → W p l e rmX8_is s m ([.ref (al 0), .ref (gp w)] : List Value).toArray below meth c H locs 0 0 (MQ below (twQi r nx D K al V0 L0) ([.ref (al 0), .ref (gp w)] : List Value).toArray s 0 0 (g_A al twSh)) (F0 m 35 ls []) := by
    intro  H locs ls h hW hl
    unfold tw_is_J35 at h
    refine lv_iconst (v := 0) hx hb dX8_is_35 (by decide) ?_
    exact J36 0 _ _ _ h hW hl
  unfold tw_is at h
  refine lv_aload_n hx hb dX8_is_0 rfl (lv_at hl 0 rfl) ?_
  obtain ⟨x_3, h_1, h⟩ := bnd_some h
  refine g_callVi (As := []) (rest := []) S hW (metX8_good h_1) (cwX8_good S.2.2.2.2 q1658 ⟨Nat.le_of_ble_eq_true rfl, Nat.le_of_ble_eq_true rfl⟩) (k := 0) rfl rfl rfl hl.1 rfl (Nat.le_of_ble_eq_true rfl) dX8_is_1 ⟨Nat.le_refl _, Nat.le_refl _⟩ (fun H locs hW => ?_)
  refine lv_if_eq (tgt := 35) hx hb dX8_is_4 (by decide) (fun c_4 => ?_) (fun c_4 => ?_)
  · have h := if_t h c_4
    exact J35  _ _ _ h hW hl
  · have h := if_f h c_4
    refine lv_aload_n hx hb dX8_is_7 rfl (lv_at hl 0 rfl) ?_
    refine tw_int S hW 11 (by decide) rfl q1510 rfl dX8_is_8 ?_
    refine lv_iconst (v := 1) hx hb dX8_is_11 (by decide) ?_
    refine lv_icmp_ne (tgt := 35) hx hb dX8_is_12 (by decide) (fun c_22 => ?_) (fun c_22 => ?_)
    · have h := if_f h c_22
      exact J35  _ _ _ h hW hl
    · have h := if_t h c_22
      refine lv_aload_n hx hb dX8_is_15 rfl (lv_at hl 0 rfl) ?_
      refine tw_int S hW 9 (by decide) rfl q1508 rfl dX8_is_16 ?_
      refine lv_aload_n hx hb dX8_is_19 rfl (lv_at hl 0 rfl) ?_
      refine tw_int S hW 10 (by decide) rfl q1509 rfl dX8_is_20 ?_
      refine lv_isub hx hb dX8_is_23 ?_
      refine lv_aload_n hx hb dX8_is_24 rfl (lv_at hl 1 rfl) ?_
      refine g_slen S hW hw q1671 ⟨Nat.le_of_ble_eq_true rfl, Nat.le_of_ble_eq_true rfl⟩ hl.1 (Nat.le_of_ble_eq_true rfl) ⟨Nat.le_refl _, Nat.le_refl _⟩ dX8_is_25 ?_
      refine lv_icmp_ne (tgt := 35) hx hb dX8_is_28 (by decide) (fun c_23 => ?_) (fun c_23 => ?_)
      · have h := if_f h c_23
        exact J35  _ _ _ h hW hl
      · have h := if_t h c_23
        refine lv_iconst (v := 1) hx hb dX8_is_31 (by decide) ?_
        refine lv_goto (tgt := 36) hx hb dX8_is_32 (by decide) ?_
        exact J36 1 _ _ _ h hW hl
theorem cwX8_is {R : Room} {s : State} {args : Array Value} {index : Nat} (hts : ∀ w ∈ lw_all, w.before args s = true) (hl : Cond.methodLink RX8 index yX8_is ∈ lw_all) (hR : rmX8_is.frames + 1 ≤ R.frames ∧ 8 + (4 + 11) + rmX8_is.locals ≤ R.locals) : CallW R s args RX8 RX8 index yX8_is cX8_is 4 (some .boolean) (ws_ yX8_is cX8_is 4 (some .boolean)) rmX8_is 0 0 1 := cwV 1 hts (lw_V hl q1669 qs58 q122 q1670) rfl rfl rfl (by decide +kernel) hR
def tw_wrong (V0 : g_V) (a1 : Int32) : Option (g_V) :=
  bnd (tw_good V0) (fun x_3 => if x_3 = 0 then (some V0) else (ptI V0 0 13 a1 fun V_5 => ptI V_5 0 14 (V_5 0 10) fun V_7 => some V_7))
abbrev rmX8_wrong : Room := rm_ 1 20
set_option maxHeartbeats 4000000 in
theorem metX8_wrong {l : Launch} {gp : Nat → Nat} {nx : Nat} {D : va_G} {K : Nat → ClassId} {al : Nat → Nat} {V0 : g_V} {L0 : g_L} {a1 : Int32} {V' : g_V} (h : tw_wrong V0 a1 = some V') : Met l yX8_wrong (ws_ yX8_wrong cX8_wrong 2 (none)) rmX8_wrong (twPc gp nx [.ref (al 0), .int a1] D K al V0 L0) (twQv nx D K al V' L0) 0 0 (g_A al twSh) := by
  refine g_met rfl (Nat.le_of_ble_eq_true rfl) ?_
  intro p e s m below meth c ls S hr hlk hnm hl hW
  have S : CallFix p m c cX8_wrong 2 s ([.ref (al 0), .int a1] : List Value).toArray lw_all RX8 := S
  have hx := S.1
  have hb := S.2.1
  have hl : lv_has ls 2 [(0, .ref (al 0)), (1, .int a1)] := hl
  unfold tw_wrong at h
  refine lv_aload_n hx hb dX8_wrong_0 rfl (lv_at hl 0 rfl) ?_
  obtain ⟨x_3, h_1, h⟩ := bnd_some h
  refine g_callVi (As := []) (rest := []) S hW (metX8_good h_1) (cwX8_good S.2.2.2.2 q1658 ⟨Nat.le_of_ble_eq_true rfl, Nat.le_of_ble_eq_true rfl⟩) (k := 0) rfl rfl rfl hl.1 rfl (Nat.le_of_ble_eq_true rfl) dX8_wrong_1 ⟨Nat.le_refl _, Nat.le_refl _⟩ (fun H locs hW => ?_)
  refine lv_if_ne (tgt := 8) hx hb dX8_wrong_4 (by decide) (fun c_4 => ?_) (fun c_4 => ?_)
  · have h := if_f h c_4
    refine lv_aload_n hx hb dX8_wrong_8 rfl (lv_at hl 0 rfl) ?_
    refine lv_iload_n hx hb dX8_wrong_9 rfl (lv_at hl 1 rfl) ?_
    obtain ⟨V_5, e_6, h⟩ := ptI_some h
    refine tw_puti S hW 13 (by decide) rfl rfl rfl rfl rfl q1512 e_6 dX8_wrong_10 (fun H locs hW => ?_)
    refine lv_aload_n hx hb dX8_wrong_13 rfl (lv_at hl 0 rfl) ?_
    refine lv_aload_n hx hb dX8_wrong_14 rfl (lv_at hl 0 rfl) ?_
    refine tw_int S hW 10 (by decide) rfl q1509 rfl dX8_wrong_15 ?_
    obtain ⟨V_7, e_8, h⟩ := ptI_some h
    refine tw_puti S hW 14 (by decide) rfl rfl rfl rfl rfl q1513 e_8 dX8_wrong_18 (fun H locs hW => ?_)
    cases h
    exact g_vret S hr hlk hW dX8_wrong_21
  · have h := if_t h c_4
    cases h
    exact g_vret S hr hlk hW dX8_wrong_7
theorem cwX8_wrong {R : Room} {s : State} {args : Array Value} {index : Nat} (hts : ∀ w ∈ lw_all, w.before args s = true) (hl : Cond.methodLink RX8 index yX8_wrong ∈ lw_all) (hR : rmX8_wrong.frames + 1 ≤ R.frames ∧ 8 + (2 + 11) + rmX8_wrong.locals ≤ R.locals) : CallW R s args RX8 RX8 index yX8_wrong cX8_wrong 2 (none) (ws_ yX8_wrong cX8_wrong 2 (none)) rmX8_wrong 0 0 1 := cwV 1 hts (lw_V hl q1683 qs59 q122 q1684) rfl rfl rfl (by decide +kernel) hR
def tw_isSign (V0 : g_V) (a1 : Int32) : Option (Int32) :=
  bnd (tw_good V0) (fun x_3 => if x_3 = 0 then (some 0) else (if (V0 0 11) = 3 then (if (V0 0 12) = a1 then (some 1) else (some 0)) else (some 0)))
abbrev rmX8_isSign : Room := rm_ 1 20
set_option maxHeartbeats 4000000 in
theorem metX8_isSign {l : Launch} {gp : Nat → Nat} {nx : Nat} {D : va_G} {K : Nat → ClassId} {al : Nat → Nat} {V0 : g_V} {L0 : g_L} {a1 : Int32} {r : Int32} (h : tw_isSign V0 a1 = some r) : Met l yX8_isSign (ws_ yX8_isSign cX8_isSign 2 (some .boolean)) rmX8_isSign (twPc gp nx [.ref (al 0), .int a1] D K al V0 L0) (twQi r nx D K al V0 L0) 0 0 (g_A al twSh) := by
  refine g_met rfl (Nat.le_of_ble_eq_true rfl) ?_
  intro p e s m below meth c ls S hr hlk hnm hl hW
  have S : CallFix p m c cX8_isSign 2 s ([.ref (al 0), .int a1] : List Value).toArray lw_all RX8 := S
  have hx := S.1
  have hb := S.2.1
  have hl : lv_has ls 2 [(0, .ref (al 0)), (1, .int a1)] := hl
  unfold tw_isSign at h
  refine lv_aload_n hx hb dX8_isSign_0 rfl (lv_at hl 0 rfl) ?_
  obtain ⟨x_3, h_1, h⟩ := bnd_some h
  refine g_callVi (As := []) (rest := []) S hW (metX8_good h_1) (cwX8_good S.2.2.2.2 q1658 ⟨Nat.le_of_ble_eq_true rfl, Nat.le_of_ble_eq_true rfl⟩) (k := 0) rfl rfl rfl hl.1 rfl (Nat.le_of_ble_eq_true rfl) dX8_isSign_1 ⟨Nat.le_refl _, Nat.le_refl _⟩ (fun H locs hW => ?_)
  refine lv_if_eq (tgt := 27) hx hb dX8_isSign_4 (by decide) (fun c_4 => ?_) (fun c_4 => ?_)
  · have h := if_t h c_4
    refine lv_iconst (v := 0) hx hb dX8_isSign_27 (by decide) ?_
    cases h
    exact g_zret S hr hlk rfl hW dX8_isSign_28
  · have h := if_f h c_4
    refine lv_aload_n hx hb dX8_isSign_7 rfl (lv_at hl 0 rfl) ?_
    refine tw_int S hW 11 (by decide) rfl q1510 rfl dX8_isSign_8 ?_
    refine lv_iconst (v := 3) hx hb dX8_isSign_11 (by decide) ?_
    refine lv_icmp_ne (tgt := 27) hx hb dX8_isSign_12 (by decide) (fun c_5 => ?_) (fun c_5 => ?_)
    · have h := if_f h c_5
      refine lv_iconst (v := 0) hx hb dX8_isSign_27 (by decide) ?_
      cases h
      exact g_zret S hr hlk rfl hW dX8_isSign_28
    · have h := if_t h c_5
      refine lv_aload_n hx hb dX8_isSign_15 rfl (lv_at hl 0 rfl) ?_
      refine tw_int S hW 12 (by decide) rfl q1511 rfl dX8_isSign_16 ?_
      refine lv_iload_n hx hb dX8_isSign_19 rfl (lv_at hl 1 rfl) ?_
      refine lv_icmp_ne (tgt := 27) hx hb dX8_isSign_20 (by decide) (fun c_6 => ?_) (fun c_6 => ?_)
      · have h := if_f h c_6
        refine lv_iconst (v := 0) hx hb dX8_isSign_27 (by decide) ?_
        cases h
        exact g_zret S hr hlk rfl hW dX8_isSign_28
      · have h := if_t h c_6
        refine lv_iconst (v := 1) hx hb dX8_isSign_23 (by decide) ?_
        refine lv_goto (tgt := 28) hx hb dX8_isSign_24 (by decide) ?_
        cases h
        exact g_zret S hr hlk rfl hW dX8_isSign_28
theorem cwX8_isSign {R : Room} {s : State} {args : Array Value} {index : Nat} (hts : ∀ w ∈ lw_all, w.before args s = true) (hl : Cond.methodLink RX8 index yX8_isSign ∈ lw_all) (hR : rmX8_isSign.frames + 1 ≤ R.frames ∧ 8 + (2 + 11) + rmX8_isSign.locals ≤ R.locals) : CallW R s args RX8 RX8 index yX8_isSign cX8_isSign 2 (some .boolean) (ws_ yX8_isSign cX8_isSign 2 (some .boolean)) rmX8_isSign 0 0 1 := cwV 1 hts (lw_V hl q1716 qs66 q122 q1717) rfl rfl rfl (by decide +kernel) hR
def tw_wordHere (V0 : g_V) : Option (Int32) :=
  bnd (tw_is 21 V0) (fun x_3 => if x_3 = 0 then (bnd (tw_is 0 V0) (fun x_7 => if x_7 = 0 then (bnd (tw_is 1 V0) (fun x_11 => if x_11 = 0 then (bnd (tw_is 2 V0) (fun x_15 => if x_15 = 0 then (bnd (tw_is 3 V0) (fun x_19 => if x_19 = 0 then (some (-1)) else (some 4))) else (some 3))) else (some 2))) else (some 1))) else (some 0))
abbrev rmX8_wordHere : Room := rm_ 5 134
set_option maxHeartbeats 4000000 in
theorem metX8_wordHere {l : Launch} {gp : Nat → Nat} {nx : Nat} {D : va_G} {K : Nat → ClassId} {al : Nat → Nat} {V0 : g_V} {L0 : g_L} {r : Int32} (h : tw_wordHere V0 = some r) : Met l yX8_wordHere (ws_ yX8_wordHere cX8_wordHere 1 (some .int)) rmX8_wordHere (twPc gp nx [.ref (al 0)] D K al V0 L0) (twQi r nx D K al V0 L0) 0 0 (g_A al twSh) := by
  refine g_met rfl (Nat.le_of_ble_eq_true rfl) ?_
  intro p e s m below meth c ls S hr hlk hnm hl hW
  have S : CallFix p m c cX8_wordHere 1 s ([.ref (al 0)] : List Value).toArray lw_all RX8 := S
  have hx := S.1
  have hb := S.2.1
  have hl : lv_has ls 1 [(0, .ref (al 0))] := hl
  unfold tw_wordHere at h
  refine lv_aload_n hx hb dX8_wordHere_0 rfl (lv_at hl 0 rfl) ?_
  refine g_ldcS (w := 21) (tx := "shut") S hW (List.mem_of_getElem? (i := 32) rfl) dX8_wordHere_1 ?_
  obtain ⟨x_3, h_1, h⟩ := bnd_some h
  refine g_callVi (As := [.ref (gp 21)]) (rest := []) S hW (metX8_is (by decide) h_1) (cwX8_is S.2.2.2.2 q1667 ⟨Nat.le_of_ble_eq_true rfl, Nat.le_of_ble_eq_true rfl⟩) (k := 0) rfl rfl rfl hl.1 rfl (Nat.le_of_ble_eq_true rfl) dX8_wordHere_3 ⟨Nat.le_refl _, Nat.le_refl _⟩ (fun H locs hW => ?_)
  refine lv_if_eq (tgt := 13) hx hb dX8_wordHere_6 (by decide) (fun c_4 => ?_) (fun c_4 => ?_)
  · have h := if_t h c_4
    refine lv_aload_n hx hb dX8_wordHere_13 rfl (lv_at hl 0 rfl) ?_
    refine g_ldcS (w := 0) (tx := "thick") S hW (List.mem_of_getElem? (i := 33) rfl) dX8_wordHere_14 ?_
    obtain ⟨x_7, h_5, h⟩ := bnd_some h
    refine g_callVi (As := [.ref (gp 0)]) (rest := []) S hW (metX8_is (by decide) h_5) (cwX8_is S.2.2.2.2 q1667 ⟨Nat.le_of_ble_eq_true rfl, Nat.le_of_ble_eq_true rfl⟩) (k := 0) rfl rfl rfl hl.1 rfl (Nat.le_of_ble_eq_true rfl) dX8_wordHere_16 ⟨Nat.le_refl _, Nat.le_refl _⟩ (fun H locs hW => ?_)
    refine lv_if_eq (tgt := 26) hx hb dX8_wordHere_19 (by decide) (fun c_8 => ?_) (fun c_8 => ?_)
    · have h := if_t h c_8
      refine lv_aload_n hx hb dX8_wordHere_26 rfl (lv_at hl 0 rfl) ?_
      refine g_ldcS (w := 1) (tx := "gaps") S hW (List.mem_of_getElem? (i := 34) rfl) dX8_wordHere_27 ?_
      obtain ⟨x_11, h_9, h⟩ := bnd_some h
      refine g_callVi (As := [.ref (gp 1)]) (rest := []) S hW (metX8_is (by decide) h_9) (cwX8_is S.2.2.2.2 q1667 ⟨Nat.le_of_ble_eq_true rfl, Nat.le_of_ble_eq_true rfl⟩) (k := 0) rfl rfl rfl hl.1 rfl (Nat.le_of_ble_eq_true rfl) dX8_wordHere_29 ⟨Nat.le_refl _, Nat.le_refl _⟩ (fun H locs hW => ?_)
      refine lv_if_eq (tgt := 39) hx hb dX8_wordHere_32 (by decide) (fun c_12 => ?_) (fun c_12 => ?_)
      · have h := if_t h c_12
        refine lv_aload_n hx hb dX8_wordHere_39 rfl (lv_at hl 0 rfl) ?_
        refine g_ldcS (w := 2) (tx := "tick") S hW (List.mem_of_getElem? (i := 35) rfl) dX8_wordHere_40 ?_
        obtain ⟨x_15, h_13, h⟩ := bnd_some h
        refine g_callVi (As := [.ref (gp 2)]) (rest := []) S hW (metX8_is (by decide) h_13) (cwX8_is S.2.2.2.2 q1667 ⟨Nat.le_of_ble_eq_true rfl, Nat.le_of_ble_eq_true rfl⟩) (k := 0) rfl rfl rfl hl.1 rfl (Nat.le_of_ble_eq_true rfl) dX8_wordHere_42 ⟨Nat.le_refl _, Nat.le_refl _⟩ (fun H locs hW => ?_)
        refine lv_if_eq (tgt := 52) hx hb dX8_wordHere_45 (by decide) (fun c_16 => ?_) (fun c_16 => ?_)
        · have h := if_t h c_16
          refine lv_aload_n hx hb dX8_wordHere_52 rfl (lv_at hl 0 rfl) ?_
          refine g_ldcS (w := 3) (tx := "lift") S hW (List.mem_of_getElem? (i := 36) rfl) dX8_wordHere_53 ?_
          obtain ⟨x_19, h_17, h⟩ := bnd_some h
          refine g_callVi (As := [.ref (gp 3)]) (rest := []) S hW (metX8_is (by decide) h_17) (cwX8_is S.2.2.2.2 q1667 ⟨Nat.le_of_ble_eq_true rfl, Nat.le_of_ble_eq_true rfl⟩) (k := 0) rfl rfl rfl hl.1 rfl (Nat.le_of_ble_eq_true rfl) dX8_wordHere_55 ⟨Nat.le_refl _, Nat.le_refl _⟩ (fun H locs hW => ?_)
          refine lv_if_eq (tgt := 65) hx hb dX8_wordHere_58 (by decide) (fun c_20 => ?_) (fun c_20 => ?_)
          · have h := if_t h c_20
            refine lv_iconst (v := (-1)) hx hb dX8_wordHere_65 (by decide) ?_
            cases h
            exact g_iret S hr hlk hW dX8_wordHere_66
          · have h := if_f h c_20
            refine lv_iconst (v := 4) hx hb dX8_wordHere_61 (by decide) ?_
            refine lv_goto (tgt := 66) hx hb dX8_wordHere_62 (by decide) ?_
            cases h
            exact g_iret S hr hlk hW dX8_wordHere_66
        · have h := if_f h c_16
          refine lv_iconst (v := 3) hx hb dX8_wordHere_48 (by decide) ?_
          refine lv_goto (tgt := 66) hx hb dX8_wordHere_49 (by decide) ?_
          cases h
          exact g_iret S hr hlk hW dX8_wordHere_66
      · have h := if_f h c_12
        refine lv_iconst (v := 2) hx hb dX8_wordHere_35 (by decide) ?_
        refine lv_goto (tgt := 66) hx hb dX8_wordHere_36 (by decide) ?_
        cases h
        exact g_iret S hr hlk hW dX8_wordHere_66
    · have h := if_f h c_8
      refine lv_iconst (v := 1) hx hb dX8_wordHere_22 (by decide) ?_
      refine lv_goto (tgt := 66) hx hb dX8_wordHere_23 (by decide) ?_
      cases h
      exact g_iret S hr hlk hW dX8_wordHere_66
  · have h := if_f h c_4
    refine lv_iconst (v := 0) hx hb dX8_wordHere_9 (by decide) ?_
    refine lv_goto (tgt := 66) hx hb dX8_wordHere_10 (by decide) ?_
    cases h
    exact g_iret S hr hlk hW dX8_wordHere_66
theorem cwX8_wordHere {R : Room} {s : State} {args : Array Value} {index : Nat} (hts : ∀ w ∈ lw_all, w.before args s = true) (hl : Cond.methodLink RX8 index yX8_wordHere ∈ lw_all) (hR : rmX8_wordHere.frames + 1 ≤ R.frames ∧ 8 + (1 + 11) + rmX8_wordHere.locals ≤ R.locals) : CallW R s args RX8 RX8 index yX8_wordHere cX8_wordHere 1 (some .int) (ws_ yX8_wordHere cX8_wordHere 1 (some .int)) rmX8_wordHere 0 0 0 := cwV 0 hts (lw_V hl q1749 qs73 q122 q1750) rfl rfl rfl (by decide +kernel) hR
def tw_fault (V0 : g_V) (a1 : Int32) : Option (Int32) :=
  if a1 = 0 then (some (V0 0 13)) else (if a1 = 1 then (some (V0 0 14)) else (some (-1)))
abbrev rmX8_fault : Room := rm_ 0 0
set_option maxHeartbeats 4000000 in
theorem metX8_fault {l : Launch} {gp : Nat → Nat} {nx : Nat} {D : va_G} {K : Nat → ClassId} {al : Nat → Nat} {V0 : g_V} {L0 : g_L} {a1 : Int32} {r : Int32} (h : tw_fault V0 a1 = some r) : Met l yX8_fault (ws_ yX8_fault cX8_fault 2 (some .int)) rmX8_fault (twPc gp nx [.ref (al 0), .int a1] D K al V0 L0) (twQi r nx D K al V0 L0) 0 0 (g_A al twSh) := by
  refine g_met rfl (Nat.le_of_ble_eq_true rfl) ?_
  intro p e s m below meth c ls S hr hlk hnm hl hW
  have S : CallFix p m c cX8_fault 2 s ([.ref (al 0), .int a1] : List Value).toArray lw_all RX8 := S
  have hx := S.1
  have hb := S.2.1
  have hl : lv_has ls 2 [(0, .ref (al 0)), (1, .int a1)] := hl
  unfold tw_fault at h
  refine lv_iload_n hx hb dX8_fault_0 rfl (lv_at hl 1 rfl) ?_
  refine lv_if_ne (tgt := 11) hx hb dX8_fault_1 (by decide) (fun c_1 => ?_) (fun c_1 => ?_)
  · have h := if_f h c_1
    refine lv_iload_n hx hb dX8_fault_11 rfl (lv_at hl 1 rfl) ?_
    refine lv_iconst (v := 1) hx hb dX8_fault_12 (by decide) ?_
    refine lv_icmp_ne (tgt := 23) hx hb dX8_fault_13 (by decide) (fun c_2 => ?_) (fun c_2 => ?_)
    · have h := if_f h c_2
      refine lv_iconst (v := (-1)) hx hb dX8_fault_23 (by decide) ?_
      cases h
      exact g_iret S hr hlk hW dX8_fault_24
    · have h := if_t h c_2
      refine lv_aload_n hx hb dX8_fault_16 rfl (lv_at hl 0 rfl) ?_
      refine tw_int S hW 14 (by decide) rfl q1513 rfl dX8_fault_17 ?_
      refine lv_goto (tgt := 24) hx hb dX8_fault_20 (by decide) ?_
      cases h
      exact g_iret S hr hlk hW dX8_fault_24
  · have h := if_t h c_1
    refine lv_aload_n hx hb dX8_fault_4 rfl (lv_at hl 0 rfl) ?_
    refine tw_int S hW 13 (by decide) rfl q1512 rfl dX8_fault_5 ?_
    refine lv_goto (tgt := 24) hx hb dX8_fault_8 (by decide) ?_
    cases h
    exact g_iret S hr hlk hW dX8_fault_24
theorem cwX8_fault {R : Room} {s : State} {args : Array Value} {index : Nat} (hts : ∀ w ∈ lw_all, w.before args s = true) (hl : Cond.methodLink RX8 index yX8_fault ∈ lw_all) (hR : rmX8_fault.frames + 1 ≤ R.frames ∧ 8 + (2 + 11) + rmX8_fault.locals ≤ R.locals) : CallW R s args RX8 RX8 index yX8_fault cX8_fault 2 (some .int) (ws_ yX8_fault cX8_fault 2 (some .int)) rmX8_fault 0 0 1 := cwV 1 hts (lw_V hl q1759 q1760 q122 q1761) rfl rfl rfl (by decide +kernel) hR
def tw_isDug (V0 : g_V) (a1 : Int32) : Option (Int32) :=
  rdI (V0 1) 810 (480 + a1) fun x_1 => if x_1 = 1 then (some 1) else (some 0)
abbrev rmX8_isDug : Room := rm_ 0 0
set_option maxHeartbeats 4000000 in
theorem metX8_isDug {l : Launch} {gp : Nat → Nat} {nx : Nat} {D : va_G} {K : Nat → ClassId} {al : Nat → Nat} {V0 : g_V} {L0 : g_L} {a1 : Int32} {r : Int32} (h : tw_isDug V0 a1 = some r) : Met l yX8_isDug (ws_ yX8_isDug cX8_isDug 2 (some .boolean)) rmX8_isDug (twPc gp nx [.ref (al 0), .int a1] D K al V0 L0) (twQi r nx D K al V0 L0) 0 0 (g_A al twSh) := by
  refine g_met rfl (Nat.le_of_ble_eq_true rfl) ?_
  intro p e s m below meth c ls S hr hlk hnm hl hW
  have S : CallFix p m c cX8_isDug 2 s ([.ref (al 0), .int a1] : List Value).toArray lw_all RX8 := S
  have hx := S.1
  have hb := S.2.1
  have hl : lv_has ls 2 [(0, .ref (al 0)), (1, .int a1)] := hl
  unfold tw_isDug at h
  refine lv_aload_n hx hb dX8_isDug_0 rfl (lv_at hl 0 rfl) ?_
  refine tw_ref S hW 1 1 (by decide) rfl q1500 rfl dX8_isDug_1 ?_
  refine lv_sipush (v := 480) hx hb dX8_isDug_4 (by decide) ?_
  refine lv_iload_n hx hb dX8_isDug_7 rfl (lv_at hl 1 rfl) ?_
  refine lv_iadd hx hb dX8_isDug_8 ?_
  obtain ⟨h_2, x_1, e_3, h⟩ := rdI_some h
  refine g_iald S hW (k := 1) rfl rfl h_2 e_3 dX8_isDug_9 ?_
  refine lv_iconst (v := 1) hx hb dX8_isDug_10 (by decide) ?_
  refine lv_icmp_ne (tgt := 18) hx hb dX8_isDug_11 (by decide) (fun c_4 => ?_) (fun c_4 => ?_)
  · have h := if_f h c_4
    refine lv_iconst (v := 0) hx hb dX8_isDug_18 (by decide) ?_
    cases h
    exact g_zret S hr hlk rfl hW dX8_isDug_19
  · have h := if_t h c_4
    refine lv_iconst (v := 1) hx hb dX8_isDug_14 (by decide) ?_
    refine lv_goto (tgt := 19) hx hb dX8_isDug_15 (by decide) ?_
    cases h
    exact g_zret S hr hlk rfl hW dX8_isDug_19
theorem cwX8_isDug {R : Room} {s : State} {args : Array Value} {index : Nat} (hts : ∀ w ∈ lw_all, w.before args s = true) (hl : Cond.methodLink RX8 index yX8_isDug ∈ lw_all) (hR : rmX8_isDug.frames + 1 ≤ R.frames ∧ 8 + (2 + 11) + rmX8_isDug.locals ≤ R.locals) : CallW R s args RX8 RX8 index yX8_isDug cX8_isDug 2 (some .boolean) (ws_ yX8_isDug cX8_isDug 2 (some .boolean)) rmX8_isDug 0 0 1 := cwV 1 hts (lw_V hl q1773 qs75 q122 q1774) rfl rfl rfl (by decide +kernel) hR
def tw_isPlace (a0 : Int32) (a1 : Int32) : Option (Int32) :=
  bnd (tw_in a0.toInt64 0 11) (fun x_3 => if x_3 = 0 then (some 0) else (bnd (tw_in a1.toInt64 0 11) (fun x_7 => if x_7 = 0 then (some 0) else (some 1))))
abbrev rmX8_isPlace : Room := rm_ 1 25
set_option maxHeartbeats 4000000 in
theorem metX8_isPlace {l : Launch} {gp : Nat → Nat} {nx : Nat} {D : va_G} {K : Nat → ClassId} {al : Nat → Nat} {V0 : g_V} {L0 : g_L} {a0 : Int32} {a1 : Int32} {r : Int32} (h : tw_isPlace a0 a1 = some r) : Met l yX8_isPlace (ws_ yX8_isPlace cX8_isPlace 2 (some .boolean)) rmX8_isPlace (twPc gp nx [.int a0, .int a1] D K al V0 L0) (twQi r nx D K al V0 L0) 0 0 (g_A al twSh) := by
  refine g_met rfl (Nat.le_of_ble_eq_true rfl) ?_
  intro p e s m below meth c ls S hr hlk hnm hl hW
  have S : CallFix p m c cX8_isPlace 2 s ([.int a0, .int a1] : List Value).toArray lw_all RX8 := S
  have hx := S.1
  have hb := S.2.1
  have hl : lv_has ls 2 [(0, .int a0), (1, .int a1)] := hl
  unfold tw_isPlace at h
  refine lv_iload_n hx hb dX8_isPlace_0 rfl (lv_at hl 0 rfl) ?_
  refine lv_i2l (v := a0.toInt64) hx hb dX8_isPlace_1 rfl ?_
  refine lv_lconst (v := 0) hx hb dX8_isPlace_2 (by decide) ?_
  refine lv_ldc2 (v := 11) hx hb S.2.2.2.1 (S.2.2.2.2 _ q1731) dX8_isPlace_3 ?_
  obtain ⟨x_3, h_1, h⟩ := bnd_some h
  refine g_callSi (As := [.long a0.toInt64, .long 0, .long 11]) (rest := []) S hW (metX8_in h_1) (cwX8_in S.2.2.2.2 q1625 ⟨Nat.le_of_ble_eq_true rfl, Nat.le_of_ble_eq_true rfl⟩) rfl hl.1 rfl (Nat.le_of_ble_eq_true rfl) dX8_isPlace_6 ⟨Nat.le_refl _, Nat.le_refl _⟩ (fun H locs hW => ?_)
  refine lv_if_eq (tgt := 28) hx hb dX8_isPlace_9 (by decide) (fun c_4 => ?_) (fun c_4 => ?_)
  · have h := if_t h c_4
    refine lv_iconst (v := 0) hx hb dX8_isPlace_28 (by decide) ?_
    cases h
    exact g_zret S hr hlk rfl hW dX8_isPlace_29
  · have h := if_f h c_4
    refine lv_iload_n hx hb dX8_isPlace_12 rfl (lv_at hl 1 rfl) ?_
    refine lv_i2l (v := a1.toInt64) hx hb dX8_isPlace_13 rfl ?_
    refine lv_lconst (v := 0) hx hb dX8_isPlace_14 (by decide) ?_
    refine lv_ldc2 (v := 11) hx hb S.2.2.2.1 (S.2.2.2.2 _ q1731) dX8_isPlace_15 ?_
    obtain ⟨x_7, h_5, h⟩ := bnd_some h
    refine g_callSi (As := [.long a1.toInt64, .long 0, .long 11]) (rest := []) S hW (metX8_in h_5) (cwX8_in S.2.2.2.2 q1625 ⟨Nat.le_of_ble_eq_true rfl, Nat.le_of_ble_eq_true rfl⟩) rfl hl.1 rfl (Nat.le_of_ble_eq_true rfl) dX8_isPlace_18 ⟨Nat.le_refl _, Nat.le_refl _⟩ (fun H locs hW => ?_)
    refine lv_if_eq (tgt := 28) hx hb dX8_isPlace_21 (by decide) (fun c_8 => ?_) (fun c_8 => ?_)
    · have h := if_t h c_8
      refine lv_iconst (v := 0) hx hb dX8_isPlace_28 (by decide) ?_
      cases h
      exact g_zret S hr hlk rfl hW dX8_isPlace_29
    · have h := if_f h c_8
      refine lv_iconst (v := 1) hx hb dX8_isPlace_24 (by decide) ?_
      refine lv_goto (tgt := 29) hx hb dX8_isPlace_25 (by decide) ?_
      cases h
      exact g_zret S hr hlk rfl hW dX8_isPlace_29
theorem cwX8_isPlace {R : Room} {s : State} {args : Array Value} {index : Nat} (hts : ∀ w ∈ lw_all, w.before args s = true) (hl : Cond.methodLink RX8 index yX8_isPlace ∈ lw_all) (hR : rmX8_isPlace.frames + 1 ≤ R.frames ∧ 8 + (2 + 11) + rmX8_isPlace.locals ≤ R.locals) : CallB R s args RX8 index yX8_isPlace cX8_isPlace 2 (some .boolean) (ws_ yX8_isPlace cX8_isPlace 2 (some .boolean)) rmX8_isPlace 0 0 2 ∧ (Cond.static yX8_isPlace).before args s = true := va_cwS 2 hts (lw_S hl q1783 q122 q1784) rfl rfl rfl (by decide +kernel) hR
def tw_groundOf (V0 : g_V) (a1 : Int32) (a2 : Int32) : Option (Int32) :=
  rdI (V0 1) 810 (48 + a1) fun x_1 => rdI (V0 1) 810 ((20 + (4 * x_1)) + a2) fun x_4 => some x_4
abbrev rmX8_groundOf : Room := rm_ 0 0
set_option maxHeartbeats 4000000 in
theorem metX8_groundOf {l : Launch} {gp : Nat → Nat} {nx : Nat} {D : va_G} {K : Nat → ClassId} {al : Nat → Nat} {V0 : g_V} {L0 : g_L} {a1 : Int32} {a2 : Int32} {r : Int32} (h : tw_groundOf V0 a1 a2 = some r) : Met l yX8_groundOf (ws_ yX8_groundOf cX8_groundOf 3 (some .int)) rmX8_groundOf (twPc gp nx [.ref (al 0), .int a1, .int a2] D K al V0 L0) (twQi r nx D K al V0 L0) 0 0 (g_A al twSh) := by
  refine g_met rfl (Nat.le_of_ble_eq_true rfl) ?_
  intro p e s m below meth c ls S hr hlk hnm hl hW
  have S : CallFix p m c cX8_groundOf 3 s ([.ref (al 0), .int a1, .int a2] : List Value).toArray lw_all RX8 := S
  have hx := S.1
  have hb := S.2.1
  have hl : lv_has ls 3 [(0, .ref (al 0)), (1, .int a1), (2, .int a2)] := hl
  unfold tw_groundOf at h
  refine lv_aload_n hx hb dX8_groundOf_0 rfl (lv_at hl 0 rfl) ?_
  refine tw_ref S hW 1 1 (by decide) rfl q1500 rfl dX8_groundOf_1 ?_
  refine lv_bipush (v := 20) hx hb dX8_groundOf_4 (by decide) ?_
  refine lv_iconst (v := 4) hx hb dX8_groundOf_6 (by decide) ?_
  refine lv_aload_n hx hb dX8_groundOf_7 rfl (lv_at hl 0 rfl) ?_
  refine tw_ref S hW 1 1 (by decide) rfl q1500 rfl dX8_groundOf_8 ?_
  refine lv_bipush (v := 48) hx hb dX8_groundOf_11 (by decide) ?_
  refine lv_iload_n hx hb dX8_groundOf_13 rfl (lv_at hl 1 rfl) ?_
  refine lv_iadd hx hb dX8_groundOf_14 ?_
  obtain ⟨h_2, x_1, e_3, h⟩ := rdI_some h
  refine g_iald S hW (k := 1) rfl rfl h_2 e_3 dX8_groundOf_15 ?_
  refine lv_imul hx hb dX8_groundOf_16 ?_
  refine lv_iadd hx hb dX8_groundOf_17 ?_
  refine lv_iload_n hx hb dX8_groundOf_18 rfl (lv_at hl 2 rfl) ?_
  refine lv_iadd hx hb dX8_groundOf_19 ?_
  obtain ⟨h_5, x_4, e_6, h⟩ := rdI_some h
  refine g_iald S hW (k := 1) rfl rfl h_5 e_6 dX8_groundOf_20 ?_
  cases h
  exact g_iret S hr hlk hW dX8_groundOf_21
theorem cwX8_groundOf {R : Room} {s : State} {args : Array Value} {index : Nat} (hts : ∀ w ∈ lw_all, w.before args s = true) (hl : Cond.methodLink RX8 index yX8_groundOf ∈ lw_all) (hR : rmX8_groundOf.frames + 1 ≤ R.frames ∧ 8 + (3 + 11) + rmX8_groundOf.locals ≤ R.locals) : CallW R s args RX8 RX8 index yX8_groundOf cX8_groundOf 3 (some .int) (ws_ yX8_groundOf cX8_groundOf 3 (some .int)) rmX8_groundOf 0 0 2 := cwV 2 hts (lw_V hl q1795 qs79 q122 q1796) rfl rfl rfl (by decide +kernel) hR
def tw_pipes_J83 (rec : Int64 → Int32 → g_V → Option (Int64 × g_V)) (x1 : Int64) (x3 : Int32) (x4 : Int32) (x5 : Int32) (z0 : Int32) (V : g_V) : Option (Int64 × g_V) :=
  if z0 = 0 then (wrI V 25 18 x3 0 fun V_17 => rdI (V_17 25) 18 x3 fun x_18 => nmL (x1 + x_18.toInt64) fun x_21 => nmI (x3 + 1) fun x_23 => rec x_21 x_23 V_17) else (rdI (V 1) 810 (192 + x5) fun x_25 => rdI (V 1) 810 (x4 + 1) fun x_28 => rdI (V 1) 810 (x4 + 2) fun x_31 => wrI V 25 18 x3 (((x_25 - x_28) * x_31) / 100) fun V_36 => rdI (V_36 25) 18 x3 fun x_37 => nmL (x1 + x_37.toInt64) fun x_40 => nmI (x3 + 1) fun x_42 => rec x_40 x_42 V_36)
def tw_pipes_J82 (rec : Int64 → Int32 → g_V → Option (Int64 × g_V)) (x1 : Int64) (x3 : Int32) (x4 : Int32) (x5 : Int32) (V : g_V) : Option (Int64 × g_V) :=
  tw_pipes_J83 rec x1 x3 x4 x5 0 V
def tw_pipes_B4 (rec : Int64 → Int32 → g_V → Option (Int64 × g_V)) (x1 : Int64) (x3 : Int32) (V : g_V) : Option (Int64 × g_V) :=
  rdI (V 1) 810 2 fun x_1 => if x_1 ≤ x3 then (some (x1, V)) else (nmI (624 + (6 * x3)) fun x_5 => rdI (V 1) 810 x_5 fun x_7 => rdI (V 1) 810 (x_5 + 3) fun x_10 => if x_10 = 1 then (bnd (tw_isDug V x_7) (fun x_46 => if x_46 = 0 then (rdI (V 1) 810 (192 + x_7) fun x_48 => rdI (V 1) 810 (x_5 + 1) fun x_51 => if x_48 ≤ x_51 then (tw_pipes_J82 rec x1 x3 x_5 x_7 V) else (tw_pipes_J83 rec x1 x3 x_5 x_7 1 V)) else (tw_pipes_J82 rec x1 x3 x_5 x_7 V))) else (tw_pipes_J82 rec x1 x3 x_5 x_7 V))
abbrev tw_pipes_F4 : ((Int64 × Int32 × g_V) → Option (Int64 × g_V)) → (Int64 × Int32 × g_V) → Option (Int64 × g_V) := fun rec s => tw_pipes_B4 (fun x1 x3 V => rec (x1, x3, V)) s.1 s.2.1 s.2.2
def tw_pipes_L4 (n : Nat) (x1 : Int64) (x3 : Int32) (V : g_V) : Option (Int64 × g_V) := lp (tw_pipes_F4) n (x1, x3, V)
theorem tw_pipes_L4_s (n : Nat) (x1 : Int64) (x3 : Int32) (V : g_V) : tw_pipes_L4 (n + 1) x1 x3 V = tw_pipes_B4 (fun x1 x3 V => tw_pipes_L4 n x1 x3 V) x1 x3 V := lp_s (tw_pipes_F4) n (x1, x3, V)
def tw_pipes_J213 (rec : Int32 → g_V → Option (g_V)) (x1 : Int64) (x3 : Int32) (x4 : Int32) (z0 : Int32) (V : g_V) : Option (g_V) :=
  rdI (V 1) 810 x4 fun x_72 => rdI (V 24) 144 x_72 fun x_75 => wrI V 24 144 x_72 (x_75 - z0) fun V_80 => wrI V_80 1 810 (x4 + 4) z0 fun V_83 => rdI (V_83 1) 810 (x4 + 5) fun x_84 => wrI V_83 1 810 (x4 + 5) (x_84 + z0) fun V_89 => rdI (V_89 1) 810 14 fun x_90 => wrI V_89 1 810 14 (x_90 + z0) fun V_95 => nmI (x3 + 1) fun x_96 => rec x_96 V_95
def tw_pipes_B152 (x1 : Int64) (rec : Int32 → g_V → Option (g_V)) (x3 : Int32) (V : g_V) : Option (g_V) :=
  rdI (V 1) 810 2 fun x_59 => if x_59 ≤ x3 then (some V) else (nmI (624 + (6 * x3)) fun x_63 => rdI (V 1) 810 6 fun x_65 => if (lg_cmp x1 x_65.toInt64) ≤ 0 then (rdI (V 25) 18 x3 fun x_69 => tw_pipes_J213 rec x1 x3 x_63 x_69 V) else (rdI (V 25) 18 x3 fun x_98 => rdI (V 1) 810 6 fun x_101 => okI (decide (¬ x1 = 0)) <| tw_pipes_J213 rec x1 x3 x_63 (((x_98.toInt64 * x_101.toInt64) / x1).toInt32) V))
abbrev tw_pipes_F152 (x1 : Int64) : ((Int32 × g_V) → Option (g_V)) → (Int32 × g_V) → Option (g_V) := fun rec s => tw_pipes_B152 x1 (fun x3 V => rec (x3, V)) s.1 s.2
def tw_pipes_L152 (x1 : Int64) (n : Nat) (x3 : Int32) (V : g_V) : Option (g_V) := lp (tw_pipes_F152 x1) n (x3, V)
theorem tw_pipes_L152_s (x1 : Int64) (n : Nat) (x3 : Int32) (V : g_V) : tw_pipes_L152 x1 (n + 1) x3 V = tw_pipes_B152 x1 (fun x3 V => tw_pipes_L152 x1 n x3 V) x3 V := lp_s (tw_pipes_F152 x1) n (x3, V)
def tw_pipes (V0 : g_V) : Option (g_V) :=
  bnd (tw_pipes_L4 1000 0 0 V0) (un2 fun x_57 V_58 => bnd (tw_pipes_L152 x_57 1000 0 V_58) (fun V_107 => some V_107))
abbrev rmX8_pipes : Room := rm_ 1 21
set_option maxHeartbeats 4000000 in
theorem metX8_pipes {l : Launch} {gp : Nat → Nat} {nx : Nat} {D : va_G} {K : Nat → ClassId} {al : Nat → Nat} {V0 : g_V} {L0 : g_L} {V' : g_V} (h : tw_pipes V0 = some V') : Met l yX8_pipes (ws_ yX8_pipes cX8_pipes 7 (none)) rmX8_pipes (twPc gp nx [.ref (al 0)] D K al V0 L0) (twQv nx D K al V' L0) 0 0 (g_A al twSh) := by
  refine g_met rfl (Nat.le_of_ble_eq_true rfl) ?_
  intro p e s m below meth c ls S hr hlk hnm hl hW
  have S : CallFix p m c cX8_pipes 7 s ([.ref (al 0)] : List Value).toArray lw_all RX8 := S
  have hx := S.1
  have hb := S.2.1
  have hl : lv_has ls 7 [(0, .ref (al 0))] := hl
  have Lp4 : ∀ (L : g_L) (n : Nat) (x1 : Int64) (x3 : Int32) (V : g_V) (out : (Int64 × g_V)) (H : Heap) (locs : List Loc) (ls : Array Slot), tw_pipes_L4 n x1 x3 V = some out → twW gp nx D K al s V L H locs → lv_has ls 7 [(0, .ref (al 0)), (1, .long x1), (3, .int x3)] → (∀ (o1 : Int64) (oV : g_V), out = (o1, oV) → ∀ (H : Heap) (locs : List Loc) (ls : Array Slot), twW gp nx D K al s oV L H locs → lv_has ls 7 [(0, .ref (al 0)), (1, .long o1)] → W p l e rmX8_pipes s m ([.ref (al 0)] : List Value).toArray below meth c H locs 0 0 (MQ below (twQv nx D K al V' L0) ([.ref (al 0)] : List Value).toArray s 0 0 (g_A al twSh)) (F0 m 150 ls [])) → W p l e rmX8_pipes s m ([.ref (al 0)] : List Value).toArray below meth c H locs 0 0 (MQ below (twQv nx D K al V' L0) ([.ref (al 0)] : List Value).toArray s 0 0 (g_A al twSh)) (F0 m 4 ls []) := by
    intro L n
    induction n with
    | zero =>
      intro x1 x3 V out H locs ls h
      exact (lp_0 h).elim
    | succ n ih =>
      intro x1 x3 V out H locs ls h hW hl k1
      have J83 : ∀ (x1 : Int64) (x3 : Int32) (x4 : Int32) (x5 : Int32) (z0 : Int32) (V : g_V) (H : Heap) (locs : List Loc) (ls : Array Slot), tw_pipes_J83 (fun x1 x3 V => tw_pipes_L4 n x1 x3 V) x1 x3 x4 x5 z0 V = some out → twW gp nx D K al s V L H locs → lv_has ls 7 [(0, .ref (al 0)), (1, .long x1), (3, .int x3), (4, .int x4), (5, .int x5)] → W p l e rmX8_pipes s m ([.ref (al 0)] : List Value).toArray below meth c H locs 0 0 (MQ below (twQv nx D K al V' L0) ([.ref (al 0)] : List Value).toArray s 0 0 (g_A al twSh)) (F0 m 83 ls [.int z0]) := by
        intro x1 x3 x4 x5 z0 V H locs ls h hW hl
        unfold tw_pipes_J83 at h
        refine lv_istore (lv' := [(6, .int z0), (0, .ref (al 0)), (1, .long x1), (3, .int x3), (4, .int x4), (5, .int x5)]) hx hb dX8_pipes_83 hl (by decide) rfl (fun ls hl => ?_)
        refine lv_aload_n hx hb dX8_pipes_85 rfl (lv_at hl 1 rfl) ?_
        refine tw_ref S hW 25 25 (by decide) rfl q1524 rfl dX8_pipes_86 ?_
        refine lv_iload_n hx hb dX8_pipes_89 rfl (lv_at hl 3 rfl) ?_
        refine lv_iload hx hb dX8_pipes_90 (lv_at hl 0 rfl) ?_
        refine lv_if_eq (tgt := 132) hx hb dX8_pipes_92 (by decide) (fun c_14 => ?_) (fun c_14 => ?_)
        · have h := if_t h c_14
          refine lv_iconst (v := 0) hx hb dX8_pipes_132 (by decide) ?_
          obtain ⟨h_15, V_17, e_16, h⟩ := wrI_some h
          refine g_iast S hW (k := 25) rfl rfl h_15 e_16 dX8_pipes_133 (fun H locs hW => ?_)
          refine lv_lload_n hx hb dX8_pipes_134 rfl (lv_at hl 2 rfl) ?_
          refine lv_aload_n hx hb dX8_pipes_135 rfl (lv_at hl 1 rfl) ?_
          refine tw_ref S hW 25 25 (by decide) rfl q1524 rfl dX8_pipes_136 ?_
          refine lv_iload_n hx hb dX8_pipes_139 rfl (lv_at hl 3 rfl) ?_
          obtain ⟨h_19, x_18, e_20, h⟩ := rdI_some h
          refine g_iald S hW (k := 25) rfl rfl h_19 e_20 dX8_pipes_140 ?_
          refine lv_i2l (v := x_18.toInt64) hx hb dX8_pipes_141 rfl ?_
          refine lv_ladd hx hb dX8_pipes_142 ?_
          obtain ⟨x_21, e_22, h⟩ := nmL_some h
          refine g_nml e_22 ?_
          refine lv_lstore_n (lv' := [(1, .long x_21), (6, .int z0), (0, .ref (al 0)), (3, .int x3), (4, .int x4), (5, .int x5)]) hx hb dX8_pipes_143 rfl hl (by decide) rfl (fun ls hl => ?_)
          obtain ⟨x_23, e_24, h⟩ := nmI_some h
          refine lv_iinc (v := x_23) (lv' := [(3, .int x_23), (1, .long x_21), (6, .int z0), (0, .ref (al 0)), (4, .int x4), (5, .int x5)]) hx hb dX8_pipes_144 hl (k := 3) rfl (by rw [e_24]; rfl) (by decide) rfl (fun ls hl => ?_)
          refine lv_goto (tgt := 4) hx hb dX8_pipes_147 (by decide) ?_
          exact ih x_21 x_23 V_17 out _ _ _ h hW (lv_sub hl [3, 1, 0] rfl) k1
        · have h := if_f h c_14
          refine lv_aload_n hx hb dX8_pipes_95 rfl (lv_at hl 1 rfl) ?_
          refine tw_ref S hW 1 1 (by decide) rfl q1500 rfl dX8_pipes_96 ?_
          refine lv_sipush (v := 192) hx hb dX8_pipes_99 (by decide) ?_
          refine lv_iload hx hb dX8_pipes_102 (lv_at hl 5 rfl) ?_
          refine lv_iadd hx hb dX8_pipes_104 ?_
          obtain ⟨h_26, x_25, e_27, h⟩ := rdI_some h
          refine g_iald S hW (k := 1) rfl rfl h_26 e_27 dX8_pipes_105 ?_
          refine lv_aload_n hx hb dX8_pipes_106 rfl (lv_at hl 1 rfl) ?_
          refine tw_ref S hW 1 1 (by decide) rfl q1500 rfl dX8_pipes_107 ?_
          refine lv_iload hx hb dX8_pipes_110 (lv_at hl 4 rfl) ?_
          refine lv_iconst (v := 1) hx hb dX8_pipes_112 (by decide) ?_
          refine lv_iadd hx hb dX8_pipes_113 ?_
          obtain ⟨h_29, x_28, e_30, h⟩ := rdI_some h
          refine g_iald S hW (k := 1) rfl rfl h_29 e_30 dX8_pipes_114 ?_
          refine lv_isub hx hb dX8_pipes_115 ?_
          refine lv_aload_n hx hb dX8_pipes_116 rfl (lv_at hl 1 rfl) ?_
          refine tw_ref S hW 1 1 (by decide) rfl q1500 rfl dX8_pipes_117 ?_
          refine lv_iload hx hb dX8_pipes_120 (lv_at hl 4 rfl) ?_
          refine lv_iconst (v := 2) hx hb dX8_pipes_122 (by decide) ?_
          refine lv_iadd hx hb dX8_pipes_123 ?_
          obtain ⟨h_32, x_31, e_33, h⟩ := rdI_some h
          refine g_iald S hW (k := 1) rfl rfl h_32 e_33 dX8_pipes_124 ?_
          refine lv_imul hx hb dX8_pipes_125 ?_
          refine lv_bipush (v := 100) hx hb dX8_pipes_126 (by decide) ?_
          refine lv_idiv hx hb dX8_pipes_128 (by decide) ?_
          refine lv_goto (tgt := 133) hx hb dX8_pipes_129 (by decide) ?_
          obtain ⟨h_34, V_36, e_35, h⟩ := wrI_some h
          refine g_iast S hW (k := 25) rfl rfl h_34 e_35 dX8_pipes_133 (fun H locs hW => ?_)
          refine lv_lload_n hx hb dX8_pipes_134 rfl (lv_at hl 2 rfl) ?_
          refine lv_aload_n hx hb dX8_pipes_135 rfl (lv_at hl 1 rfl) ?_
          refine tw_ref S hW 25 25 (by decide) rfl q1524 rfl dX8_pipes_136 ?_
          refine lv_iload_n hx hb dX8_pipes_139 rfl (lv_at hl 3 rfl) ?_
          obtain ⟨h_38, x_37, e_39, h⟩ := rdI_some h
          refine g_iald S hW (k := 25) rfl rfl h_38 e_39 dX8_pipes_140 ?_
          refine lv_i2l (v := x_37.toInt64) hx hb dX8_pipes_141 rfl ?_
          refine lv_ladd hx hb dX8_pipes_142 ?_
          obtain ⟨x_40, e_41, h⟩ := nmL_some h
          refine g_nml e_41 ?_
          refine lv_lstore_n (lv' := [(1, .long x_40), (6, .int z0), (0, .ref (al 0)), (3, .int x3), (4, .int x4), (5, .int x5)]) hx hb dX8_pipes_143 rfl hl (by decide) rfl (fun ls hl => ?_)
          obtain ⟨x_42, e_43, h⟩ := nmI_some h
          refine lv_iinc (v := x_42) (lv' := [(3, .int x_42), (1, .long x_40), (6, .int z0), (0, .ref (al 0)), (4, .int x4), (5, .int x5)]) hx hb dX8_pipes_144 hl (k := 3) rfl (by rw [e_43]; rfl) (by decide) rfl (fun ls hl => ?_)
          refine lv_goto (tgt := 4) hx hb dX8_pipes_147 (by decide) ?_
          exact ih x_40 x_42 V_36 out _ _ _ h hW (lv_sub hl [3, 1, 0] rfl) k1
      have J82 : ∀ (x1 : Int64) (x3 : Int32) (x4 : Int32) (x5 : Int32) (V : g_V) (H : Heap) (locs : List Loc) (ls : Array Slot), tw_pipes_J82 (fun x1 x3 V => tw_pipes_L4 n x1 x3 V) x1 x3 x4 x5 V = some out → twW gp nx D K al s V L H locs → lv_has ls 7 [(0, .ref (al 0)), (1, .long x1), (3, .int x3), (4, .int x4), (5, .int x5)] → W p l e rmX8_pipes s m ([.ref (al 0)] : List Value).toArray below meth c H locs 0 0 (MQ below (twQv nx D K al V' L0) ([.ref (al 0)] : List Value).toArray s 0 0 (g_A al twSh)) (F0 m 82 ls []) := by
        intro x1 x3 x4 x5 V H locs ls h hW hl
        unfold tw_pipes_J82 at h
        refine lv_iconst (v := 0) hx hb dX8_pipes_82 (by decide) ?_
        exact J83 x1 x3 x4 x5 0 V _ _ _ h hW hl
      rw [tw_pipes_L4_s] at h
      unfold tw_pipes_B4 at h
      refine lv_iload_n hx hb dX8_pipes_4 rfl (lv_at hl 2 rfl) ?_
      refine lv_aload_n hx hb dX8_pipes_5 rfl (lv_at hl 0 rfl) ?_
      refine tw_ref S hW 1 1 (by decide) rfl q1500 rfl dX8_pipes_6 ?_
      refine lv_iconst (v := 2) hx hb dX8_pipes_9 (by decide) ?_
      obtain ⟨h_2, x_1, e_3, h⟩ := rdI_some h
      refine g_iald S hW (k := 1) rfl rfl h_2 e_3 dX8_pipes_10 ?_
      refine lv_icmp_ge (tgt := 150) hx hb dX8_pipes_11 (by decide) (fun c_4 => ?_) (fun c_4 => ?_)
      · have h := if_t h c_4
        exact k1 _ _ (Option.some.inj h).symm _ _ _ hW (lv_sub hl [0, 1] rfl)
      · have h := if_f h c_4
        refine lv_sipush (v := 624) hx hb dX8_pipes_14 (by decide) ?_
        refine lv_bipush (v := 6) hx hb dX8_pipes_17 (by decide) ?_
        refine lv_iload_n hx hb dX8_pipes_19 rfl (lv_at hl 2 rfl) ?_
        refine lv_imul hx hb dX8_pipes_20 ?_
        refine lv_iadd hx hb dX8_pipes_21 ?_
        obtain ⟨x_5, e_6, h⟩ := nmI_some h
        refine g_nmi e_6 ?_
        refine lv_istore (lv' := [(4, .int x_5), (0, .ref (al 0)), (1, .long x1), (3, .int x3)]) hx hb dX8_pipes_22 hl (by decide) rfl (fun ls hl => ?_)
        refine lv_aload_n hx hb dX8_pipes_24 rfl (lv_at hl 1 rfl) ?_
        refine tw_ref S hW 1 1 (by decide) rfl q1500 rfl dX8_pipes_25 ?_
        refine lv_iload hx hb dX8_pipes_28 (lv_at hl 0 rfl) ?_
        obtain ⟨h_8, x_7, e_9, h⟩ := rdI_some h
        refine g_iald S hW (k := 1) rfl rfl h_8 e_9 dX8_pipes_30 ?_
        refine lv_istore (lv' := [(5, .int x_7), (4, .int x_5), (0, .ref (al 0)), (1, .long x1), (3, .int x3)]) hx hb dX8_pipes_31 hl (by decide) rfl (fun ls hl => ?_)
        refine lv_aload_n hx hb dX8_pipes_33 rfl (lv_at hl 2 rfl) ?_
        refine tw_ref S hW 1 1 (by decide) rfl q1500 rfl dX8_pipes_34 ?_
        refine lv_iload hx hb dX8_pipes_37 (lv_at hl 1 rfl) ?_
        refine lv_iconst (v := 3) hx hb dX8_pipes_39 (by decide) ?_
        refine lv_iadd hx hb dX8_pipes_40 ?_
        obtain ⟨h_11, x_10, e_12, h⟩ := rdI_some h
        refine g_iald S hW (k := 1) rfl rfl h_11 e_12 dX8_pipes_41 ?_
        refine lv_iconst (v := 1) hx hb dX8_pipes_42 (by decide) ?_
        refine lv_icmp_ne (tgt := 82) hx hb dX8_pipes_43 (by decide) (fun c_13 => ?_) (fun c_13 => ?_)
        · have h := if_f h c_13
          exact J82 x1 x3 x_5 x_7 V _ _ _ h hW (lv_sub hl [2, 3, 4, 1, 0] rfl)
        · have h := if_t h c_13
          refine lv_aload_n hx hb dX8_pipes_46 rfl (lv_at hl 2 rfl) ?_
          refine lv_iload hx hb dX8_pipes_47 (lv_at hl 0 rfl) ?_
          obtain ⟨x_46, h_44, h⟩ := bnd_some h
          refine g_callVi (As := [.int x_7]) (rest := []) S hW (metX8_isDug h_44) (cwX8_isDug S.2.2.2.2 q1771 ⟨Nat.le_of_ble_eq_true rfl, Nat.le_of_ble_eq_true rfl⟩) (k := 0) rfl rfl rfl hl.1 rfl (Nat.le_of_ble_eq_true rfl) dX8_pipes_49 ⟨Nat.le_refl _, Nat.le_refl _⟩ (fun H locs hW => ?_)
          refine lv_if_ne (tgt := 82) hx hb dX8_pipes_52 (by decide) (fun c_47 => ?_) (fun c_47 => ?_)
          · have h := if_f h c_47
            exact J82 x1 x3 x_5 x_7 V _ _ _ h hW (lv_sub hl [2, 3, 4, 1, 0] rfl)
          · have h := if_t h c_47
            refine lv_aload_n hx hb dX8_pipes_55 rfl (lv_at hl 2 rfl) ?_
            refine tw_ref S hW 1 1 (by decide) rfl q1500 rfl dX8_pipes_56 ?_
            refine lv_sipush (v := 192) hx hb dX8_pipes_59 (by decide) ?_
            refine lv_iload hx hb dX8_pipes_62 (lv_at hl 0 rfl) ?_
            refine lv_iadd hx hb dX8_pipes_64 ?_
            obtain ⟨h_49, x_48, e_50, h⟩ := rdI_some h
            refine g_iald S hW (k := 1) rfl rfl h_49 e_50 dX8_pipes_65 ?_
            refine lv_aload_n hx hb dX8_pipes_66 rfl (lv_at hl 2 rfl) ?_
            refine tw_ref S hW 1 1 (by decide) rfl q1500 rfl dX8_pipes_67 ?_
            refine lv_iload hx hb dX8_pipes_70 (lv_at hl 1 rfl) ?_
            refine lv_iconst (v := 1) hx hb dX8_pipes_72 (by decide) ?_
            refine lv_iadd hx hb dX8_pipes_73 ?_
            obtain ⟨h_52, x_51, e_53, h⟩ := rdI_some h
            refine g_iald S hW (k := 1) rfl rfl h_52 e_53 dX8_pipes_74 ?_
            refine lv_icmp_le (tgt := 82) hx hb dX8_pipes_75 (by decide) (fun c_54 => ?_) (fun c_54 => ?_)
            · have h := if_t h c_54
              exact J82 x1 x3 x_5 x_7 V _ _ _ h hW (lv_sub hl [2, 3, 4, 1, 0] rfl)
            · have h := if_f h c_54
              refine lv_iconst (v := 1) hx hb dX8_pipes_78 (by decide) ?_
              refine lv_goto (tgt := 83) hx hb dX8_pipes_79 (by decide) ?_
              exact J83 x1 x3 x_5 x_7 1 V _ _ _ h hW (lv_sub hl [2, 3, 4, 1, 0] rfl)
  have Lp152 : ∀ (x1 : Int64) (L : g_L) (n : Nat) (x3 : Int32) (V : g_V) (out : (g_V)) (H : Heap) (locs : List Loc) (ls : Array Slot), tw_pipes_L152 x1 n x3 V = some out → twW gp nx D K al s V L H locs → lv_has ls 7 [(0, .ref (al 0)), (1, .long x1), (3, .int x3)] → (∀ (oV : g_V), out = oV → ∀ (H : Heap) (locs : List Loc) (ls : Array Slot), twW gp nx D K al s oV L H locs → lv_has ls 7 [] → W p l e rmX8_pipes s m ([.ref (al 0)] : List Value).toArray below meth c H locs 0 0 (MQ below (twQv nx D K al V' L0) ([.ref (al 0)] : List Value).toArray s 0 0 (g_A al twSh)) (F0 m 275 ls [])) → W p l e rmX8_pipes s m ([.ref (al 0)] : List Value).toArray below meth c H locs 0 0 (MQ below (twQv nx D K al V' L0) ([.ref (al 0)] : List Value).toArray s 0 0 (g_A al twSh)) (F0 m 152 ls []) := by
    intro x1 L n
    induction n with
    | zero =>
      intro x3 V out H locs ls h
      exact (lp_0 h).elim
    | succ n ih =>
      intro x3 V out H locs ls h hW hl k1
      have J213 : ∀ (x3 : Int32) (x4 : Int32) (z0 : Int32) (V : g_V) (H : Heap) (locs : List Loc) (ls : Array Slot), tw_pipes_J213 (fun x3 V => tw_pipes_L152 x1 n x3 V) x1 x3 x4 z0 V = some out → twW gp nx D K al s V L H locs → lv_has ls 7 [(0, .ref (al 0)), (1, .long x1), (3, .int x3), (4, .int x4)] → W p l e rmX8_pipes s m ([.ref (al 0)] : List Value).toArray below meth c H locs 0 0 (MQ below (twQv nx D K al V' L0) ([.ref (al 0)] : List Value).toArray s 0 0 (g_A al twSh)) (F0 m 213 ls [.int z0]) := by
        intro x3 x4 z0 V H locs ls h hW hl
        unfold tw_pipes_J213 at h
        refine lv_istore (lv' := [(5, .int z0), (0, .ref (al 0)), (1, .long x1), (3, .int x3), (4, .int x4)]) hx hb dX8_pipes_213 hl (by decide) rfl (fun ls hl => ?_)
        refine lv_aload_n hx hb dX8_pipes_215 rfl (lv_at hl 1 rfl) ?_
        refine tw_ref S hW 24 24 (by decide) rfl q1523 rfl dX8_pipes_216 ?_
        refine lv_aload_n hx hb dX8_pipes_219 rfl (lv_at hl 1 rfl) ?_
        refine tw_ref S hW 1 1 (by decide) rfl q1500 rfl dX8_pipes_220 ?_
        refine lv_iload hx hb dX8_pipes_223 (lv_at hl 4 rfl) ?_
        obtain ⟨h_73, x_72, e_74, h⟩ := rdI_some h
        refine g_iald S hW (k := 1) rfl rfl h_73 e_74 dX8_pipes_225 ?_
        refine lv_dup2_11 hx hb dX8_pipes_226 rfl rfl ?_
        obtain ⟨h_76, x_75, e_77, h⟩ := rdI_some h
        refine g_iald S hW (k := 24) rfl rfl h_76 e_77 dX8_pipes_227 ?_
        refine lv_iload hx hb dX8_pipes_228 (lv_at hl 0 rfl) ?_
        refine lv_isub hx hb dX8_pipes_230 ?_
        obtain ⟨h_78, V_80, e_79, h⟩ := wrI_some h
        refine g_iast S hW (k := 24) rfl rfl h_78 e_79 dX8_pipes_231 (fun H locs hW => ?_)
        refine lv_aload_n hx hb dX8_pipes_232 rfl (lv_at hl 1 rfl) ?_
        refine tw_ref S hW 1 1 (by decide) rfl q1500 rfl dX8_pipes_233 ?_
        refine lv_iload hx hb dX8_pipes_236 (lv_at hl 4 rfl) ?_
        refine lv_iconst (v := 4) hx hb dX8_pipes_238 (by decide) ?_
        refine lv_iadd hx hb dX8_pipes_239 ?_
        refine lv_iload hx hb dX8_pipes_240 (lv_at hl 0 rfl) ?_
        obtain ⟨h_81, V_83, e_82, h⟩ := wrI_some h
        refine g_iast S hW (k := 1) rfl rfl h_81 e_82 dX8_pipes_242 (fun H locs hW => ?_)
        refine lv_aload_n hx hb dX8_pipes_243 rfl (lv_at hl 1 rfl) ?_
        refine tw_ref S hW 1 1 (by decide) rfl q1500 rfl dX8_pipes_244 ?_
        refine lv_iload hx hb dX8_pipes_247 (lv_at hl 4 rfl) ?_
        refine lv_iconst (v := 5) hx hb dX8_pipes_249 (by decide) ?_
        refine lv_iadd hx hb dX8_pipes_250 ?_
        refine lv_dup2_11 hx hb dX8_pipes_251 rfl rfl ?_
        obtain ⟨h_85, x_84, e_86, h⟩ := rdI_some h
        refine g_iald S hW (k := 1) rfl rfl h_85 e_86 dX8_pipes_252 ?_
        refine lv_iload hx hb dX8_pipes_253 (lv_at hl 0 rfl) ?_
        refine lv_iadd hx hb dX8_pipes_255 ?_
        obtain ⟨h_87, V_89, e_88, h⟩ := wrI_some h
        refine g_iast S hW (k := 1) rfl rfl h_87 e_88 dX8_pipes_256 (fun H locs hW => ?_)
        refine lv_aload_n hx hb dX8_pipes_257 rfl (lv_at hl 1 rfl) ?_
        refine tw_ref S hW 1 1 (by decide) rfl q1500 rfl dX8_pipes_258 ?_
        refine lv_bipush (v := 14) hx hb dX8_pipes_261 (by decide) ?_
        refine lv_dup2_11 hx hb dX8_pipes_263 rfl rfl ?_
        obtain ⟨h_91, x_90, e_92, h⟩ := rdI_some h
        refine g_iald S hW (k := 1) rfl rfl h_91 e_92 dX8_pipes_264 ?_
        refine lv_iload hx hb dX8_pipes_265 (lv_at hl 0 rfl) ?_
        refine lv_iadd hx hb dX8_pipes_267 ?_
        obtain ⟨h_93, V_95, e_94, h⟩ := wrI_some h
        refine g_iast S hW (k := 1) rfl rfl h_93 e_94 dX8_pipes_268 (fun H locs hW => ?_)
        obtain ⟨x_96, e_97, h⟩ := nmI_some h
        refine lv_iinc (v := x_96) (lv' := [(3, .int x_96), (5, .int z0), (0, .ref (al 0)), (1, .long x1), (4, .int x4)]) hx hb dX8_pipes_269 hl (k := 3) rfl (by rw [e_97]; rfl) (by decide) rfl (fun ls hl => ?_)
        refine lv_goto (tgt := 152) hx hb dX8_pipes_272 (by decide) ?_
        exact ih x_96 V_95 out _ _ _ h hW (lv_sub hl [2, 3, 0] rfl) k1
      rw [tw_pipes_L152_s] at h
      unfold tw_pipes_B152 at h
      refine lv_iload_n hx hb dX8_pipes_152 rfl (lv_at hl 2 rfl) ?_
      refine lv_aload_n hx hb dX8_pipes_153 rfl (lv_at hl 0 rfl) ?_
      refine tw_ref S hW 1 1 (by decide) rfl q1500 rfl dX8_pipes_154 ?_
      refine lv_iconst (v := 2) hx hb dX8_pipes_157 (by decide) ?_
      obtain ⟨h_60, x_59, e_61, h⟩ := rdI_some h
      refine g_iald S hW (k := 1) rfl rfl h_60 e_61 dX8_pipes_158 ?_
      refine lv_icmp_ge (tgt := 275) hx hb dX8_pipes_159 (by decide) (fun c_62 => ?_) (fun c_62 => ?_)
      · have h := if_t h c_62
        exact k1 _ (Option.some.inj h).symm _ _ _ hW (lv_sub hl [] rfl)
      · have h := if_f h c_62
        refine lv_sipush (v := 624) hx hb dX8_pipes_162 (by decide) ?_
        refine lv_bipush (v := 6) hx hb dX8_pipes_165 (by decide) ?_
        refine lv_iload_n hx hb dX8_pipes_167 rfl (lv_at hl 2 rfl) ?_
        refine lv_imul hx hb dX8_pipes_168 ?_
        refine lv_iadd hx hb dX8_pipes_169 ?_
        obtain ⟨x_63, e_64, h⟩ := nmI_some h
        refine g_nmi e_64 ?_
        refine lv_istore (lv' := [(4, .int x_63), (0, .ref (al 0)), (1, .long x1), (3, .int x3)]) hx hb dX8_pipes_170 hl (by decide) rfl (fun ls hl => ?_)
        refine lv_lload_n hx hb dX8_pipes_172 rfl (lv_at hl 2 rfl) ?_
        refine lv_aload_n hx hb dX8_pipes_173 rfl (lv_at hl 1 rfl) ?_
        refine tw_ref S hW 1 1 (by decide) rfl q1500 rfl dX8_pipes_174 ?_
        refine lv_bipush (v := 6) hx hb dX8_pipes_177 (by decide) ?_
        obtain ⟨h_66, x_65, e_67, h⟩ := rdI_some h
        refine g_iald S hW (k := 1) rfl rfl h_66 e_67 dX8_pipes_179 ?_
        refine lv_i2l (v := x_65.toInt64) hx hb dX8_pipes_180 rfl ?_
        refine W.lcmp hx hb dX8_pipes_181 ?_
        refine lv_if_le (tgt := 207) hx hb dX8_pipes_182 (by decide) (fun c_68 => ?_) (fun c_68 => ?_)
        · have h := if_t h c_68
          refine lv_aload_n hx hb dX8_pipes_207 rfl (lv_at hl 1 rfl) ?_
          refine tw_ref S hW 25 25 (by decide) rfl q1524 rfl dX8_pipes_208 ?_
          refine lv_iload_n hx hb dX8_pipes_211 rfl (lv_at hl 3 rfl) ?_
          obtain ⟨h_70, x_69, e_71, h⟩ := rdI_some h
          refine g_iald S hW (k := 25) rfl rfl h_70 e_71 dX8_pipes_212 ?_
          exact J213 x3 x_63 x_69 V _ _ _ h hW (lv_sub hl [1, 2, 3, 0] rfl)
        · have h := if_f h c_68
          refine lv_aload_n hx hb dX8_pipes_185 rfl (lv_at hl 1 rfl) ?_
          refine tw_ref S hW 25 25 (by decide) rfl q1524 rfl dX8_pipes_186 ?_
          refine lv_iload_n hx hb dX8_pipes_189 rfl (lv_at hl 3 rfl) ?_
          obtain ⟨h_99, x_98, e_100, h⟩ := rdI_some h
          refine g_iald S hW (k := 25) rfl rfl h_99 e_100 dX8_pipes_190 ?_
          refine lv_i2l (v := x_98.toInt64) hx hb dX8_pipes_191 rfl ?_
          refine lv_aload_n hx hb dX8_pipes_192 rfl (lv_at hl 1 rfl) ?_
          refine tw_ref S hW 1 1 (by decide) rfl q1500 rfl dX8_pipes_193 ?_
          refine lv_bipush (v := 6) hx hb dX8_pipes_196 (by decide) ?_
          obtain ⟨h_102, x_101, e_103, h⟩ := rdI_some h
          refine g_iald S hW (k := 1) rfl rfl h_102 e_103 dX8_pipes_198 ?_
          refine lv_i2l (v := x_101.toInt64) hx hb dX8_pipes_199 rfl ?_
          refine lv_lmul hx hb dX8_pipes_200 ?_
          refine lv_lload_n hx hb dX8_pipes_201 rfl (lv_at hl 2 rfl) ?_
          obtain ⟨h_104, h⟩ := okI_some h
          refine lv_ldiv hx hb dX8_pipes_202 (of_decide_eq_true h_104) ?_
          refine lv_l2i (v := ((x_98.toInt64 * x_101.toInt64) / x1).toInt32) hx hb dX8_pipes_203 rfl ?_
          refine lv_goto (tgt := 213) hx hb dX8_pipes_204 (by decide) ?_
          exact J213 x3 x_63 (((x_98.toInt64 * x_101.toInt64) / x1).toInt32) V _ _ _ h hW (lv_sub hl [1, 2, 3, 0] rfl)
  unfold tw_pipes at h
  refine lv_lconst (v := 0) hx hb dX8_pipes_0 (by decide) ?_
  refine lv_lstore_n (lv' := [(1, .long 0), (0, .ref (al 0))]) hx hb dX8_pipes_1 rfl hl (by decide) rfl (fun ls hl => ?_)
  refine lv_iconst (v := 0) hx hb dX8_pipes_2 (by decide) ?_
  refine lv_istore_n (lv' := [(3, .int 0), (1, .long 0), (0, .ref (al 0))]) hx hb dX8_pipes_3 rfl hl (by decide) rfl (fun ls hl => ?_)
  obtain ⟨x_57, V_58, h_56, h⟩ := bnd2_some h
  refine Lp4 L0 1000 0 0 V0  _ _ _ _ h_56 hW (lv_sub hl [2, 1, 0] rfl) ?_
  intro w0 w1 eo H locs ls hW hl
  cases eo
  refine lv_iconst (v := 0) hx hb dX8_pipes_150 (by decide) ?_
  refine lv_istore_n (lv' := [(3, .int 0), (0, .ref (al 0)), (1, .long x_57)]) hx hb dX8_pipes_151 rfl hl (by decide) rfl (fun ls hl => ?_)
  obtain ⟨V_107, h_106, h⟩ := bnd_some h
  refine Lp152 x_57 L0 1000 0 V_58  _ _ _ _ h_106 hW (lv_sub hl [1, 2, 0] rfl) ?_
  intro w0 eo H locs ls hW hl
  subst eo
  cases h
  exact g_vret S hr hlk hW dX8_pipes_275
theorem cwX8_pipes {R : Room} {s : State} {args : Array Value} {index : Nat} (hts : ∀ w ∈ lw_all, w.before args s = true) (hl : Cond.methodLink RX8 index yX8_pipes ∈ lw_all) (hR : rmX8_pipes.frames + 1 ≤ R.frames ∧ 8 + (7 + 11) + rmX8_pipes.locals ≤ R.locals) : CallW R s args RX8 RX8 index yX8_pipes cX8_pipes 7 (none) (ws_ yX8_pipes cX8_pipes 7 (none)) rmX8_pipes 0 0 0 := cwV 0 hts (lw_V hl q1803 qs81 q122 q1804) rfl rfl rfl (by decide +kernel) hR
