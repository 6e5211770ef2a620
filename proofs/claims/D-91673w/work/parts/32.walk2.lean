/-! walks of the reference: X8_mayTell X8_ones X8_isAhead X8_chosen X8_gauge X8_lies X8_most X8_row X8_cut X8_paste X8_plain -/
set_option maxRecDepth 100000
def tw_mayTell_B59 (x1 : Int32) (x2 : Int32) (x3 : Int64) (V : g_V) (L : g_L) (rec : Int32 → Option ((Unit) ⊕ (Unit))) (x5 : Int32) : Option ((Unit) ⊕ (Unit)) :=
  if x2 ≤ x5 then (some (.inl ())) else (rdL (L 38) 240 ((60 * x1) + x5) fun x_21 => if (lg_cmp x_21 x3) = 0 then (some (.inr ())) else (nmI (x5 + 1) fun x_25 => rec x_25))
abbrev tw_mayTell_F59 (x1 : Int32) (x2 : Int32) (x3 : Int64) (V : g_V) (L : g_L) : ((Int32) → Option ((Unit) ⊕ (Unit))) → (Int32) → Option ((Unit) ⊕ (Unit)) := fun rec s => tw_mayTell_B59 x1 x2 x3 V L (fun x5 => rec x5) s
def tw_mayTell_L59 (x1 : Int32) (x2 : Int32) (x3 : Int64) (V : g_V) (L : g_L) (n : Nat) (x5 : Int32) : Option ((Unit) ⊕ (Unit)) := lp (tw_mayTell_F59 x1 x2 x3 V L) n x5
theorem tw_mayTell_L59_s (x1 : Int32) (x2 : Int32) (x3 : Int64) (V : g_V) (L : g_L) (n : Nat) (x5 : Int32) : tw_mayTell_L59 x1 x2 x3 V L (n + 1) x5 = tw_mayTell_B59 x1 x2 x3 V L (fun x5 => tw_mayTell_L59 x1 x2 x3 V L n x5) x5 := lp_s (tw_mayTell_F59 x1 x2 x3 V L) n x5
def tw_mayTell_B2 (x1 : Int32) (V : g_V) (L : g_L) (rec : Int32 → Option ((Unit) ⊕ (Unit) ⊕ (Unit))) (x2 : Int32) : Option ((Unit) ⊕ (Unit) ⊕ (Unit)) :=
  rdI (V 36) 4 x1 fun x_1 => if x_1 ≤ x2 then (some (.inl ())) else (rdL (L 38) 240 ((60 * x1) + x2) fun x_5 => bnd (tw_in x_5 0 143) (fun x_10 => if x_10 = 0 then (some (.inr (.inl ()))) else (bnd (tw_pipeAt V x_5.toInt32) (fun x_14 => if x_14 = (-1) then (bnd (tw_isDug V x_5.toInt32) (fun x_18 => if x_18 = 0 then (bnd (tw_mayTell_L59 x1 x2 x_5 V L 1000 0) (cs2 (fun _ => nmI (x2 + 1) fun x_29 => rec x_29) (fun _ => some (.inr (.inr ()))))) else (some (.inr (.inl ()))))) else (some (.inr (.inl ())))))))
abbrev tw_mayTell_F2 (x1 : Int32) (V : g_V) (L : g_L) : ((Int32) → Option ((Unit) ⊕ (Unit) ⊕ (Unit))) → (Int32) → Option ((Unit) ⊕ (Unit) ⊕ (Unit)) := fun rec s => tw_mayTell_B2 x1 V L (fun x2 => rec x2) s
def tw_mayTell_L2 (x1 : Int32) (V : g_V) (L : g_L) (n : Nat) (x2 : Int32) : Option ((Unit) ⊕ (Unit) ⊕ (Unit)) := lp (tw_mayTell_F2 x1 V L) n x2
theorem tw_mayTell_L2_s (x1 : Int32) (V : g_V) (L : g_L) (n : Nat) (x2 : Int32) : tw_mayTell_L2 x1 V L (n + 1) x2 = tw_mayTell_B2 x1 V L (fun x2 => tw_mayTell_L2 x1 V L n x2) x2 := lp_s (tw_mayTell_F2 x1 V L) n x2
def tw_mayTell (V0 : g_V) (L0 : g_L) (a1 : Int32) : Option (Int32) :=
  bnd (tw_mayTell_L2 a1 V0 L0 1000 0) (cs2 (fun _ => some 1) (cs2 (fun _ => some 0) (fun _ => some 0)))
abbrev rmX8_mayTell : Room := rm_ 1 25
set_option maxHeartbeats 4000000 in
theorem metX8_mayTell {l : Launch} {gp : Nat → Nat} {nx : Nat} {D : va_G} {K : Nat → ClassId} {al : Nat → Nat} {V0 : g_V} {L0 : g_L} {a1 : Int32} {r : Int32} (h : tw_mayTell V0 L0 a1 = some r) : Met l yX8_mayTell (ws_ yX8_mayTell cX8_mayTell 6 (some .boolean)) rmX8_mayTell (twPc gp nx [.ref (al 0), .int a1] D K al V0 L0) (twQi r nx D K al V0 L0) 0 0 (g_A al twSh) := by
  refine g_met rfl (Nat.le_of_ble_eq_true rfl) ?_
  intro p e s m below meth c ls S hr hlk hnm hl hW
  have S : CallFix p m c cX8_mayTell 6 s ([.ref (al 0), .int a1] : List Value).toArray lw_all RX8 := S
  have hx := S.1
  have hb := S.2.1
  have hl : lv_has ls 6 [(0, .ref (al 0)), (1, .int a1)] := hl
  have Lp59 : ∀ (x1 : Int32) (x2 : Int32) (x3 : Int64) (V : g_V) (L : g_L) (n : Nat) (x5 : Int32) (out : ((Unit) ⊕ (Unit))) (H : Heap) (locs : List Loc) (ls : Array Slot), tw_mayTell_L59 x1 x2 x3 V L n x5 = some out → twW gp nx D K al s V L H locs → lv_has ls 6 [(0, .ref (al 0)), (1, .int x1), (2, .int x2), (3, .long x3), (5, .int x5)] → (out = (.inl ()) → ∀ (H : Heap) (locs : List Loc) (ls : Array Slot), twW gp nx D K al s V L H locs → lv_has ls 6 [(0, .ref (al 0)), (1, .int x1), (2, .int x2)] → W p l e rmX8_mayTell s m ([.ref (al 0), .int a1] : List Value).toArray below meth c H locs 0 0 (MQ below (twQi r nx D K al V0 L0) ([.ref (al 0), .int a1] : List Value).toArray s 0 0 (g_A al twSh)) (F0 m 90 ls [])) → (out = (.inr ()) → ∀ (H : Heap) (locs : List Loc) (ls : Array Slot), twW gp nx D K al s V L H locs → lv_has ls 6 [] → W p l e rmX8_mayTell s m ([.ref (al 0), .int a1] : List Value).toArray below meth c H locs 0 0 (MQ below (twQi r nx D K al V0 L0) ([.ref (al 0), .int a1] : List Value).toArray s 0 0 (g_A al twSh)) (F0 m 82 ls [])) → W p l e rmX8_mayTell s m ([.ref (al 0), .int a1] : List Value).toArray below meth c H locs 0 0 (MQ below (twQi r nx D K al V0 L0) ([.ref (al 0), .int a1] : List Value).toArray s 0 0 (g_A al twSh)) (F0 m 59 ls []) := by
    intro x1 x2 x3 V L n
    induction n with
    | zero =>
      intro x5 out H locs ls h
      exact (lp_0 h).elim
    | succ n ih =>
      intro x5 out H locs ls h hW hl k1 k2
      rw [tw_mayTell_L59_s] at h
      unfold tw_mayTell_B59 at h
      refine lv_iload hx hb dX8_mayTell_59 (lv_at hl 4 rfl) ?_
      refine lv_iload_n hx hb dX8_mayTell_61 rfl (lv_at hl 2 rfl) ?_
      refine lv_icmp_ge (tgt := 90) hx hb dX8_mayTell_62 (by decide) (fun c_20 => ?_) (fun c_20 => ?_)
      · have h := if_t h c_20
        exact k1  (Option.some.inj h).symm _ _ _ hW (lv_sub hl [0, 1, 2] rfl)
      · have h := if_f h c_20
        refine lv_aload_n hx hb dX8_mayTell_65 rfl (lv_at hl 0 rfl) ?_
        refine tw_ref S hW 38 38 (by decide) rfl q1537 rfl dX8_mayTell_66 ?_
        refine lv_bipush (v := 60) hx hb dX8_mayTell_69 (by decide) ?_
        refine lv_iload_n hx hb dX8_mayTell_71 rfl (lv_at hl 1 rfl) ?_
        refine lv_imul hx hb dX8_mayTell_72 ?_
        refine lv_iload hx hb dX8_mayTell_73 (lv_at hl 4 rfl) ?_
        refine lv_iadd hx hb dX8_mayTell_75 ?_
        obtain ⟨h_22, x_21, e_23, h⟩ := rdL_some h
        refine g_lald S hW (k := 38) rfl rfl h_22 e_23 dX8_mayTell_76 ?_
        refine lv_lload_n hx hb dX8_mayTell_77 rfl (lv_at hl 3 rfl) ?_
        refine W.lcmp hx hb dX8_mayTell_78 ?_
        refine lv_if_ne (tgt := 84) hx hb dX8_mayTell_79 (by decide) (fun c_24 => ?_) (fun c_24 => ?_)
        · have h := if_f h c_24
          obtain ⟨x_25, e_26, h⟩ := nmI_some h
          refine lv_iinc (v := x_25) (lv' := [(5, .int x_25), (0, .ref (al 0)), (1, .int x1), (2, .int x2), (3, .long x3)]) hx hb dX8_mayTell_84 hl (k := 4) rfl (by rw [e_26]; rfl) (by decide) rfl (fun ls hl => ?_)
          refine lv_goto (tgt := 59) hx hb dX8_mayTell_87 (by decide) ?_
          exact ih x_25 out _ _ _ h hW (lv_sub hl [1, 2, 3, 4, 0] rfl) k1 k2
        · have h := if_t h c_24
          exact k2  (Option.some.inj h).symm _ _ _ hW (lv_sub hl [] rfl)
  have Lp2 : ∀ (x1 : Int32) (V : g_V) (L : g_L) (n : Nat) (x2 : Int32) (out : ((Unit) ⊕ (Unit) ⊕ (Unit))) (H : Heap) (locs : List Loc) (ls : Array Slot), tw_mayTell_L2 x1 V L n x2 = some out → twW gp nx D K al s V L H locs → lv_has ls 6 [(0, .ref (al 0)), (1, .int x1), (2, .int x2)] → (out = (.inl ()) → ∀ (H : Heap) (locs : List Loc) (ls : Array Slot), twW gp nx D K al s V L H locs → lv_has ls 6 [] → W p l e rmX8_mayTell s m ([.ref (al 0), .int a1] : List Value).toArray below meth c H locs 0 0 (MQ below (twQi r nx D K al V0 L0) ([.ref (al 0), .int a1] : List Value).toArray s 0 0 (g_A al twSh)) (F0 m 96 ls [])) → (out = (.inr (.inl ())) → ∀ (H : Heap) (locs : List Loc) (ls : Array Slot), twW gp nx D K al s V L H locs → lv_has ls 6 [] → W p l e rmX8_mayTell s m ([.ref (al 0), .int a1] : List Value).toArray below meth c H locs 0 0 (MQ below (twQi r nx D K al V0 L0) ([.ref (al 0), .int a1] : List Value).toArray s 0 0 (g_A al twSh)) (F0 m 54 ls [])) → (out = (.inr (.inr ())) → ∀ (H : Heap) (locs : List Loc) (ls : Array Slot), twW gp nx D K al s V L H locs → lv_has ls 6 [] → W p l e rmX8_mayTell s m ([.ref (al 0), .int a1] : List Value).toArray below meth c H locs 0 0 (MQ below (twQi r nx D K al V0 L0) ([.ref (al 0), .int a1] : List Value).toArray s 0 0 (g_A al twSh)) (F0 m 82 ls [])) → W p l e rmX8_mayTell s m ([.ref (al 0), .int a1] : List Value).toArray below meth c H locs 0 0 (MQ below (twQi r nx D K al V0 L0) ([.ref (al 0), .int a1] : List Value).toArray s 0 0 (g_A al twSh)) (F0 m 2 ls []) := by
    intro x1 V L n
    induction n with
    | zero =>
      intro x2 out H locs ls h
      exact (lp_0 h).elim
    | succ n ih =>
      intro x2 out H locs ls h hW hl k1 k2 k3
      rw [tw_mayTell_L2_s] at h
      unfold tw_mayTell_B2 at h
      refine lv_iload_n hx hb dX8_mayTell_2 rfl (lv_at hl 2 rfl) ?_
      refine lv_aload_n hx hb dX8_mayTell_3 rfl (lv_at hl 0 rfl) ?_
      refine tw_ref S hW 36 36 (by decide) rfl q1535 rfl dX8_mayTell_4 ?_
      refine lv_iload_n hx hb dX8_mayTell_7 rfl (lv_at hl 1 rfl) ?_
      obtain ⟨h_2, x_1, e_3, h⟩ := rdI_some h
      refine g_iald S hW (k := 36) rfl rfl h_2 e_3 dX8_mayTell_8 ?_
      refine lv_icmp_ge (tgt := 96) hx hb dX8_mayTell_9 (by decide) (fun c_4 => ?_) (fun c_4 => ?_)
      · have h := if_t h c_4
        exact k1  (Option.some.inj h).symm _ _ _ hW (lv_sub hl [] rfl)
      · have h := if_f h c_4
        refine lv_aload_n hx hb dX8_mayTell_12 rfl (lv_at hl 0 rfl) ?_
        refine tw_ref S hW 38 38 (by decide) rfl q1537 rfl dX8_mayTell_13 ?_
        refine lv_bipush (v := 60) hx hb dX8_mayTell_16 (by decide) ?_
        refine lv_iload_n hx hb dX8_mayTell_18 rfl (lv_at hl 1 rfl) ?_
        refine lv_imul hx hb dX8_mayTell_19 ?_
        refine lv_iload_n hx hb dX8_mayTell_20 rfl (lv_at hl 2 rfl) ?_
        refine lv_iadd hx hb dX8_mayTell_21 ?_
        obtain ⟨h_6, x_5, e_7, h⟩ := rdL_some h
        refine g_lald S hW (k := 38) rfl rfl h_6 e_7 dX8_mayTell_22 ?_
        refine lv_lstore_n (lv' := [(3, .long x_5), (0, .ref (al 0)), (1, .int x1), (2, .int x2)]) hx hb dX8_mayTell_23 rfl hl (by decide) rfl (fun ls hl => ?_)
        refine lv_lload_n hx hb dX8_mayTell_24 rfl (lv_at hl 0 rfl) ?_
        refine lv_lconst (v := 0) hx hb dX8_mayTell_25 (by decide) ?_
        refine lv_ldc2 (v := 143) hx hb S.2.2.2.1 (S.2.2.2.2 _ q1981) dX8_mayTell_26 ?_
        obtain ⟨x_10, h_8, h⟩ := bnd_some h
        refine g_callSi (As := [.long x_5, .long 0, .long 143]) (rest := []) S hW (metX8_in h_8) (cwX8_in S.2.2.2.2 q1625 ⟨Nat.le_of_ble_eq_true rfl, Nat.le_of_ble_eq_true rfl⟩) rfl hl.1 rfl (Nat.le_of_ble_eq_true rfl) dX8_mayTell_29 ⟨Nat.le_refl _, Nat.le_refl _⟩ (fun H locs hW => ?_)
        refine lv_if_eq (tgt := 54) hx hb dX8_mayTell_32 (by decide) (fun c_11 => ?_) (fun c_11 => ?_)
        · have h := if_t h c_11
          exact k2  (Option.some.inj h).symm _ _ _ hW (lv_sub hl [] rfl)
        · have h := if_f h c_11
          refine lv_aload_n hx hb dX8_mayTell_35 rfl (lv_at hl 1 rfl) ?_
          refine lv_lload_n hx hb dX8_mayTell_36 rfl (lv_at hl 0 rfl) ?_
          refine lv_l2i (v := x_5.toInt32) hx hb dX8_mayTell_37 rfl ?_
          obtain ⟨x_14, h_12, h⟩ := bnd_some h
          refine g_callVi (As := [.int x_5.toInt32]) (rest := []) S hW (metX8_pipeAt h_12) (cwX8_pipeAt S.2.2.2.2 q1843 ⟨Nat.le_of_ble_eq_true rfl, Nat.le_of_ble_eq_true rfl⟩) (k := 0) rfl rfl rfl hl.1 rfl (Nat.le_of_ble_eq_true rfl) dX8_mayTell_38 ⟨Nat.le_refl _, Nat.le_refl _⟩ (fun H locs hW => ?_)
          refine lv_iconst (v := (-1)) hx hb dX8_mayTell_41 (by decide) ?_
          refine lv_icmp_ne (tgt := 54) hx hb dX8_mayTell_42 (by decide) (fun c_15 => ?_) (fun c_15 => ?_)
          · have h := if_f h c_15
            exact k2  (Option.some.inj h).symm _ _ _ hW (lv_sub hl [] rfl)
          · have h := if_t h c_15
            refine lv_aload_n hx hb dX8_mayTell_45 rfl (lv_at hl 1 rfl) ?_
            refine lv_lload_n hx hb dX8_mayTell_46 rfl (lv_at hl 0 rfl) ?_
            refine lv_l2i (v := x_5.toInt32) hx hb dX8_mayTell_47 rfl ?_
            obtain ⟨x_18, h_16, h⟩ := bnd_some h
            refine g_callVi (As := [.int x_5.toInt32]) (rest := []) S hW (metX8_isDug h_16) (cwX8_isDug S.2.2.2.2 q1771 ⟨Nat.le_of_ble_eq_true rfl, Nat.le_of_ble_eq_true rfl⟩) (k := 0) rfl rfl rfl hl.1 rfl (Nat.le_of_ble_eq_true rfl) dX8_mayTell_48 ⟨Nat.le_refl _, Nat.le_refl _⟩ (fun H locs hW => ?_)
            refine lv_if_eq (tgt := 56) hx hb dX8_mayTell_51 (by decide) (fun c_19 => ?_) (fun c_19 => ?_)
            · have h := if_t h c_19
              refine lv_iconst (v := 0) hx hb dX8_mayTell_56 (by decide) ?_
              refine lv_istore (lv' := [(5, .int 0), (3, .long x_5), (0, .ref (al 0)), (1, .int x1), (2, .int x2)]) hx hb dX8_mayTell_57 hl (by decide) rfl (fun ls hl => ?_)
              obtain ⟨o_27, h_28, h⟩ := bnd_some h
              have h9 := cs2_some h
              clear h
              rcases h9 with ⟨q, rfl, h⟩ | ⟨q, rfl, h⟩
              · refine Lp59 x1 x2 x_5 V L 1000 0  _ _ _ _ h_28 hW (lv_sub hl [2, 3, 4, 1, 0] rfl) ?_ (fun eo => by cases eo)
                intro  eo H locs ls hW hl
                cases eo
                obtain ⟨x_29, e_30, h⟩ := nmI_some h
                refine lv_iinc (v := x_29) (lv' := [(2, .int x_29), (0, .ref (al 0)), (1, .int x1)]) hx hb dX8_mayTell_90 hl (k := 2) rfl (by rw [e_30]; rfl) (by decide) rfl (fun ls hl => ?_)
                refine lv_goto (tgt := 2) hx hb dX8_mayTell_93 (by decide) ?_
                exact ih x_29 out _ _ _ h hW (lv_sub hl [1, 2, 0] rfl) k1 k2 k3
              · refine Lp59 x1 x2 x_5 V L 1000 0  _ _ _ _ h_28 hW (lv_sub hl [2, 3, 4, 1, 0] rfl) (fun eo => by cases eo) ?_
                intro  eo H locs ls hW hl
                cases eo
                exact k3  (Option.some.inj h).symm _ _ _ hW hl
            · have h := if_f h c_19
              exact k2  (Option.some.inj h).symm _ _ _ hW (lv_sub hl [] rfl)
  unfold tw_mayTell at h
  refine lv_iconst (v := 0) hx hb dX8_mayTell_0 (by decide) ?_
  refine lv_istore_n (lv' := [(2, .int 0), (0, .ref (al 0)), (1, .int a1)]) hx hb dX8_mayTell_1 rfl hl (by decide) rfl (fun ls hl => ?_)
  obtain ⟨o_31, h_32, h⟩ := bnd_some h
  have h9 := cs2_some h
  clear h
  rcases h9 with ⟨q, rfl, h⟩ | ⟨q, rfl, h⟩
  · refine Lp2 a1 V0 L0 1000 0  _ _ _ _ h_32 hW (lv_sub hl [1, 2, 0] rfl) ?_ (fun eo => by cases eo) (fun eo => by cases eo)
    intro  eo H locs ls hW hl
    cases eo
    refine lv_iconst (v := 1) hx hb dX8_mayTell_96 (by decide) ?_
    cases h
    exact g_zret S hr hlk rfl hW dX8_mayTell_97
  · have h9 := cs2_some h
    clear h
    rcases h9 with ⟨q, rfl, h⟩ | ⟨q, rfl, h⟩
    · refine Lp2 a1 V0 L0 1000 0  _ _ _ _ h_32 hW (lv_sub hl [1, 2, 0] rfl) (fun eo => by cases eo) ?_ (fun eo => by cases eo)
      intro  eo H locs ls hW hl
      cases eo
      refine lv_iconst (v := 0) hx hb dX8_mayTell_54 (by decide) ?_
      cases h
      exact g_zret S hr hlk rfl hW dX8_mayTell_55
    · refine Lp2 a1 V0 L0 1000 0  _ _ _ _ h_32 hW (lv_sub hl [1, 2, 0] rfl) (fun eo => by cases eo) (fun eo => by cases eo) ?_
      intro  eo H locs ls hW hl
      cases eo
      refine lv_iconst (v := 0) hx hb dX8_mayTell_82 (by decide) ?_
      cases h
      exact g_zret S hr hlk rfl hW dX8_mayTell_83
theorem cwX8_mayTell {R : Room} {s : State} {args : Array Value} {index : Nat} (hts : ∀ w ∈ lw_all, w.before args s = true) (hl : Cond.methodLink RX8 index yX8_mayTell ∈ lw_all) (hR : rmX8_mayTell.frames + 1 ≤ R.frames ∧ 8 + (6 + 11) + rmX8_mayTell.locals ≤ R.locals) : CallW R s args RX8 RX8 index yX8_mayTell cX8_mayTell 6 (some .boolean) (ws_ yX8_mayTell cX8_mayTell 6 (some .boolean)) rmX8_mayTell 0 0 1 := cwV 1 hts (lw_V hl q1979 qs102 q122 q1980) rfl rfl rfl (by decide +kernel) hR
def tw_ones_B4 (x0 : Int32) (rec : Int32 → Int32 → Option (Int32)) (x1 : Int32) (x2 : Int32) : Option (Int32) :=
  if 6 ≤ x2 then (some x1) else (nmI (x1 + ((x0 >>> (x2 &&& 31)) &&& 1)) fun x_2 => nmI (x2 + 1) fun x_4 => rec x_2 x_4)
abbrev tw_ones_F4 (x0 : Int32) : ((Int32 × Int32) → Option (Int32)) → (Int32 × Int32) → Option (Int32) := fun rec s => tw_ones_B4 x0 (fun x1 x2 => rec (x1, x2)) s.1 s.2
def tw_ones_L4 (x0 : Int32) (n : Nat) (x1 : Int32) (x2 : Int32) : Option (Int32) := lp (tw_ones_F4 x0) n (x1, x2)
theorem tw_ones_L4_s (x0 : Int32) (n : Nat) (x1 : Int32) (x2 : Int32) : tw_ones_L4 x0 (n + 1) x1 x2 = tw_ones_B4 x0 (fun x1 x2 => tw_ones_L4 x0 n x1 x2) x1 x2 := lp_s (tw_ones_F4 x0) n (x1, x2)
def tw_ones (a0 : Int32) : Option (Int32) :=
  bnd (tw_ones_L4 a0 1000 0 0) (fun x_8 => some x_8)
abbrev rmX8_ones : Room := rm_ 0 0
set_option maxHeartbeats 4000000 in
theorem metX8_ones {l : Launch} {gp : Nat → Nat} {nx : Nat} {D : va_G} {K : Nat → ClassId} {al : Nat → Nat} {V0 : g_V} {L0 : g_L} {a0 : Int32} {r : Int32} (h : tw_ones a0 = some r) : Met l yX8_ones (ws_ yX8_ones cX8_ones 3 (some .int)) rmX8_ones (twPc gp nx [.int a0] D K al V0 L0) (twQi r nx D K al V0 L0) 0 0 (g_A al twSh) := by
  refine g_met rfl (Nat.le_of_ble_eq_true rfl) ?_
  intro p e s m below meth c ls S hr hlk hnm hl hW
  have S : CallFix p m c cX8_ones 3 s ([.int a0] : List Value).toArray lw_all RX8 := S
  have hx := S.1
  have hb := S.2.1
  have hl : lv_has ls 3 [(0, .int a0)] := hl
  have Lp4 : ∀ (x0 : Int32) (V : g_V) (L : g_L) (n : Nat) (x1 : Int32) (x2 : Int32) (out : (Int32)) (H : Heap) (locs : List Loc) (ls : Array Slot), tw_ones_L4 x0 n x1 x2 = some out → twW gp nx D K al s V L H locs → lv_has ls 3 [(0, .int x0), (1, .int x1), (2, .int x2)] → (∀ (o1 : Int32), out = o1 → ∀ (H : Heap) (locs : List Loc) (ls : Array Slot), twW gp nx D K al s V L H locs → lv_has ls 3 [(1, .int o1)] → W p l e rmX8_ones s m ([.int a0] : List Value).toArray below meth c H locs 0 0 (MQ below (twQi r nx D K al V0 L0) ([.int a0] : List Value).toArray s 0 0 (g_A al twSh)) (F0 m 24 ls [])) → W p l e rmX8_ones s m ([.int a0] : List Value).toArray below meth c H locs 0 0 (MQ below (twQi r nx D K al V0 L0) ([.int a0] : List Value).toArray s 0 0 (g_A al twSh)) (F0 m 4 ls []) := by
    intro x0 V L n
    induction n with
    | zero =>
      intro x1 x2 out H locs ls h
      exact (lp_0 h).elim
    | succ n ih =>
      intro x1 x2 out H locs ls h hW hl k1
      rw [tw_ones_L4_s] at h
      unfold tw_ones_B4 at h
      refine lv_iload_n hx hb dX8_ones_4 rfl (lv_at hl 2 rfl) ?_
      refine lv_bipush (v := 6) hx hb dX8_ones_5 (by decide) ?_
      refine lv_icmp_ge (tgt := 24) hx hb dX8_ones_7 (by decide) (fun c_1 => ?_) (fun c_1 => ?_)
      · have h := if_t h c_1
        exact k1 _ (Option.some.inj h).symm _ _ _ hW (lv_sub hl [1] rfl)
      · have h := if_f h c_1
        refine lv_iload_n hx hb dX8_ones_10 rfl (lv_at hl 1 rfl) ?_
        refine lv_iload_n hx hb dX8_ones_11 rfl (lv_at hl 0 rfl) ?_
        refine lv_iload_n hx hb dX8_ones_12 rfl (lv_at hl 2 rfl) ?_
        refine lv_ishr hx hb dX8_ones_13 ?_
        refine lv_iconst (v := 1) hx hb dX8_ones_14 (by decide) ?_
        refine lv_iand hx hb dX8_ones_15 ?_
        refine lv_iadd hx hb dX8_ones_16 ?_
        obtain ⟨x_2, e_3, h⟩ := nmI_some h
        refine g_nmi e_3 ?_
        refine lv_istore_n (lv' := [(1, .int x_2), (0, .int x0), (2, .int x2)]) hx hb dX8_ones_17 rfl hl (by decide) rfl (fun ls hl => ?_)
        obtain ⟨x_4, e_5, h⟩ := nmI_some h
        refine lv_iinc (v := x_4) (lv' := [(2, .int x_4), (1, .int x_2), (0, .int x0)]) hx hb dX8_ones_18 hl (k := 2) rfl (by rw [e_5]; rfl) (by decide) rfl (fun ls hl => ?_)
        refine lv_goto (tgt := 4) hx hb dX8_ones_21 (by decide) ?_
        exact ih x_2 x_4 out _ _ _ h hW (lv_sub hl [2, 1, 0] rfl) k1
  unfold tw_ones at h
  refine lv_iconst (v := 0) hx hb dX8_ones_0 (by decide) ?_
  refine lv_istore_n (lv' := [(1, .int 0), (0, .int a0)]) hx hb dX8_ones_1 rfl hl (by decide) rfl (fun ls hl => ?_)
  refine lv_iconst (v := 0) hx hb dX8_ones_2 (by decide) ?_
  refine lv_istore_n (lv' := [(2, .int 0), (1, .int 0), (0, .int a0)]) hx hb dX8_ones_3 rfl hl (by decide) rfl (fun ls hl => ?_)
  obtain ⟨x_8, h_7, h⟩ := bnd_some h
  refine Lp4 a0 V0 L0 1000 0 0  _ _ _ _ h_7 hW (lv_sub hl [2, 1, 0] rfl) ?_
  intro w0 eo H locs ls hW hl
  subst eo
  refine lv_iload_n hx hb dX8_ones_24 rfl (lv_at hl 0 rfl) ?_
  cases h
  exact g_iret S hr hlk hW dX8_ones_25
theorem cwX8_ones {R : Room} {s : State} {args : Array Value} {index : Nat} (hts : ∀ w ∈ lw_all, w.before args s = true) (hl : Cond.methodLink RX8 index yX8_ones ∈ lw_all) (hR : rmX8_ones.frames + 1 ≤ R.frames ∧ 8 + (3 + 11) + rmX8_ones.locals ≤ R.locals) : CallB R s args RX8 index yX8_ones cX8_ones 3 (some .int) (ws_ yX8_ones cX8_ones 3 (some .int)) rmX8_ones 0 0 1 ∧ (Cond.static yX8_ones).before args s = true := va_cwS 1 hts (lw_S hl q1983 q122 q1984) rfl rfl rfl (by decide +kernel) hR
def tw_isAhead (a0 : Int32) (a1 : Int32) : Option (Int32) :=
  nmI (a0 ^^^ a1) fun x_1 => if ((a0 &&& x_1) &&& (-x_1)) = 0 then (some 0) else (some 1)
abbrev rmX8_isAhead : Room := rm_ 0 0
set_option maxHeartbeats 4000000 in
theorem metX8_isAhead {l : Launch} {gp : Nat → Nat} {nx : Nat} {D : va_G} {K : Nat → ClassId} {al : Nat → Nat} {V0 : g_V} {L0 : g_L} {a0 : Int32} {a1 : Int32} {r : Int32} (h : tw_isAhead a0 a1 = some r) : Met l yX8_isAhead (ws_ yX8_isAhead cX8_isAhead 3 (some .boolean)) rmX8_isAhead (twPc gp nx [.int a0, .int a1] D K al V0 L0) (twQi r nx D K al V0 L0) 0 0 (g_A al twSh) := by
  refine g_met rfl (Nat.le_of_ble_eq_true rfl) ?_
  intro p e s m below meth c ls S hr hlk hnm hl hW
  have S : CallFix p m c cX8_isAhead 3 s ([.int a0, .int a1] : List Value).toArray lw_all RX8 := S
  have hx := S.1
  have hb := S.2.1
  have hl : lv_has ls 3 [(0, .int a0), (1, .int a1)] := hl
  unfold tw_isAhead at h
  refine lv_iload_n hx hb dX8_isAhead_0 rfl (lv_at hl 0 rfl) ?_
  refine lv_iload_n hx hb dX8_isAhead_1 rfl (lv_at hl 1 rfl) ?_
  refine lv_ixor hx hb dX8_isAhead_2 ?_
  obtain ⟨x_1, e_2, h⟩ := nmI_some h
  refine g_nmi e_2 ?_
  refine lv_istore_n (lv' := [(2, .int x_1), (0, .int a0), (1, .int a1)]) hx hb dX8_isAhead_3 rfl hl (by decide) rfl (fun ls hl => ?_)
  refine lv_iload_n hx hb dX8_isAhead_4 rfl (lv_at hl 1 rfl) ?_
  refine lv_iload_n hx hb dX8_isAhead_5 rfl (lv_at hl 0 rfl) ?_
  refine lv_iand hx hb dX8_isAhead_6 ?_
  refine lv_iload_n hx hb dX8_isAhead_7 rfl (lv_at hl 0 rfl) ?_
  refine lv_ineg hx hb dX8_isAhead_8 ?_
  refine lv_iand hx hb dX8_isAhead_9 ?_
  refine lv_if_eq (tgt := 17) hx hb dX8_isAhead_10 (by decide) (fun c_3 => ?_) (fun c_3 => ?_)
  · have h := if_t h c_3
    refine lv_iconst (v := 0) hx hb dX8_isAhead_17 (by decide) ?_
    cases h
    exact g_zret S hr hlk rfl hW dX8_isAhead_18
  · have h := if_f h c_3
    refine lv_iconst (v := 1) hx hb dX8_isAhead_13 (by decide) ?_
    refine lv_goto (tgt := 18) hx hb dX8_isAhead_14 (by decide) ?_
    cases h
    exact g_zret S hr hlk rfl hW dX8_isAhead_18
theorem cwX8_isAhead {R : Room} {s : State} {args : Array Value} {index : Nat} (hts : ∀ w ∈ lw_all, w.before args s = true) (hl : Cond.methodLink RX8 index yX8_isAhead ∈ lw_all) (hR : rmX8_isAhead.frames + 1 ≤ R.frames ∧ 8 + (3 + 11) + rmX8_isAhead.locals ≤ R.locals) : CallB R s args RX8 index yX8_isAhead cX8_isAhead 3 (some .boolean) (ws_ yX8_isAhead cX8_isAhead 3 (some .boolean)) rmX8_isAhead 0 0 2 ∧ (Cond.static yX8_isAhead).before args s = true := va_cwS 2 hts (lw_S hl q1986 q122 q1987) rfl rfl rfl (by decide +kernel) hR
def tw_chosen (V0 : g_V) : Option (Int32) :=
  some (V0 0 35)
abbrev rmX8_chosen : Room := rm_ 0 0
set_option maxHeartbeats 4000000 in
theorem metX8_chosen {l : Launch} {gp : Nat → Nat} {nx : Nat} {D : va_G} {K : Nat → ClassId} {al : Nat → Nat} {V0 : g_V} {L0 : g_L} {r : Int32} (h : tw_chosen V0 = some r) : Met l yX8_chosen (ws_ yX8_chosen cX8_chosen 1 (some .int)) rmX8_chosen (twPc gp nx [.ref (al 0)] D K al V0 L0) (twQi r nx D K al V0 L0) 0 0 (g_A al twSh) := by
  refine g_met rfl (Nat.le_of_ble_eq_true rfl) ?_
  intro p e s m below meth c ls S hr hlk hnm hl hW
  have S : CallFix p m c cX8_chosen 1 s ([.ref (al 0)] : List Value).toArray lw_all RX8 := S
  have hx := S.1
  have hb := S.2.1
  have hl : lv_has ls 1 [(0, .ref (al 0))] := hl
  unfold tw_chosen at h
  refine lv_aload_n hx hb dX8_chosen_0 rfl (lv_at hl 0 rfl) ?_
  refine tw_int S hW 35 (by decide) rfl q1534 rfl dX8_chosen_1 ?_
  cases h
  exact g_iret S hr hlk hW dX8_chosen_4
theorem cwX8_chosen {R : Room} {s : State} {args : Array Value} {index : Nat} (hts : ∀ w ∈ lw_all, w.before args s = true) (hl : Cond.methodLink RX8 index yX8_chosen ∈ lw_all) (hR : rmX8_chosen.frames + 1 ≤ R.frames ∧ 8 + (1 + 11) + rmX8_chosen.locals ≤ R.locals) : CallW R s args RX8 RX8 index yX8_chosen cX8_chosen 1 (some .int) (ws_ yX8_chosen cX8_chosen 1 (some .int)) rmX8_chosen 0 0 0 := cwV 0 hts (lw_V hl q1993 q1994 q122 q1995) rfl rfl rfl (by decide +kernel) hR
def tw_gauge (V0 : g_V) (a1 : Int32) (a2 : Int32) (a3 : Int32) (a4 : Int32) : Option (Int32 × g_V) :=
  bnd (tw_in a1.toInt64 0 9) (fun x_3 => if x_3 = 0 then (some ((-2), V0)) else (bnd (tw_isPlace a2 a3) (fun x_7 => if x_7 = 0 then (some ((-2), V0)) else (bnd (tw_in a4.toInt64 (-500) 500) (fun x_11 => if x_11 = 0 then (some ((-2), V0)) else (wrI V0 1 810 (790 + (2 * a1)) ((12 * a3) + a2) fun V_15 => wrI V_15 1 810 ((790 + (2 * a1)) + 1) a4 fun V_18 => some (0, V_18)))))))
abbrev rmX8_gauge : Room := rm_ 2 46
set_option maxHeartbeats 4000000 in
theorem metX8_gauge {l : Launch} {gp : Nat → Nat} {nx : Nat} {D : va_G} {K : Nat → ClassId} {al : Nat → Nat} {V0 : g_V} {L0 : g_L} {a1 : Int32} {a2 : Int32} {a3 : Int32} {a4 : Int32} {r : Int32} {V' : g_V} (h : tw_gauge V0 a1 a2 a3 a4 = some (r, V')) : Met l yX8_gauge (ws_ yX8_gauge cX8_gauge 5 (some .int)) rmX8_gauge (twPc gp nx [.ref (al 0), .int a1, .int a2, .int a3, .int a4] D K al V0 L0) (twQi r nx D K al V' L0) 0 0 (g_A al twSh) := by
  refine g_met rfl (Nat.le_of_ble_eq_true rfl) ?_
  intro p e s m below meth c ls S hr hlk hnm hl hW
  have S : CallFix p m c cX8_gauge 5 s ([.ref (al 0), .int a1, .int a2, .int a3, .int a4] : List Value).toArray lw_all RX8 := S
  have hx := S.1
  have hb := S.2.1
  have hl : lv_has ls 5 [(0, .ref (al 0)), (1, .int a1), (2, .int a2), (3, .int a3), (4, .int a4)] := hl
  unfold tw_gauge at h
  refine lv_iload_n hx hb dX8_gauge_0 rfl (lv_at hl 1 rfl) ?_
  refine lv_i2l (v := a1.toInt64) hx hb dX8_gauge_1 rfl ?_
  refine lv_lconst (v := 0) hx hb dX8_gauge_2 (by decide) ?_
  refine lv_ldc2 (v := 9) hx hb S.2.2.2.1 (S.2.2.2.2 _ q2000) dX8_gauge_3 ?_
  obtain ⟨x_3, h_1, h⟩ := bnd_some h
  refine g_callSi (As := [.long a1.toInt64, .long 0, .long 9]) (rest := []) S hW (metX8_in h_1) (cwX8_in S.2.2.2.2 q1625 ⟨Nat.le_of_ble_eq_true rfl, Nat.le_of_ble_eq_true rfl⟩) rfl hl.1 rfl (Nat.le_of_ble_eq_true rfl) dX8_gauge_6 ⟨Nat.le_refl _, Nat.le_refl _⟩ (fun H locs hW => ?_)
  refine lv_if_eq (tgt := 35) hx hb dX8_gauge_9 (by decide) (fun c_4 => ?_) (fun c_4 => ?_)
  · have h := if_t h c_4
    refine lv_bipush (v := (-2)) hx hb dX8_gauge_35 (by decide) ?_
    cases h
    exact g_iret S hr hlk hW dX8_gauge_37
  · have h := if_f h c_4
    refine lv_iload_n hx hb dX8_gauge_12 rfl (lv_at hl 2 rfl) ?_
    refine lv_iload_n hx hb dX8_gauge_13 rfl (lv_at hl 3 rfl) ?_
    obtain ⟨x_7, h_5, h⟩ := bnd_some h
    refine g_callSi (As := [.int a2, .int a3]) (rest := []) S hW (metX8_isPlace h_5) (cwX8_isPlace S.2.2.2.2 q1782 ⟨Nat.le_of_ble_eq_true rfl, Nat.le_of_ble_eq_true rfl⟩) rfl hl.1 rfl (Nat.le_of_ble_eq_true rfl) dX8_gauge_14 ⟨Nat.le_refl _, Nat.le_refl _⟩ (fun H locs hW => ?_)
    refine lv_if_eq (tgt := 35) hx hb dX8_gauge_17 (by decide) (fun c_8 => ?_) (fun c_8 => ?_)
    · have h := if_t h c_8
      refine lv_bipush (v := (-2)) hx hb dX8_gauge_35 (by decide) ?_
      cases h
      exact g_iret S hr hlk hW dX8_gauge_37
    · have h := if_f h c_8
      refine lv_iload hx hb dX8_gauge_20 (lv_at hl 4 rfl) ?_
      refine lv_i2l (v := a4.toInt64) hx hb dX8_gauge_22 rfl ?_
      refine lv_ldc2 (v := (-500)) hx hb S.2.2.2.1 (S.2.2.2.2 _ q2001) dX8_gauge_23 ?_
      refine lv_ldc2 (v := 500) hx hb S.2.2.2.1 (S.2.2.2.2 _ q2002) dX8_gauge_26 ?_
      obtain ⟨x_11, h_9, h⟩ := bnd_some h
      refine g_callSi (As := [.long a4.toInt64, .long (-500), .long 500]) (rest := []) S hW (metX8_in h_9) (cwX8_in S.2.2.2.2 q1625 ⟨Nat.le_of_ble_eq_true rfl, Nat.le_of_ble_eq_true rfl⟩) rfl hl.1 rfl (Nat.le_of_ble_eq_true rfl) dX8_gauge_29 ⟨Nat.le_refl _, Nat.le_refl _⟩ (fun H locs hW => ?_)
      refine lv_if_ne (tgt := 38) hx hb dX8_gauge_32 (by decide) (fun c_12 => ?_) (fun c_12 => ?_)
      · have h := if_f h c_12
        refine lv_aload_n hx hb dX8_gauge_38 rfl (lv_at hl 0 rfl) ?_
        refine tw_ref S hW 1 1 (by decide) rfl q1500 rfl dX8_gauge_39 ?_
        refine lv_sipush (v := 790) hx hb dX8_gauge_42 (by decide) ?_
        refine lv_iconst (v := 2) hx hb dX8_gauge_45 (by decide) ?_
        refine lv_iload_n hx hb dX8_gauge_46 rfl (lv_at hl 1 rfl) ?_
        refine lv_imul hx hb dX8_gauge_47 ?_
        refine lv_iadd hx hb dX8_gauge_48 ?_
        refine lv_bipush (v := 12) hx hb dX8_gauge_49 (by decide) ?_
        refine lv_iload_n hx hb dX8_gauge_51 rfl (lv_at hl 3 rfl) ?_
        refine lv_imul hx hb dX8_gauge_52 ?_
        refine lv_iload_n hx hb dX8_gauge_53 rfl (lv_at hl 2 rfl) ?_
        refine lv_iadd hx hb dX8_gauge_54 ?_
        obtain ⟨h_13, V_15, e_14, h⟩ := wrI_some h
        refine g_iast S hW (k := 1) rfl rfl h_13 e_14 dX8_gauge_55 (fun H locs hW => ?_)
        refine lv_aload_n hx hb dX8_gauge_56 rfl (lv_at hl 0 rfl) ?_
        refine tw_ref S hW 1 1 (by decide) rfl q1500 rfl dX8_gauge_57 ?_
        refine lv_sipush (v := 790) hx hb dX8_gauge_60 (by decide) ?_
        refine lv_iconst (v := 2) hx hb dX8_gauge_63 (by decide) ?_
        refine lv_iload_n hx hb dX8_gauge_64 rfl (lv_at hl 1 rfl) ?_
        refine lv_imul hx hb dX8_gauge_65 ?_
        refine lv_iadd hx hb dX8_gauge_66 ?_
        refine lv_iconst (v := 1) hx hb dX8_gauge_67 (by decide) ?_
        refine lv_iadd hx hb dX8_gauge_68 ?_
        refine lv_iload hx hb dX8_gauge_69 (lv_at hl 4 rfl) ?_
        obtain ⟨h_16, V_18, e_17, h⟩ := wrI_some h
        refine g_iast S hW (k := 1) rfl rfl h_16 e_17 dX8_gauge_71 (fun H locs hW => ?_)
        refine lv_iconst (v := 0) hx hb dX8_gauge_72 (by decide) ?_
        cases h
        exact g_iret S hr hlk hW dX8_gauge_73
      · have h := if_t h c_12
        refine lv_bipush (v := (-2)) hx hb dX8_gauge_35 (by decide) ?_
        cases h
        exact g_iret S hr hlk hW dX8_gauge_37
theorem cwX8_gauge {R : Room} {s : State} {args : Array Value} {index : Nat} (hts : ∀ w ∈ lw_all, w.before args s = true) (hl : Cond.methodLink RX8 index yX8_gauge ∈ lw_all) (hR : rmX8_gauge.frames + 1 ≤ R.frames ∧ 8 + (5 + 11) + rmX8_gauge.locals ≤ R.locals) : CallW R s args RX8 RX8 index yX8_gauge cX8_gauge 5 (some .int) (ws_ yX8_gauge cX8_gauge 5 (some .int)) rmX8_gauge 0 0 4 := cwV 4 hts (lw_V hl q1997 q1998 q122 q1999) rfl rfl rfl (by decide +kernel) hR
def tw_lies_B19 (x1 : Int32) (V : g_V) (rec : Int32 → Int32 → Option (Int32)) (x2 : Int32) (x3 : Int32) : Option (Int32) :=
  if 10 ≤ x3 then (some x2) else (rdI (V 1) 810 (790 + (2 * x3)) fun x_6 => if x_6 = (-1) then (nmI (x3 + 1) fun x_10 => rec x2 x_10) else (bnd (tw_isDug V x_6) (fun x_14 => if x_14 = 0 then (rdI (V 1) 810 (192 + x_6) fun x_20 => rdI (V 1) 810 ((790 + (2 * x3)) + 1) fun x_23 => nmI (if 0 ≤ (x_20 - x_23) then (x_20 - x_23) else 0 - (x_20 - x_23)) fun x_26 => if x_26 ≤ x1 then (nmI (x3 + 1) fun x_29 => rec x2 x_29) else (nmI (x2 ||| ((1 : Int32) <<< (x3 &&& 31))) fun x_31 => nmI (x3 + 1) fun x_33 => rec x_31 x_33)) else (nmI (x2 ||| ((1 : Int32) <<< (x3 &&& 31))) fun x_16 => nmI (x3 + 1) fun x_18 => rec x_16 x_18))))
abbrev tw_lies_F19 (x1 : Int32) (V : g_V) : ((Int32 × Int32) → Option (Int32)) → (Int32 × Int32) → Option (Int32) := fun rec s => tw_lies_B19 x1 V (fun x2 x3 => rec (x2, x3)) s.1 s.2
def tw_lies_L19 (x1 : Int32) (V : g_V) (n : Nat) (x2 : Int32) (x3 : Int32) : Option (Int32) := lp (tw_lies_F19 x1 V) n (x2, x3)
theorem tw_lies_L19_s (x1 : Int32) (V : g_V) (n : Nat) (x2 : Int32) (x3 : Int32) : tw_lies_L19 x1 V (n + 1) x2 x3 = tw_lies_B19 x1 V (fun x2 x3 => tw_lies_L19 x1 V n x2 x3) x2 x3 := lp_s (tw_lies_F19 x1 V) n (x2, x3)
def tw_lies (V0 : g_V) (a1 : Int32) : Option (Int32) :=
  bnd (tw_in a1.toInt64 0 99) (fun x_3 => if x_3 = 0 then (some (-2)) else (bnd (tw_lies_L19 a1 V0 1000 0 0) (fun x_37 => some x_37)))
abbrev rmX8_lies : Room := rm_ 1 25
set_option maxHeartbeats 4000000 in
theorem metX8_lies {l : Launch} {gp : Nat → Nat} {nx : Nat} {D : va_G} {K : Nat → ClassId} {al : Nat → Nat} {V0 : g_V} {L0 : g_L} {a1 : Int32} {r : Int32} (h : tw_lies V0 a1 = some r) : Met l yX8_lies (ws_ yX8_lies cX8_lies 5 (some .int)) rmX8_lies (twPc gp nx [.ref (al 0), .int a1] D K al V0 L0) (twQi r nx D K al V0 L0) 0 0 (g_A al twSh) := by
  refine g_met rfl (Nat.le_of_ble_eq_true rfl) ?_
  intro p e s m below meth c ls S hr hlk hnm hl hW
  have S : CallFix p m c cX8_lies 5 s ([.ref (al 0), .int a1] : List Value).toArray lw_all RX8 := S
  have hx := S.1
  have hb := S.2.1
  have hl : lv_has ls 5 [(0, .ref (al 0)), (1, .int a1)] := hl
  have Lp19 : ∀ (x1 : Int32) (V : g_V) (L : g_L) (n : Nat) (x2 : Int32) (x3 : Int32) (out : (Int32)) (H : Heap) (locs : List Loc) (ls : Array Slot), tw_lies_L19 x1 V n x2 x3 = some out → twW gp nx D K al s V L H locs → lv_has ls 5 [(0, .ref (al 0)), (1, .int x1), (2, .int x2), (3, .int x3)] → (∀ (o2 : Int32), out = o2 → ∀ (H : Heap) (locs : List Loc) (ls : Array Slot), twW gp nx D K al s V L H locs → lv_has ls 5 [(2, .int o2)] → W p l e rmX8_lies s m ([.ref (al 0), .int a1] : List Value).toArray below meth c H locs 0 0 (MQ below (twQi r nx D K al V0 L0) ([.ref (al 0), .int a1] : List Value).toArray s 0 0 (g_A al twSh)) (F0 m 99 ls [])) → W p l e rmX8_lies s m ([.ref (al 0), .int a1] : List Value).toArray below meth c H locs 0 0 (MQ below (twQi r nx D K al V0 L0) ([.ref (al 0), .int a1] : List Value).toArray s 0 0 (g_A al twSh)) (F0 m 19 ls []) := by
    intro x1 V L n
    induction n with
    | zero =>
      intro x2 x3 out H locs ls h
      exact (lp_0 h).elim
    | succ n ih =>
      intro x2 x3 out H locs ls h hW hl k1
      rw [tw_lies_L19_s] at h
      unfold tw_lies_B19 at h
      refine lv_iload_n hx hb dX8_lies_19 rfl (lv_at hl 3 rfl) ?_
      refine lv_bipush (v := 10) hx hb dX8_lies_20 (by decide) ?_
      refine lv_icmp_ge (tgt := 99) hx hb dX8_lies_22 (by decide) (fun c_5 => ?_) (fun c_5 => ?_)
      · have h := if_t h c_5
        exact k1 _ (Option.some.inj h).symm _ _ _ hW (lv_sub hl [2] rfl)
      · have h := if_f h c_5
        refine lv_aload_n hx hb dX8_lies_25 rfl (lv_at hl 0 rfl) ?_
        refine tw_ref S hW 1 1 (by decide) rfl q1500 rfl dX8_lies_26 ?_
        refine lv_sipush (v := 790) hx hb dX8_lies_29 (by decide) ?_
        refine lv_iconst (v := 2) hx hb dX8_lies_32 (by decide) ?_
        refine lv_iload_n hx hb dX8_lies_33 rfl (lv_at hl 3 rfl) ?_
        refine lv_imul hx hb dX8_lies_34 ?_
        refine lv_iadd hx hb dX8_lies_35 ?_
        obtain ⟨h_7, x_6, e_8, h⟩ := rdI_some h
        refine g_iald S hW (k := 1) rfl rfl h_7 e_8 dX8_lies_36 ?_
        refine lv_istore (lv' := [(4, .int x_6), (0, .ref (al 0)), (1, .int x1), (2, .int x2), (3, .int x3)]) hx hb dX8_lies_37 hl (by decide) rfl (fun ls hl => ?_)
        refine lv_iload hx hb dX8_lies_39 (lv_at hl 0 rfl) ?_
        refine lv_iconst (v := (-1)) hx hb dX8_lies_41 (by decide) ?_
        refine lv_icmp_eq (tgt := 93) hx hb dX8_lies_42 (by decide) (fun c_9 => ?_) (fun c_9 => ?_)
        · have h := if_t h c_9
          obtain ⟨x_10, e_11, h⟩ := nmI_some h
          refine lv_iinc (v := x_10) (lv' := [(3, .int x_10), (4, .int x_6), (0, .ref (al 0)), (1, .int x1), (2, .int x2)]) hx hb dX8_lies_93 hl (k := 4) rfl (by rw [e_11]; rfl) (by decide) rfl (fun ls hl => ?_)
          refine lv_goto (tgt := 19) hx hb dX8_lies_96 (by decide) ?_
          exact ih x2 x_10 out _ _ _ h hW (lv_sub hl [2, 3, 4, 0] rfl) k1
        · have h := if_f h c_9
          refine lv_aload_n hx hb dX8_lies_45 rfl (lv_at hl 1 rfl) ?_
          refine lv_iload hx hb dX8_lies_46 (lv_at hl 0 rfl) ?_
          obtain ⟨x_14, h_12, h⟩ := bnd_some h
          refine g_callVi (As := [.int x_6]) (rest := []) S hW (metX8_isDug h_12) (cwX8_isDug S.2.2.2.2 q1771 ⟨Nat.le_of_ble_eq_true rfl, Nat.le_of_ble_eq_true rfl⟩) (k := 0) rfl rfl rfl hl.1 rfl (Nat.le_of_ble_eq_true rfl) dX8_lies_48 ⟨Nat.le_refl _, Nat.le_refl _⟩ (fun H locs hW => ?_)
          refine lv_if_ne (tgt := 87) hx hb dX8_lies_51 (by decide) (fun c_15 => ?_) (fun c_15 => ?_)
          · have h := if_f h c_15
            refine lv_iload_n hx hb dX8_lies_87 rfl (lv_at hl 3 rfl) ?_
            refine lv_iconst (v := 1) hx hb dX8_lies_88 (by decide) ?_
            refine lv_iload_n hx hb dX8_lies_89 rfl (lv_at hl 4 rfl) ?_
            refine lv_ishl hx hb dX8_lies_90 ?_
            refine lv_ior hx hb dX8_lies_91 ?_
            obtain ⟨x_16, e_17, h⟩ := nmI_some h
            refine g_nmi e_17 ?_
            refine lv_istore_n (lv' := [(2, .int x_16), (4, .int x_6), (0, .ref (al 0)), (1, .int x1), (3, .int x3)]) hx hb dX8_lies_92 rfl hl (by decide) rfl (fun ls hl => ?_)
            obtain ⟨x_18, e_19, h⟩ := nmI_some h
            refine lv_iinc (v := x_18) (lv' := [(3, .int x_18), (2, .int x_16), (4, .int x_6), (0, .ref (al 0)), (1, .int x1)]) hx hb dX8_lies_93 hl (k := 4) rfl (by rw [e_19]; rfl) (by decide) rfl (fun ls hl => ?_)
            refine lv_goto (tgt := 19) hx hb dX8_lies_96 (by decide) ?_
            exact ih x_16 x_18 out _ _ _ h hW (lv_sub hl [3, 4, 1, 0] rfl) k1
          · have h := if_t h c_15
            refine lv_aload_n hx hb dX8_lies_54 rfl (lv_at hl 1 rfl) ?_
            refine tw_ref S hW 1 1 (by decide) rfl q1500 rfl dX8_lies_55 ?_
            refine lv_sipush (v := 192) hx hb dX8_lies_58 (by decide) ?_
            refine lv_iload hx hb dX8_lies_61 (lv_at hl 0 rfl) ?_
            refine lv_iadd hx hb dX8_lies_63 ?_
            obtain ⟨h_21, x_20, e_22, h⟩ := rdI_some h
            refine g_iald S hW (k := 1) rfl rfl h_21 e_22 dX8_lies_64 ?_
            refine lv_aload_n hx hb dX8_lies_65 rfl (lv_at hl 1 rfl) ?_
            refine tw_ref S hW 1 1 (by decide) rfl q1500 rfl dX8_lies_66 ?_
            refine lv_sipush (v := 790) hx hb dX8_lies_69 (by decide) ?_
            refine lv_iconst (v := 2) hx hb dX8_lies_72 (by decide) ?_
            refine lv_iload_n hx hb dX8_lies_73 rfl (lv_at hl 4 rfl) ?_
            refine lv_imul hx hb dX8_lies_74 ?_
            refine lv_iadd hx hb dX8_lies_75 ?_
            refine lv_iconst (v := 1) hx hb dX8_lies_76 (by decide) ?_
            refine lv_iadd hx hb dX8_lies_77 ?_
            obtain ⟨h_24, x_23, e_25, h⟩ := rdI_some h
            refine g_iald S hW (k := 1) rfl rfl h_24 e_25 dX8_lies_78 ?_
            refine lv_isub hx hb dX8_lies_79 ?_
            refine va_mabs hx hb (S.2.2.1.trans hl.1.symm) S.2.2.2.1 (S.2.2.2.2 _ q1814) (S.2.2.2.2 _ q1150) (S.2.2.2.2 _ q117) (S.2.2.2.2 _ mc_abs) (Nat.le_of_ble_eq_true rfl) (Nat.le_of_ble_eq_true rfl) (Nat.le_refl _) (Nat.le_refl _) dX8_lies_80 ?_
            obtain ⟨x_26, e_27, h⟩ := nmI_some h
            refine g_nmi e_27 ?_
            refine lv_iload_n hx hb dX8_lies_83 rfl (lv_at hl 2 rfl) ?_
            refine lv_icmp_le (tgt := 93) hx hb dX8_lies_84 (by decide) (fun c_28 => ?_) (fun c_28 => ?_)
            · have h := if_t h c_28
              obtain ⟨x_29, e_30, h⟩ := nmI_some h
              refine lv_iinc (v := x_29) (lv' := [(3, .int x_29), (4, .int x_6), (0, .ref (al 0)), (1, .int x1), (2, .int x2)]) hx hb dX8_lies_93 hl (k := 4) rfl (by rw [e_30]; rfl) (by decide) rfl (fun ls hl => ?_)
              refine lv_goto (tgt := 19) hx hb dX8_lies_96 (by decide) ?_
              exact ih x2 x_29 out _ _ _ h hW (lv_sub hl [2, 3, 4, 0] rfl) k1
            · have h := if_f h c_28
              refine lv_iload_n hx hb dX8_lies_87 rfl (lv_at hl 3 rfl) ?_
              refine lv_iconst (v := 1) hx hb dX8_lies_88 (by decide) ?_
              refine lv_iload_n hx hb dX8_lies_89 rfl (lv_at hl 4 rfl) ?_
              refine lv_ishl hx hb dX8_lies_90 ?_
              refine lv_ior hx hb dX8_lies_91 ?_
              obtain ⟨x_31, e_32, h⟩ := nmI_some h
              refine g_nmi e_32 ?_
              refine lv_istore_n (lv' := [(2, .int x_31), (4, .int x_6), (0, .ref (al 0)), (1, .int x1), (3, .int x3)]) hx hb dX8_lies_92 rfl hl (by decide) rfl (fun ls hl => ?_)
              obtain ⟨x_33, e_34, h⟩ := nmI_some h
              refine lv_iinc (v := x_33) (lv' := [(3, .int x_33), (2, .int x_31), (4, .int x_6), (0, .ref (al 0)), (1, .int x1)]) hx hb dX8_lies_93 hl (k := 4) rfl (by rw [e_34]; rfl) (by decide) rfl (fun ls hl => ?_)
              refine lv_goto (tgt := 19) hx hb dX8_lies_96 (by decide) ?_
              exact ih x_31 x_33 out _ _ _ h hW (lv_sub hl [3, 4, 1, 0] rfl) k1
  unfold tw_lies at h
  refine lv_iload_n hx hb dX8_lies_0 rfl (lv_at hl 1 rfl) ?_
  refine lv_i2l (v := a1.toInt64) hx hb dX8_lies_1 rfl ?_
  refine lv_lconst (v := 0) hx hb dX8_lies_2 (by decide) ?_
  refine lv_ldc2 (v := 99) hx hb S.2.2.2.1 (S.2.2.2.2 _ q2007) dX8_lies_3 ?_
  obtain ⟨x_3, h_1, h⟩ := bnd_some h
  refine g_callSi (As := [.long a1.toInt64, .long 0, .long 99]) (rest := []) S hW (metX8_in h_1) (cwX8_in S.2.2.2.2 q1625 ⟨Nat.le_of_ble_eq_true rfl, Nat.le_of_ble_eq_true rfl⟩) rfl hl.1 rfl (Nat.le_of_ble_eq_true rfl) dX8_lies_6 ⟨Nat.le_refl _, Nat.le_refl _⟩ (fun H locs hW => ?_)
  refine lv_if_ne (tgt := 15) hx hb dX8_lies_9 (by decide) (fun c_4 => ?_) (fun c_4 => ?_)
  · have h := if_f h c_4
    refine lv_iconst (v := 0) hx hb dX8_lies_15 (by decide) ?_
    refine lv_istore_n (lv' := [(2, .int 0), (0, .ref (al 0)), (1, .int a1)]) hx hb dX8_lies_16 rfl hl (by decide) rfl (fun ls hl => ?_)
    refine lv_iconst (v := 0) hx hb dX8_lies_17 (by decide) ?_
    refine lv_istore_n (lv' := [(3, .int 0), (2, .int 0), (0, .ref (al 0)), (1, .int a1)]) hx hb dX8_lies_18 rfl hl (by decide) rfl (fun ls hl => ?_)
    obtain ⟨x_37, h_36, h⟩ := bnd_some h
    refine Lp19 a1 V0 L0 1000 0 0  _ _ _ _ h_36 hW (lv_sub hl [2, 3, 1, 0] rfl) ?_
    intro w0 eo H locs ls hW hl
    subst eo
    refine lv_iload_n hx hb dX8_lies_99 rfl (lv_at hl 0 rfl) ?_
    cases h
    exact g_iret S hr hlk hW dX8_lies_100
  · have h := if_t h c_4
    refine lv_bipush (v := (-2)) hx hb dX8_lies_12 (by decide) ?_
    cases h
    exact g_iret S hr hlk hW dX8_lies_14
theorem cwX8_lies {R : Room} {s : State} {args : Array Value} {index : Nat} (hts : ∀ w ∈ lw_all, w.before args s = true) (hl : Cond.methodLink RX8 index yX8_lies ∈ lw_all) (hR : rmX8_lies.frames + 1 ≤ R.frames ∧ 8 + (5 + 11) + rmX8_lies.locals ≤ R.locals) : CallW R s args RX8 RX8 index yX8_lies cX8_lies 5 (some .int) (ws_ yX8_lies cX8_lies 5 (some .int)) rmX8_lies 0 0 1 := cwV 1 hts (lw_V hl q2004 q2005 q122 q2006) rfl rfl rfl (by decide +kernel) hR
def tw_most_B16 (x1 : Int32) (V : g_V) (rec : Int32 → Int32 → Option (Int32)) (x2 : Int32) (x3 : Int32) : Option (Int32) :=
  if 144 ≤ x3 then (some x2) else (bnd (tw_isDug V x3) (fun x_8 => if x_8 = 0 then (if x2 = (-1) then (nmI (x3 + 1) fun x_11 => rec x3 x_11) else (if x1 = 0 then (rdI (V 1) 810 (192 + x3) fun x_25 => rdI (V 1) 810 (192 + x2) fun x_28 => if x_28 ≤ x_25 then (nmI (x3 + 1) fun x_32 => rec x2 x_32) else (nmI (x3 + 1) fun x_34 => rec x3 x_34)) else (rdI (V 1) 810 (192 + x3) fun x_14 => rdI (V 1) 810 (192 + x2) fun x_17 => if x_14 ≤ x_17 then (nmI (x3 + 1) fun x_21 => rec x2 x_21) else (nmI (x3 + 1) fun x_23 => rec x3 x_23)))) else (nmI (x3 + 1) fun x_36 => rec x2 x_36)))
abbrev tw_most_F16 (x1 : Int32) (V : g_V) : ((Int32 × Int32) → Option (Int32)) → (Int32 × Int32) → Option (Int32) := fun rec s => tw_most_B16 x1 V (fun x2 x3 => rec (x2, x3)) s.1 s.2
def tw_most_L16 (x1 : Int32) (V : g_V) (n : Nat) (x2 : Int32) (x3 : Int32) : Option (Int32) := lp (tw_most_F16 x1 V) n (x2, x3)
theorem tw_most_L16_s (x1 : Int32) (V : g_V) (n : Nat) (x2 : Int32) (x3 : Int32) : tw_most_L16 x1 V (n + 1) x2 x3 = tw_most_B16 x1 V (fun x2 x3 => tw_most_L16 x1 V n x2 x3) x2 x3 := lp_s (tw_most_F16 x1 V) n (x2, x3)
def tw_most (V0 : g_V) (a1 : Int32) : Option (Int32) :=
  bnd (tw_in a1.toInt64 0 1) (fun x_3 => if x_3 = 0 then (some (-1)) else (bnd (tw_most_L16 a1 V0 1000 (-1) 0) (fun x_40 => some x_40)))
abbrev rmX8_most : Room := rm_ 1 25
set_option maxHeartbeats 4000000 in
theorem metX8_most {l : Launch} {gp : Nat → Nat} {nx : Nat} {D : va_G} {K : Nat → ClassId} {al : Nat → Nat} {V0 : g_V} {L0 : g_L} {a1 : Int32} {r : Int32} (h : tw_most V0 a1 = some r) : Met l yX8_most (ws_ yX8_most cX8_most 4 (some .int)) rmX8_most (twPc gp nx [.ref (al 0), .int a1] D K al V0 L0) (twQi r nx D K al V0 L0) 0 0 (g_A al twSh) := by
  refine g_met rfl (Nat.le_of_ble_eq_true rfl) ?_
  intro p e s m below meth c ls S hr hlk hnm hl hW
  have S : CallFix p m c cX8_most 4 s ([.ref (al 0), .int a1] : List Value).toArray lw_all RX8 := S
  have hx := S.1
  have hb := S.2.1
  have hl : lv_has ls 4 [(0, .ref (al 0)), (1, .int a1)] := hl
  have Lp16 : ∀ (x1 : Int32) (V : g_V) (L : g_L) (n : Nat) (x2 : Int32) (x3 : Int32) (out : (Int32)) (H : Heap) (locs : List Loc) (ls : Array Slot), tw_most_L16 x1 V n x2 x3 = some out → twW gp nx D K al s V L H locs → lv_has ls 4 [(0, .ref (al 0)), (1, .int x1), (2, .int x2), (3, .int x3)] → (∀ (o2 : Int32), out = o2 → ∀ (H : Heap) (locs : List Loc) (ls : Array Slot), twW gp nx D K al s V L H locs → lv_has ls 4 [(2, .int o2)] → W p l e rmX8_most s m ([.ref (al 0), .int a1] : List Value).toArray below meth c H locs 0 0 (MQ below (twQi r nx D K al V0 L0) ([.ref (al 0), .int a1] : List Value).toArray s 0 0 (g_A al twSh)) (F0 m 100 ls [])) → W p l e rmX8_most s m ([.ref (al 0), .int a1] : List Value).toArray below meth c H locs 0 0 (MQ below (twQi r nx D K al V0 L0) ([.ref (al 0), .int a1] : List Value).toArray s 0 0 (g_A al twSh)) (F0 m 16 ls []) := by
    intro x1 V L n
    induction n with
    | zero =>
      intro x2 x3 out H locs ls h
      exact (lp_0 h).elim
    | succ n ih =>
      intro x2 x3 out H locs ls h hW hl k1
      rw [tw_most_L16_s] at h
      unfold tw_most_B16 at h
      refine lv_iload_n hx hb dX8_most_16 rfl (lv_at hl 3 rfl) ?_
      refine lv_sipush (v := 144) hx hb dX8_most_17 (by decide) ?_
      refine lv_icmp_ge (tgt := 100) hx hb dX8_most_20 (by decide) (fun c_5 => ?_) (fun c_5 => ?_)
      · have h := if_t h c_5
        exact k1 _ (Option.some.inj h).symm _ _ _ hW (lv_sub hl [2] rfl)
      · have h := if_f h c_5
        refine lv_aload_n hx hb dX8_most_23 rfl (lv_at hl 0 rfl) ?_
        refine lv_iload_n hx hb dX8_most_24 rfl (lv_at hl 3 rfl) ?_
        obtain ⟨x_8, h_6, h⟩ := bnd_some h
        refine g_callVi (As := [.int x3]) (rest := []) S hW (metX8_isDug h_6) (cwX8_isDug S.2.2.2.2 q1771 ⟨Nat.le_of_ble_eq_true rfl, Nat.le_of_ble_eq_true rfl⟩) (k := 0) rfl rfl rfl hl.1 rfl (Nat.le_of_ble_eq_true rfl) dX8_most_25 ⟨Nat.le_refl _, Nat.le_refl _⟩ (fun H locs hW => ?_)
        refine lv_if_eq (tgt := 34) hx hb dX8_most_28 (by decide) (fun c_9 => ?_) (fun c_9 => ?_)
        · have h := if_t h c_9
          refine lv_iload_n hx hb dX8_most_34 rfl (lv_at hl 2 rfl) ?_
          refine lv_iconst (v := (-1)) hx hb dX8_most_35 (by decide) ?_
          refine lv_icmp_eq (tgt := 92) hx hb dX8_most_36 (by decide) (fun c_10 => ?_) (fun c_10 => ?_)
          · have h := if_t h c_10
            refine lv_iload_n hx hb dX8_most_92 rfl (lv_at hl 3 rfl) ?_
            refine lv_istore_n (lv' := [(2, .int x3), (0, .ref (al 0)), (1, .int x1), (3, .int x3)]) hx hb dX8_most_93 rfl hl (by decide) rfl (fun ls hl => ?_)
            obtain ⟨x_11, e_12, h⟩ := nmI_some h
            refine lv_iinc (v := x_11) (lv' := [(3, .int x_11), (2, .int x3), (0, .ref (al 0)), (1, .int x1)]) hx hb dX8_most_94 hl (k := 3) rfl (by rw [e_12]; rfl) (by decide) rfl (fun ls hl => ?_)
            refine lv_goto (tgt := 16) hx hb dX8_most_97 (by decide) ?_
            exact ih x3 x_11 out _ _ _ h hW (lv_sub hl [2, 3, 1, 0] rfl) k1
          · have h := if_f h c_10
            refine lv_iload_n hx hb dX8_most_39 rfl (lv_at hl 1 rfl) ?_
            refine lv_if_ne (tgt := 69) hx hb dX8_most_40 (by decide) (fun c_13 => ?_) (fun c_13 => ?_)
            · have h := if_f h c_13
              refine lv_aload_n hx hb dX8_most_69 rfl (lv_at hl 0 rfl) ?_
              refine tw_ref S hW 1 1 (by decide) rfl q1500 rfl dX8_most_70 ?_
              refine lv_sipush (v := 192) hx hb dX8_most_73 (by decide) ?_
              refine lv_iload_n hx hb dX8_most_76 rfl (lv_at hl 3 rfl) ?_
              refine lv_iadd hx hb dX8_most_77 ?_
              obtain ⟨h_15, x_14, e_16, h⟩ := rdI_some h
              refine g_iald S hW (k := 1) rfl rfl h_15 e_16 dX8_most_78 ?_
              refine lv_aload_n hx hb dX8_most_79 rfl (lv_at hl 0 rfl) ?_
              refine tw_ref S hW 1 1 (by decide) rfl q1500 rfl dX8_most_80 ?_
              refine lv_sipush (v := 192) hx hb dX8_most_83 (by decide) ?_
              refine lv_iload_n hx hb dX8_most_86 rfl (lv_at hl 2 rfl) ?_
              refine lv_iadd hx hb dX8_most_87 ?_
              obtain ⟨h_18, x_17, e_19, h⟩ := rdI_some h
              refine g_iald S hW (k := 1) rfl rfl h_18 e_19 dX8_most_88 ?_
              refine lv_icmp_le (tgt := 94) hx hb dX8_most_89 (by decide) (fun c_20 => ?_) (fun c_20 => ?_)
              · have h := if_t h c_20
                obtain ⟨x_21, e_22, h⟩ := nmI_some h
                refine lv_iinc (v := x_21) (lv' := [(3, .int x_21), (0, .ref (al 0)), (1, .int x1), (2, .int x2)]) hx hb dX8_most_94 hl (k := 3) rfl (by rw [e_22]; rfl) (by decide) rfl (fun ls hl => ?_)
                refine lv_goto (tgt := 16) hx hb dX8_most_97 (by decide) ?_
                exact ih x2 x_21 out _ _ _ h hW (lv_sub hl [1, 2, 3, 0] rfl) k1
              · have h := if_f h c_20
                refine lv_iload_n hx hb dX8_most_92 rfl (lv_at hl 3 rfl) ?_
                refine lv_istore_n (lv' := [(2, .int x3), (0, .ref (al 0)), (1, .int x1), (3, .int x3)]) hx hb dX8_most_93 rfl hl (by decide) rfl (fun ls hl => ?_)
                obtain ⟨x_23, e_24, h⟩ := nmI_some h
                refine lv_iinc (v := x_23) (lv' := [(3, .int x_23), (2, .int x3), (0, .ref (al 0)), (1, .int x1)]) hx hb dX8_most_94 hl (k := 3) rfl (by rw [e_24]; rfl) (by decide) rfl (fun ls hl => ?_)
                refine lv_goto (tgt := 16) hx hb dX8_most_97 (by decide) ?_
                exact ih x3 x_23 out _ _ _ h hW (lv_sub hl [2, 3, 1, 0] rfl) k1
            · have h := if_t h c_13
              refine lv_aload_n hx hb dX8_most_43 rfl (lv_at hl 0 rfl) ?_
              refine tw_ref S hW 1 1 (by decide) rfl q1500 rfl dX8_most_44 ?_
              refine lv_sipush (v := 192) hx hb dX8_most_47 (by decide) ?_
              refine lv_iload_n hx hb dX8_most_50 rfl (lv_at hl 3 rfl) ?_
              refine lv_iadd hx hb dX8_most_51 ?_
              obtain ⟨h_26, x_25, e_27, h⟩ := rdI_some h
              refine g_iald S hW (k := 1) rfl rfl h_26 e_27 dX8_most_52 ?_
              refine lv_aload_n hx hb dX8_most_53 rfl (lv_at hl 0 rfl) ?_
              refine tw_ref S hW 1 1 (by decide) rfl q1500 rfl dX8_most_54 ?_
              refine lv_sipush (v := 192) hx hb dX8_most_57 (by decide) ?_
              refine lv_iload_n hx hb dX8_most_60 rfl (lv_at hl 2 rfl) ?_
              refine lv_iadd hx hb dX8_most_61 ?_
              obtain ⟨h_29, x_28, e_30, h⟩ := rdI_some h
              refine g_iald S hW (k := 1) rfl rfl h_29 e_30 dX8_most_62 ?_
              refine lv_icmp_ge (tgt := 94) hx hb dX8_most_63 (by decide) (fun c_31 => ?_) (fun c_31 => ?_)
              · have h := if_t h c_31
                obtain ⟨x_32, e_33, h⟩ := nmI_some h
                refine lv_iinc (v := x_32) (lv' := [(3, .int x_32), (0, .ref (al 0)), (1, .int x1), (2, .int x2)]) hx hb dX8_most_94 hl (k := 3) rfl (by rw [e_33]; rfl) (by decide) rfl (fun ls hl => ?_)
                refine lv_goto (tgt := 16) hx hb dX8_most_97 (by decide) ?_
                exact ih x2 x_32 out _ _ _ h hW (lv_sub hl [1, 2, 3, 0] rfl) k1
              · have h := if_f h c_31
                refine lv_goto (tgt := 92) hx hb dX8_most_66 (by decide) ?_
                refine lv_iload_n hx hb dX8_most_92 rfl (lv_at hl 3 rfl) ?_
                refine lv_istore_n (lv' := [(2, .int x3), (0, .ref (al 0)), (1, .int x1), (3, .int x3)]) hx hb dX8_most_93 rfl hl (by decide) rfl (fun ls hl => ?_)
                obtain ⟨x_34, e_35, h⟩ := nmI_some h
                refine lv_iinc (v := x_34) (lv' := [(3, .int x_34), (2, .int x3), (0, .ref (al 0)), (1, .int x1)]) hx hb dX8_most_94 hl (k := 3) rfl (by rw [e_35]; rfl) (by decide) rfl (fun ls hl => ?_)
                refine lv_goto (tgt := 16) hx hb dX8_most_97 (by decide) ?_
                exact ih x3 x_34 out _ _ _ h hW (lv_sub hl [2, 3, 1, 0] rfl) k1
        · have h := if_f h c_9
          refine lv_goto (tgt := 94) hx hb dX8_most_31 (by decide) ?_
          obtain ⟨x_36, e_37, h⟩ := nmI_some h
          refine lv_iinc (v := x_36) (lv' := [(3, .int x_36), (0, .ref (al 0)), (1, .int x1), (2, .int x2)]) hx hb dX8_most_94 hl (k := 3) rfl (by rw [e_37]; rfl) (by decide) rfl (fun ls hl => ?_)
          refine lv_goto (tgt := 16) hx hb dX8_most_97 (by decide) ?_
          exact ih x2 x_36 out _ _ _ h hW (lv_sub hl [1, 2, 3, 0] rfl) k1
  unfold tw_most at h
  refine lv_iload_n hx hb dX8_most_0 rfl (lv_at hl 1 rfl) ?_
  refine lv_i2l (v := a1.toInt64) hx hb dX8_most_1 rfl ?_
  refine lv_lconst (v := 0) hx hb dX8_most_2 (by decide) ?_
  refine lv_lconst (v := 1) hx hb dX8_most_3 (by decide) ?_
  obtain ⟨x_3, h_1, h⟩ := bnd_some h
  refine g_callSi (As := [.long a1.toInt64, .long 0, .long 1]) (rest := []) S hW (metX8_in h_1) (cwX8_in S.2.2.2.2 q1625 ⟨Nat.le_of_ble_eq_true rfl, Nat.le_of_ble_eq_true rfl⟩) rfl hl.1 rfl (Nat.le_of_ble_eq_true rfl) dX8_most_4 ⟨Nat.le_refl _, Nat.le_refl _⟩ (fun H locs hW => ?_)
  refine lv_if_ne (tgt := 12) hx hb dX8_most_7 (by decide) (fun c_4 => ?_) (fun c_4 => ?_)
  · have h := if_f h c_4
    refine lv_iconst (v := (-1)) hx hb dX8_most_12 (by decide) ?_
    refine lv_istore_n (lv' := [(2, .int (-1)), (0, .ref (al 0)), (1, .int a1)]) hx hb dX8_most_13 rfl hl (by decide) rfl (fun ls hl => ?_)
    refine lv_iconst (v := 0) hx hb dX8_most_14 (by decide) ?_
    refine lv_istore_n (lv' := [(3, .int 0), (2, .int (-1)), (0, .ref (al 0)), (1, .int a1)]) hx hb dX8_most_15 rfl hl (by decide) rfl (fun ls hl => ?_)
    obtain ⟨x_40, h_39, h⟩ := bnd_some h
    refine Lp16 a1 V0 L0 1000 (-1) 0  _ _ _ _ h_39 hW (lv_sub hl [2, 3, 1, 0] rfl) ?_
    intro w0 eo H locs ls hW hl
    subst eo
    refine lv_iload_n hx hb dX8_most_100 rfl (lv_at hl 0 rfl) ?_
    cases h
    exact g_iret S hr hlk hW dX8_most_101
  · have h := if_t h c_4
    refine lv_iconst (v := (-1)) hx hb dX8_most_10 (by decide) ?_
    cases h
    exact g_iret S hr hlk hW dX8_most_11
theorem cwX8_most {R : Room} {s : State} {args : Array Value} {index : Nat} (hts : ∀ w ∈ lw_all, w.before args s = true) (hl : Cond.methodLink RX8 index yX8_most ∈ lw_all) (hR : rmX8_most.frames + 1 ≤ R.frames ∧ 8 + (4 + 11) + rmX8_most.locals ≤ R.locals) : CallW R s args RX8 RX8 index yX8_most cX8_most 4 (some .int) (ws_ yX8_most cX8_most 4 (some .int)) rmX8_most 0 0 1 := cwV 1 hts (lw_V hl q2009 q2010 q122 q2011) rfl rfl rfl (by decide +kernel) hR
def tw_row_B52 (x1 : Int32) (V : g_V) (rec : Int32 → g_L → Option (g_L)) (x4 : Int32) (L : g_L) : Option (g_L) :=
  if 60 ≤ x4 then (some L) else (wrL L 38 240 ((60 * x1) + x4) 0 fun L_20 => nmI (x4 + 1) fun x_21 => rec x_21 L_20)
abbrev tw_row_F52 (x1 : Int32) (V : g_V) : ((Int32 × g_L) → Option (g_L)) → (Int32 × g_L) → Option (g_L) := fun rec s => tw_row_B52 x1 V (fun x4 L => rec (x4, L)) s.1 s.2
def tw_row_L52 (x1 : Int32) (V : g_V) (n : Nat) (x4 : Int32) (L : g_L) : Option (g_L) := lp (tw_row_F52 x1 V) n (x4, L)
theorem tw_row_L52_s (x1 : Int32) (V : g_V) (n : Nat) (x4 : Int32) (L : g_L) : tw_row_L52 x1 V (n + 1) x4 L = tw_row_B52 x1 V (fun x4 L => tw_row_L52 x1 V n x4 L) x4 L := lp_s (tw_row_F52 x1 V) n (x4, L)
def tw_row (V0 : g_V) (L0 : g_L) (a1 : Int32) (a2 : Int32) (a3 : Int32) : Option (Int32 × g_V × g_L) :=
  bnd (tw_isSlot a1) (fun x_3 => if x_3 = 0 then (some ((-2), V0, L0)) else (bnd (tw_in a2.toInt64 0 3) (fun x_7 => if x_7 = 0 then (some ((-2), V0, L0)) else (if a3 ≤ 60 then (if 0 ≤ a3 then (wrI V0 36 4 a1 a3 fun V_13 => wrI V_13 37 4 a1 a2 fun V_16 => bnd (tw_row_L52 a1 V_16 1000 0 L0) (fun L_25 => some (0, V_16, L_25))) else (some ((-3), V0, L0))) else (some ((-2), V0, L0))))))
abbrev rmX8_row : Room := rm_ 2 45
set_option maxHeartbeats 4000000 in
theorem metX8_row {l : Launch} {gp : Nat → Nat} {nx : Nat} {D : va_G} {K : Nat → ClassId} {al : Nat → Nat} {V0 : g_V} {L0 : g_L} {a1 : Int32} {a2 : Int32} {a3 : Int32} {r : Int32} {V' : g_V} {L' : g_L} (h : tw_row V0 L0 a1 a2 a3 = some (r, V', L')) : Met l yX8_row (ws_ yX8_row cX8_row 5 (some .int)) rmX8_row (twPc gp nx [.ref (al 0), .int a1, .int a2, .int a3] D K al V0 L0) (twQi r nx D K al V' L') 0 0 (g_A al twSh) := by
  refine g_met rfl (Nat.le_of_ble_eq_true rfl) ?_
  intro p e s m below meth c ls S hr hlk hnm hl hW
  have S : CallFix p m c cX8_row 5 s ([.ref (al 0), .int a1, .int a2, .int a3] : List Value).toArray lw_all RX8 := S
  have hx := S.1
  have hb := S.2.1
  have hl : lv_has ls 5 [(0, .ref (al 0)), (1, .int a1), (2, .int a2), (3, .int a3)] := hl
  have Lp52 : ∀ (x1 : Int32) (V : g_V) (n : Nat) (x4 : Int32) (L : g_L) (out : (g_L)) (H : Heap) (locs : List Loc) (ls : Array Slot), tw_row_L52 x1 V n x4 L = some out → twW gp nx D K al s V L H locs → lv_has ls 5 [(0, .ref (al 0)), (1, .int x1), (4, .int x4)] → (∀ (oL : g_L), out = oL → ∀ (H : Heap) (locs : List Loc) (ls : Array Slot), twW gp nx D K al s V oL H locs → lv_has ls 5 [] → W p l e rmX8_row s m ([.ref (al 0), .int a1, .int a2, .int a3] : List Value).toArray below meth c H locs 0 0 (MQ below (twQi r nx D K al V' L') ([.ref (al 0), .int a1, .int a2, .int a3] : List Value).toArray s 0 0 (g_A al twSh)) (F0 m 78 ls [])) → W p l e rmX8_row s m ([.ref (al 0), .int a1, .int a2, .int a3] : List Value).toArray below meth c H locs 0 0 (MQ below (twQi r nx D K al V' L') ([.ref (al 0), .int a1, .int a2, .int a3] : List Value).toArray s 0 0 (g_A al twSh)) (F0 m 52 ls []) := by
    intro x1 V n
    induction n with
    | zero =>
      intro x4 L out H locs ls h
      exact (lp_0 h).elim
    | succ n ih =>
      intro x4 L out H locs ls h hW hl k1
      rw [tw_row_L52_s] at h
      unfold tw_row_B52 at h
      refine lv_iload hx hb dX8_row_52 (lv_at hl 2 rfl) ?_
      refine lv_bipush (v := 60) hx hb dX8_row_54 (by decide) ?_
      refine lv_icmp_ge (tgt := 78) hx hb dX8_row_56 (by decide) (fun c_17 => ?_) (fun c_17 => ?_)
      · have h := if_t h c_17
        exact k1 _ (Option.some.inj h).symm _ _ _ hW (lv_sub hl [] rfl)
      · have h := if_f h c_17
        refine lv_aload_n hx hb dX8_row_59 rfl (lv_at hl 0 rfl) ?_
        refine tw_ref S hW 38 38 (by decide) rfl q1537 rfl dX8_row_60 ?_
        refine lv_bipush (v := 60) hx hb dX8_row_63 (by decide) ?_
        refine lv_iload_n hx hb dX8_row_65 rfl (lv_at hl 1 rfl) ?_
        refine lv_imul hx hb dX8_row_66 ?_
        refine lv_iload hx hb dX8_row_67 (lv_at hl 2 rfl) ?_
        refine lv_iadd hx hb dX8_row_69 ?_
        refine lv_lconst (v := 0) hx hb dX8_row_70 (by decide) ?_
        obtain ⟨h_18, L_20, e_19, h⟩ := wrL_some h
        refine g_last S hW (k := 38) rfl rfl h_18 e_19 dX8_row_71 (fun H locs hW => ?_)
        obtain ⟨x_21, e_22, h⟩ := nmI_some h
        refine lv_iinc (v := x_21) (lv' := [(4, .int x_21), (0, .ref (al 0)), (1, .int x1)]) hx hb dX8_row_72 hl (k := 2) rfl (by rw [e_22]; rfl) (by decide) rfl (fun ls hl => ?_)
        refine lv_goto (tgt := 52) hx hb dX8_row_75 (by decide) ?_
        exact ih x_21 L_20 out _ _ _ h hW (lv_sub hl [1, 2, 0] rfl) k1
  unfold tw_row at h
  refine lv_iload_n hx hb dX8_row_0 rfl (lv_at hl 1 rfl) ?_
  obtain ⟨x_3, h_1, h⟩ := bnd_some h
  refine g_callSi (As := [.int a1]) (rest := []) S hW (metX8_isSlot h_1) (cwX8_isSlot S.2.2.2.2 q1973 ⟨Nat.le_of_ble_eq_true rfl, Nat.le_of_ble_eq_true rfl⟩) rfl hl.1 rfl (Nat.le_of_ble_eq_true rfl) dX8_row_1 ⟨Nat.le_refl _, Nat.le_refl _⟩ (fun H locs hW => ?_)
  refine lv_if_eq (tgt := 25) hx hb dX8_row_4 (by decide) (fun c_4 => ?_) (fun c_4 => ?_)
  · have h := if_t h c_4
    refine lv_bipush (v := (-2)) hx hb dX8_row_25 (by decide) ?_
    cases h
    exact g_iret S hr hlk hW dX8_row_27
  · have h := if_f h c_4
    refine lv_iload_n hx hb dX8_row_7 rfl (lv_at hl 2 rfl) ?_
    refine lv_i2l (v := a2.toInt64) hx hb dX8_row_8 rfl ?_
    refine lv_lconst (v := 0) hx hb dX8_row_9 (by decide) ?_
    refine lv_ldc2 (v := 3) hx hb S.2.2.2.1 (S.2.2.2.2 _ q1693) dX8_row_10 ?_
    obtain ⟨x_7, h_5, h⟩ := bnd_some h
    refine g_callSi (As := [.long a2.toInt64, .long 0, .long 3]) (rest := []) S hW (metX8_in h_5) (cwX8_in S.2.2.2.2 q1625 ⟨Nat.le_of_ble_eq_true rfl, Nat.le_of_ble_eq_true rfl⟩) rfl hl.1 rfl (Nat.le_of_ble_eq_true rfl) dX8_row_13 ⟨Nat.le_refl _, Nat.le_refl _⟩ (fun H locs hW => ?_)
    refine lv_if_eq (tgt := 25) hx hb dX8_row_16 (by decide) (fun c_8 => ?_) (fun c_8 => ?_)
    · have h := if_t h c_8
      refine lv_bipush (v := (-2)) hx hb dX8_row_25 (by decide) ?_
      cases h
      exact g_iret S hr hlk hW dX8_row_27
    · have h := if_f h c_8
      refine lv_iload_n hx hb dX8_row_19 rfl (lv_at hl 3 rfl) ?_
      refine lv_bipush (v := 60) hx hb dX8_row_20 (by decide) ?_
      refine lv_icmp_le (tgt := 28) hx hb dX8_row_22 (by decide) (fun c_9 => ?_) (fun c_9 => ?_)
      · have h := if_t h c_9
        refine lv_iload_n hx hb dX8_row_28 rfl (lv_at hl 3 rfl) ?_
        refine lv_if_ge (tgt := 35) hx hb dX8_row_29 (by decide) (fun c_10 => ?_) (fun c_10 => ?_)
        · have h := if_t h c_10
          refine lv_aload_n hx hb dX8_row_35 rfl (lv_at hl 0 rfl) ?_
          refine tw_ref S hW 36 36 (by decide) rfl q1535 rfl dX8_row_36 ?_
          refine lv_iload_n hx hb dX8_row_39 rfl (lv_at hl 1 rfl) ?_
          refine lv_iload_n hx hb dX8_row_40 rfl (lv_at hl 3 rfl) ?_
          obtain ⟨h_11, V_13, e_12, h⟩ := wrI_some h
          refine g_iast S hW (k := 36) rfl rfl h_11 e_12 dX8_row_41 (fun H locs hW => ?_)
          refine lv_aload_n hx hb dX8_row_42 rfl (lv_at hl 0 rfl) ?_
          refine tw_ref S hW 37 37 (by decide) rfl q1536 rfl dX8_row_43 ?_
          refine lv_iload_n hx hb dX8_row_46 rfl (lv_at hl 1 rfl) ?_
          refine lv_iload_n hx hb dX8_row_47 rfl (lv_at hl 2 rfl) ?_
          obtain ⟨h_14, V_16, e_15, h⟩ := wrI_some h
          refine g_iast S hW (k := 37) rfl rfl h_14 e_15 dX8_row_48 (fun H locs hW => ?_)
          refine lv_iconst (v := 0) hx hb dX8_row_49 (by decide) ?_
          refine lv_istore (lv' := [(4, .int 0), (0, .ref (al 0)), (1, .int a1), (2, .int a2), (3, .int a3)]) hx hb dX8_row_50 hl (by decide) rfl (fun ls hl => ?_)
          obtain ⟨L_25, h_24, h⟩ := bnd_some h
          refine Lp52 a1 V_16 1000 0 L0  _ _ _ _ h_24 hW (lv_sub hl [1, 2, 0] rfl) ?_
          intro w0 eo H locs ls hW hl
          subst eo
          refine lv_iconst (v := 0) hx hb dX8_row_78 (by decide) ?_
          cases h
          exact g_iret S hr hlk hW dX8_row_79
        · have h := if_f h c_10
          refine lv_bipush (v := (-3)) hx hb dX8_row_32 (by decide) ?_
          cases h
          exact g_iret S hr hlk hW dX8_row_34
      · have h := if_f h c_9
        refine lv_bipush (v := (-2)) hx hb dX8_row_25 (by decide) ?_
        cases h
        exact g_iret S hr hlk hW dX8_row_27
theorem cwX8_row {R : Room} {s : State} {args : Array Value} {index : Nat} (hts : ∀ w ∈ lw_all, w.before args s = true) (hl : Cond.methodLink RX8 index yX8_row ∈ lw_all) (hR : rmX8_row.frames + 1 ≤ R.frames ∧ 8 + (5 + 11) + rmX8_row.locals ≤ R.locals) : CallW R s args RX8 RX8 index yX8_row cX8_row 5 (some .int) (ws_ yX8_row cX8_row 5 (some .int)) rmX8_row 0 0 3 := cwV 3 hts (lw_V hl q2021 q2022 q122 q2023) rfl rfl rfl (by decide +kernel) hR
def tw_cut (a0 : Int64) (a2 : Int32) : Option (Int64) :=
  nmI (64 - ((8 : Int32) <<< (a2 &&& 31))) fun x_1 => some ((a0 <<< (x_1.toInt64 &&& 63)) >>> (x_1.toInt64 &&& 63))
abbrev rmX8_cut : Room := rm_ 0 0
set_option maxHeartbeats 4000000 in
theorem metX8_cut {l : Launch} {gp : Nat → Nat} {nx : Nat} {D : va_G} {K : Nat → ClassId} {al : Nat → Nat} {V0 : g_V} {L0 : g_L} {a0 : Int64} {a2 : Int32} {r : Int64} (h : tw_cut a0 a2 = some r) : Met l yX8_cut (ws_ yX8_cut cX8_cut 4 (some .long)) rmX8_cut (twPc gp nx [.long a0, .int a2] D K al V0 L0) (twQl r nx D K al V0 L0) 0 0 (g_A al twSh) := by
  refine g_met rfl (Nat.le_of_ble_eq_true rfl) ?_
  intro p e s m below meth c ls S hr hlk hnm hl hW
  have S : CallFix p m c cX8_cut 4 s ([.long a0, .int a2] : List Value).toArray lw_all RX8 := S
  have hx := S.1
  have hb := S.2.1
  have hl : lv_has ls 4 [(0, .long a0), (2, .int a2)] := hl
  unfold tw_cut at h
  refine lv_bipush (v := 64) hx hb dX8_cut_0 (by decide) ?_
  refine lv_bipush (v := 8) hx hb dX8_cut_2 (by decide) ?_
  refine lv_iload_n hx hb dX8_cut_4 rfl (lv_at hl 1 rfl) ?_
  refine lv_ishl hx hb dX8_cut_5 ?_
  refine lv_isub hx hb dX8_cut_6 ?_
  obtain ⟨x_1, e_2, h⟩ := nmI_some h
  refine g_nmi e_2 ?_
  refine lv_istore_n (lv' := [(3, .int x_1), (0, .long a0), (2, .int a2)]) hx hb dX8_cut_7 rfl hl (by decide) rfl (fun ls hl => ?_)
  refine lv_lload_n hx hb dX8_cut_8 rfl (lv_at hl 1 rfl) ?_
  refine lv_iload_n hx hb dX8_cut_9 rfl (lv_at hl 0 rfl) ?_
  refine lv_lshl (v := a0 <<< (x_1.toInt64 &&& 63)) hx hb dX8_cut_10 rfl ?_
  refine lv_iload_n hx hb dX8_cut_11 rfl (lv_at hl 0 rfl) ?_
  refine lv_lshr (v := (a0 <<< (x_1.toInt64 &&& 63)) >>> (x_1.toInt64 &&& 63)) hx hb dX8_cut_12 rfl ?_
  cases h
  exact g_lret S hr hlk hW dX8_cut_13
theorem cwX8_cut {R : Room} {s : State} {args : Array Value} {index : Nat} (hts : ∀ w ∈ lw_all, w.before args s = true) (hl : Cond.methodLink RX8 index yX8_cut ∈ lw_all) (hR : rmX8_cut.frames + 1 ≤ R.frames ∧ 8 + (4 + 11) + rmX8_cut.locals ≤ R.locals) : CallB R s args RX8 index yX8_cut cX8_cut 4 (some .long) (ws_ yX8_cut cX8_cut 4 (some .long)) rmX8_cut 0 0 2 ∧ (Cond.static yX8_cut).before args s = true := va_cwS 2 hts (lw_S hl q2029 q122 q2030) rfl rfl rfl (by decide +kernel) hR
def tw_paste_B113 (x1 : Int32) (x2 : Int32) (x3 : Int32) (x4 : Int32) (x5 : Int32) (V : g_V) (rec : Int32 → g_L → Option (g_L)) (x6 : Int32) (L : g_L) : Option (g_L) :=
  if x5 ≤ x6 then (some L) else (rdL (L 38) 240 (((60 * x1) + x2) + x6) fun x_36 => wrL L 39 60 x6 x_36 fun L_41 => nmI (x6 + 1) fun x_42 => rec x_42 L_41)
abbrev tw_paste_F113 (x1 : Int32) (x2 : Int32) (x3 : Int32) (x4 : Int32) (x5 : Int32) (V : g_V) : ((Int32 × g_L) → Option (g_L)) → (Int32 × g_L) → Option (g_L) := fun rec s => tw_paste_B113 x1 x2 x3 x4 x5 V (fun x6 L => rec (x6, L)) s.1 s.2
def tw_paste_L113 (x1 : Int32) (x2 : Int32) (x3 : Int32) (x4 : Int32) (x5 : Int32) (V : g_V) (n : Nat) (x6 : Int32) (L : g_L) : Option (g_L) := lp (tw_paste_F113 x1 x2 x3 x4 x5 V) n (x6, L)
theorem tw_paste_L113_s (x1 : Int32) (x2 : Int32) (x3 : Int32) (x4 : Int32) (x5 : Int32) (V : g_V) (n : Nat) (x6 : Int32) (L : g_L) : tw_paste_L113 x1 x2 x3 x4 x5 V (n + 1) x6 L = tw_paste_B113 x1 x2 x3 x4 x5 V (fun x6 L => tw_paste_L113 x1 x2 x3 x4 x5 V n x6 L) x6 L := lp_s (tw_paste_F113 x1 x2 x3 x4 x5 V) n (x6, L)
def tw_paste_B150 (x3 : Int32) (x4 : Int32) (x5 : Int32) (V : g_V) (rec : Int32 → g_L → Option (g_L)) (x6 : Int32) (L : g_L) : Option (g_L) :=
  if x5 ≤ x6 then (some L) else (rdL (L 39) 60 x6 fun x_48 => wrL L 38 240 (((60 * x3) + x4) + x6) x_48 fun L_53 => nmI (x6 + 1) fun x_54 => rec x_54 L_53)
abbrev tw_paste_F150 (x3 : Int32) (x4 : Int32) (x5 : Int32) (V : g_V) : ((Int32 × g_L) → Option (g_L)) → (Int32 × g_L) → Option (g_L) := fun rec s => tw_paste_B150 x3 x4 x5 V (fun x6 L => rec (x6, L)) s.1 s.2
def tw_paste_L150 (x3 : Int32) (x4 : Int32) (x5 : Int32) (V : g_V) (n : Nat) (x6 : Int32) (L : g_L) : Option (g_L) := lp (tw_paste_F150 x3 x4 x5 V) n (x6, L)
theorem tw_paste_L150_s (x3 : Int32) (x4 : Int32) (x5 : Int32) (V : g_V) (n : Nat) (x6 : Int32) (L : g_L) : tw_paste_L150 x3 x4 x5 V (n + 1) x6 L = tw_paste_B150 x3 x4 x5 V (fun x6 L => tw_paste_L150 x3 x4 x5 V n x6 L) x6 L := lp_s (tw_paste_F150 x3 x4 x5 V) n (x6, L)
def tw_paste (V0 : g_V) (L0 : g_L) (a1 : Int32) (a2 : Int32) (a3 : Int32) (a4 : Int32) (a5 : Int32) : Option (Int32 × g_L) :=
  bnd (tw_isSlot a1) (fun x_3 => if x_3 = 0 then (some ((-2), L0)) else (bnd (tw_isSlot a3) (fun x_7 => if x_7 = 0 then (some ((-2), L0)) else (rdI (V0 36) 4 a1 fun x_9 => if x_9 = (-1) then (some ((-6), L0)) else (rdI (V0 36) 4 a3 fun x_13 => if x_13 = (-1) then (some ((-6), L0)) else (rdI (V0 37) 4 a1 fun x_17 => rdI (V0 37) 4 a3 fun x_20 => if x_17 = x_20 then (if a2 < 0 then (some ((-7), L0)) else (if a4 < 0 then (some ((-7), L0)) else (if a5 < 0 then (some ((-7), L0)) else (rdI (V0 36) 4 a1 fun x_27 => if 0 < (lg_cmp (a2.toInt64 + a5.toInt64) x_27.toInt64) then (some ((-7), L0)) else (rdI (V0 36) 4 a3 fun x_31 => if (lg_cmp (a4.toInt64 + a5.toInt64) x_31.toInt64) ≤ 0 then (bnd (tw_paste_L113 a1 a2 a3 a4 a5 V0 1000 0 L0) (fun L_46 => bnd (tw_paste_L150 a3 a4 a5 V0 1000 0 L_46) (fun L_58 => some (0, L_58)))) else (some ((-7), L0))))))) else (some ((-8), L0))))))))
abbrev rmX8_paste : Room := rm_ 2 45
set_option maxHeartbeats 4000000 in
theorem metX8_paste {l : Launch} {gp : Nat → Nat} {nx : Nat} {D : va_G} {K : Nat → ClassId} {al : Nat → Nat} {V0 : g_V} {L0 : g_L} {a1 : Int32} {a2 : Int32} {a3 : Int32} {a4 : Int32} {a5 : Int32} {r : Int32} {L' : g_L} (h : tw_paste V0 L0 a1 a2 a3 a4 a5 = some (r, L')) : Met l yX8_paste (ws_ yX8_paste cX8_paste 7 (some .int)) rmX8_paste (twPc gp nx [.ref (al 0), .int a1, .int a2, .int a3, .int a4, .int a5] D K al V0 L0) (twQi r nx D K al V0 L') 0 0 (g_A al twSh) := by
  refine g_met rfl (Nat.le_of_ble_eq_true rfl) ?_
  intro p e s m below meth c ls S hr hlk hnm hl hW
  have S : CallFix p m c cX8_paste 7 s ([.ref (al 0), .int a1, .int a2, .int a3, .int a4, .int a5] : List Value).toArray lw_all RX8 := S
  have hx := S.1
  have hb := S.2.1
  have hl : lv_has ls 7 [(0, .ref (al 0)), (1, .int a1), (2, .int a2), (3, .int a3), (4, .int a4), (5, .int a5)] := hl
  have Lp113 : ∀ (x1 : Int32) (x2 : Int32) (x3 : Int32) (x4 : Int32) (x5 : Int32) (V : g_V) (n : Nat) (x6 : Int32) (L : g_L) (out : (g_L)) (H : Heap) (locs : List Loc) (ls : Array Slot), tw_paste_L113 x1 x2 x3 x4 x5 V n x6 L = some out → twW gp nx D K al s V L H locs → lv_has ls 7 [(0, .ref (al 0)), (1, .int x1), (2, .int x2), (3, .int x3), (4, .int x4), (5, .int x5), (6, .int x6)] → (∀ (oL : g_L), out = oL → ∀ (H : Heap) (locs : List Loc) (ls : Array Slot), twW gp nx D K al s V oL H locs → lv_has ls 7 [(0, .ref (al 0)), (3, .int x3), (4, .int x4), (5, .int x5)] → W p l e rmX8_paste s m ([.ref (al 0), .int a1, .int a2, .int a3, .int a4, .int a5] : List Value).toArray below meth c H locs 0 0 (MQ below (twQi r nx D K al V0 L') ([.ref (al 0), .int a1, .int a2, .int a3, .int a4, .int a5] : List Value).toArray s 0 0 (g_A al twSh)) (F0 m 147 ls [])) → W p l e rmX8_paste s m ([.ref (al 0), .int a1, .int a2, .int a3, .int a4, .int a5] : List Value).toArray below meth c H locs 0 0 (MQ below (twQi r nx D K al V0 L') ([.ref (al 0), .int a1, .int a2, .int a3, .int a4, .int a5] : List Value).toArray s 0 0 (g_A al twSh)) (F0 m 113 ls []) := by
    intro x1 x2 x3 x4 x5 V n
    induction n with
    | zero =>
      intro x6 L out H locs ls h
      exact (lp_0 h).elim
    | succ n ih =>
      intro x6 L out H locs ls h hW hl k1
      rw [tw_paste_L113_s] at h
      unfold tw_paste_B113 at h
      refine lv_iload hx hb dX8_paste_113 (lv_at hl 6 rfl) ?_
      refine lv_iload hx hb dX8_paste_115 (lv_at hl 5 rfl) ?_
      refine lv_icmp_ge (tgt := 147) hx hb dX8_paste_117 (by decide) (fun c_35 => ?_) (fun c_35 => ?_)
      · have h := if_t h c_35
        exact k1 _ (Option.some.inj h).symm _ _ _ hW (lv_sub hl [0, 3, 4, 5] rfl)
      · have h := if_f h c_35
        refine lv_aload_n hx hb dX8_paste_120 rfl (lv_at hl 0 rfl) ?_
        refine tw_ref S hW 39 39 (by decide) rfl q1538 rfl dX8_paste_121 ?_
        refine lv_iload hx hb dX8_paste_124 (lv_at hl 6 rfl) ?_
        refine lv_aload_n hx hb dX8_paste_126 rfl (lv_at hl 0 rfl) ?_
        refine tw_ref S hW 38 38 (by decide) rfl q1537 rfl dX8_paste_127 ?_
        refine lv_bipush (v := 60) hx hb dX8_paste_130 (by decide) ?_
        refine lv_iload_n hx hb dX8_paste_132 rfl (lv_at hl 1 rfl) ?_
        refine lv_imul hx hb dX8_paste_133 ?_
        refine lv_iload_n hx hb dX8_paste_134 rfl (lv_at hl 2 rfl) ?_
        refine lv_iadd hx hb dX8_paste_135 ?_
        refine lv_iload hx hb dX8_paste_136 (lv_at hl 6 rfl) ?_
        refine lv_iadd hx hb dX8_paste_138 ?_
        obtain ⟨h_37, x_36, e_38, h⟩ := rdL_some h
        refine g_lald S hW (k := 38) rfl rfl h_37 e_38 dX8_paste_139 ?_
        obtain ⟨h_39, L_41, e_40, h⟩ := wrL_some h
        refine g_last S hW (k := 39) rfl rfl h_39 e_40 dX8_paste_140 (fun H locs hW => ?_)
        obtain ⟨x_42, e_43, h⟩ := nmI_some h
        refine lv_iinc (v := x_42) (lv' := [(6, .int x_42), (0, .ref (al 0)), (1, .int x1), (2, .int x2), (3, .int x3), (4, .int x4), (5, .int x5)]) hx hb dX8_paste_141 hl (k := 6) rfl (by rw [e_43]; rfl) (by decide) rfl (fun ls hl => ?_)
        refine lv_goto (tgt := 113) hx hb dX8_paste_144 (by decide) ?_
        exact ih x_42 L_41 out _ _ _ h hW (lv_sub hl [1, 2, 3, 4, 5, 6, 0] rfl) k1
  have Lp150 : ∀ (x3 : Int32) (x4 : Int32) (x5 : Int32) (V : g_V) (n : Nat) (x6 : Int32) (L : g_L) (out : (g_L)) (H : Heap) (locs : List Loc) (ls : Array Slot), tw_paste_L150 x3 x4 x5 V n x6 L = some out → twW gp nx D K al s V L H locs → lv_has ls 7 [(0, .ref (al 0)), (3, .int x3), (4, .int x4), (5, .int x5), (6, .int x6)] → (∀ (oL : g_L), out = oL → ∀ (H : Heap) (locs : List Loc) (ls : Array Slot), twW gp nx D K al s V oL H locs → lv_has ls 7 [] → W p l e rmX8_paste s m ([.ref (al 0), .int a1, .int a2, .int a3, .int a4, .int a5] : List Value).toArray below meth c H locs 0 0 (MQ below (twQi r nx D K al V0 L') ([.ref (al 0), .int a1, .int a2, .int a3, .int a4, .int a5] : List Value).toArray s 0 0 (g_A al twSh)) (F0 m 185 ls [])) → W p l e rmX8_paste s m ([.ref (al 0), .int a1, .int a2, .int a3, .int a4, .int a5] : List Value).toArray below meth c H locs 0 0 (MQ below (twQi r nx D K al V0 L') ([.ref (al 0), .int a1, .int a2, .int a3, .int a4, .int a5] : List Value).toArray s 0 0 (g_A al twSh)) (F0 m 150 ls []) := by
    intro x3 x4 x5 V n
    induction n with
    | zero =>
      intro x6 L out H locs ls h
      exact (lp_0 h).elim
    | succ n ih =>
      intro x6 L out H locs ls h hW hl k1
      rw [tw_paste_L150_s] at h
      unfold tw_paste_B150 at h
      refine lv_iload hx hb dX8_paste_150 (lv_at hl 4 rfl) ?_
      refine lv_iload hx hb dX8_paste_152 (lv_at hl 3 rfl) ?_
      refine lv_icmp_ge (tgt := 185) hx hb dX8_paste_154 (by decide) (fun c_47 => ?_) (fun c_47 => ?_)
      · have h := if_t h c_47
        exact k1 _ (Option.some.inj h).symm _ _ _ hW (lv_sub hl [] rfl)
      · have h := if_f h c_47
        refine lv_aload_n hx hb dX8_paste_157 rfl (lv_at hl 0 rfl) ?_
        refine tw_ref S hW 38 38 (by decide) rfl q1537 rfl dX8_paste_158 ?_
        refine lv_bipush (v := 60) hx hb dX8_paste_161 (by decide) ?_
        refine lv_iload_n hx hb dX8_paste_163 rfl (lv_at hl 1 rfl) ?_
        refine lv_imul hx hb dX8_paste_164 ?_
        refine lv_iload hx hb dX8_paste_165 (lv_at hl 2 rfl) ?_
        refine lv_iadd hx hb dX8_paste_167 ?_
        refine lv_iload hx hb dX8_paste_168 (lv_at hl 4 rfl) ?_
        refine lv_iadd hx hb dX8_paste_170 ?_
        refine lv_aload_n hx hb dX8_paste_171 rfl (lv_at hl 0 rfl) ?_
        refine tw_ref S hW 39 39 (by decide) rfl q1538 rfl dX8_paste_172 ?_
        refine lv_iload hx hb dX8_paste_175 (lv_at hl 4 rfl) ?_
        obtain ⟨h_49, x_48, e_50, h⟩ := rdL_some h
        refine g_lald S hW (k := 39) rfl rfl h_49 e_50 dX8_paste_177 ?_
        obtain ⟨h_51, L_53, e_52, h⟩ := wrL_some h
        refine g_last S hW (k := 38) rfl rfl h_51 e_52 dX8_paste_178 (fun H locs hW => ?_)
        obtain ⟨x_54, e_55, h⟩ := nmI_some h
        refine lv_iinc (v := x_54) (lv' := [(6, .int x_54), (0, .ref (al 0)), (3, .int x3), (4, .int x4), (5, .int x5)]) hx hb dX8_paste_179 hl (k := 4) rfl (by rw [e_55]; rfl) (by decide) rfl (fun ls hl => ?_)
        refine lv_goto (tgt := 150) hx hb dX8_paste_182 (by decide) ?_
        exact ih x_54 L_53 out _ _ _ h hW (lv_sub hl [1, 2, 3, 4, 0] rfl) k1
  unfold tw_paste at h
  refine lv_iload_n hx hb dX8_paste_0 rfl (lv_at hl 1 rfl) ?_
  obtain ⟨x_3, h_1, h⟩ := bnd_some h
  refine g_callSi (As := [.int a1]) (rest := []) S hW (metX8_isSlot h_1) (cwX8_isSlot S.2.2.2.2 q1973 ⟨Nat.le_of_ble_eq_true rfl, Nat.le_of_ble_eq_true rfl⟩) rfl hl.1 rfl (Nat.le_of_ble_eq_true rfl) dX8_paste_1 ⟨Nat.le_refl _, Nat.le_refl _⟩ (fun H locs hW => ?_)
  refine lv_if_eq (tgt := 14) hx hb dX8_paste_4 (by decide) (fun c_4 => ?_) (fun c_4 => ?_)
  · have h := if_t h c_4
    refine lv_bipush (v := (-2)) hx hb dX8_paste_14 (by decide) ?_
    cases h
    exact g_iret S hr hlk hW dX8_paste_16
  · have h := if_f h c_4
    refine lv_iload_n hx hb dX8_paste_7 rfl (lv_at hl 3 rfl) ?_
    obtain ⟨x_7, h_5, h⟩ := bnd_some h
    refine g_callSi (As := [.int a3]) (rest := []) S hW (metX8_isSlot h_5) (cwX8_isSlot S.2.2.2.2 q1973 ⟨Nat.le_of_ble_eq_true rfl, Nat.le_of_ble_eq_true rfl⟩) rfl hl.1 rfl (Nat.le_of_ble_eq_true rfl) dX8_paste_8 ⟨Nat.le_refl _, Nat.le_refl _⟩ (fun H locs hW => ?_)
    refine lv_if_ne (tgt := 17) hx hb dX8_paste_11 (by decide) (fun c_8 => ?_) (fun c_8 => ?_)
    · have h := if_f h c_8
      refine lv_aload_n hx hb dX8_paste_17 rfl (lv_at hl 0 rfl) ?_
      refine tw_ref S hW 36 36 (by decide) rfl q1535 rfl dX8_paste_18 ?_
      refine lv_iload_n hx hb dX8_paste_21 rfl (lv_at hl 1 rfl) ?_
      obtain ⟨h_10, x_9, e_11, h⟩ := rdI_some h
      refine g_iald S hW (k := 36) rfl rfl h_10 e_11 dX8_paste_22 ?_
      refine lv_iconst (v := (-1)) hx hb dX8_paste_23 (by decide) ?_
      refine lv_icmp_eq (tgt := 37) hx hb dX8_paste_24 (by decide) (fun c_12 => ?_) (fun c_12 => ?_)
      · have h := if_t h c_12
        refine lv_bipush (v := (-6)) hx hb dX8_paste_37 (by decide) ?_
        cases h
        exact g_iret S hr hlk hW dX8_paste_39
      · have h := if_f h c_12
        refine lv_aload_n hx hb dX8_paste_27 rfl (lv_at hl 0 rfl) ?_
        refine tw_ref S hW 36 36 (by decide) rfl q1535 rfl dX8_paste_28 ?_
        refine lv_iload_n hx hb dX8_paste_31 rfl (lv_at hl 3 rfl) ?_
        obtain ⟨h_14, x_13, e_15, h⟩ := rdI_some h
        refine g_iald S hW (k := 36) rfl rfl h_14 e_15 dX8_paste_32 ?_
        refine lv_iconst (v := (-1)) hx hb dX8_paste_33 (by decide) ?_
        refine lv_icmp_ne (tgt := 40) hx hb dX8_paste_34 (by decide) (fun c_16 => ?_) (fun c_16 => ?_)
        · have h := if_f h c_16
          refine lv_aload_n hx hb dX8_paste_40 rfl (lv_at hl 0 rfl) ?_
          refine tw_ref S hW 37 37 (by decide) rfl q1536 rfl dX8_paste_41 ?_
          refine lv_iload_n hx hb dX8_paste_44 rfl (lv_at hl 1 rfl) ?_
          obtain ⟨h_18, x_17, e_19, h⟩ := rdI_some h
          refine g_iald S hW (k := 37) rfl rfl h_18 e_19 dX8_paste_45 ?_
          refine lv_aload_n hx hb dX8_paste_46 rfl (lv_at hl 0 rfl) ?_
          refine tw_ref S hW 37 37 (by decide) rfl q1536 rfl dX8_paste_47 ?_
          refine lv_iload_n hx hb dX8_paste_50 rfl (lv_at hl 3 rfl) ?_
          obtain ⟨h_21, x_20, e_22, h⟩ := rdI_some h
          refine g_iald S hW (k := 37) rfl rfl h_21 e_22 dX8_paste_51 ?_
          refine lv_icmp_eq (tgt := 58) hx hb dX8_paste_52 (by decide) (fun c_23 => ?_) (fun c_23 => ?_)
          · have h := if_t h c_23
            refine lv_iload_n hx hb dX8_paste_58 rfl (lv_at hl 2 rfl) ?_
            refine lv_if_lt (tgt := 107) hx hb dX8_paste_59 (by decide) (fun c_24 => ?_) (fun c_24 => ?_)
            · have h := if_t h c_24
              refine lv_bipush (v := (-7)) hx hb dX8_paste_107 (by decide) ?_
              cases h
              exact g_iret S hr hlk hW dX8_paste_109
            · have h := if_f h c_24
              refine lv_iload hx hb dX8_paste_62 (lv_at hl 4 rfl) ?_
              refine lv_if_lt (tgt := 107) hx hb dX8_paste_64 (by decide) (fun c_25 => ?_) (fun c_25 => ?_)
              · have h := if_t h c_25
                refine lv_bipush (v := (-7)) hx hb dX8_paste_107 (by decide) ?_
                cases h
                exact g_iret S hr hlk hW dX8_paste_109
              · have h := if_f h c_25
                refine lv_iload hx hb dX8_paste_67 (lv_at hl 5 rfl) ?_
                refine lv_if_lt (tgt := 107) hx hb dX8_paste_69 (by decide) (fun c_26 => ?_) (fun c_26 => ?_)
                · have h := if_t h c_26
                  refine lv_bipush (v := (-7)) hx hb dX8_paste_107 (by decide) ?_
                  cases h
                  exact g_iret S hr hlk hW dX8_paste_109
                · have h := if_f h c_26
                  refine lv_iload_n hx hb dX8_paste_72 rfl (lv_at hl 2 rfl) ?_
                  refine lv_i2l (v := a2.toInt64) hx hb dX8_paste_73 rfl ?_
                  refine lv_iload hx hb dX8_paste_74 (lv_at hl 5 rfl) ?_
                  refine lv_i2l (v := a5.toInt64) hx hb dX8_paste_76 rfl ?_
                  refine lv_ladd hx hb dX8_paste_77 ?_
                  refine lv_aload_n hx hb dX8_paste_78 rfl (lv_at hl 0 rfl) ?_
                  refine tw_ref S hW 36 36 (by decide) rfl q1535 rfl dX8_paste_79 ?_
                  refine lv_iload_n hx hb dX8_paste_82 rfl (lv_at hl 1 rfl) ?_
                  obtain ⟨h_28, x_27, e_29, h⟩ := rdI_some h
                  refine g_iald S hW (k := 36) rfl rfl h_28 e_29 dX8_paste_83 ?_
                  refine lv_i2l (v := x_27.toInt64) hx hb dX8_paste_84 rfl ?_
                  refine W.lcmp hx hb dX8_paste_85 ?_
                  refine lv_if_gt (tgt := 107) hx hb dX8_paste_86 (by decide) (fun c_30 => ?_) (fun c_30 => ?_)
                  · have h := if_t h c_30
                    refine lv_bipush (v := (-7)) hx hb dX8_paste_107 (by decide) ?_
                    cases h
                    exact g_iret S hr hlk hW dX8_paste_109
                  · have h := if_f h c_30
                    refine lv_iload hx hb dX8_paste_89 (lv_at hl 4 rfl) ?_
                    refine lv_i2l (v := a4.toInt64) hx hb dX8_paste_91 rfl ?_
                    refine lv_iload hx hb dX8_paste_92 (lv_at hl 5 rfl) ?_
                    refine lv_i2l (v := a5.toInt64) hx hb dX8_paste_94 rfl ?_
                    refine lv_ladd hx hb dX8_paste_95 ?_
                    refine lv_aload_n hx hb dX8_paste_96 rfl (lv_at hl 0 rfl) ?_
                    refine tw_ref S hW 36 36 (by decide) rfl q1535 rfl dX8_paste_97 ?_
                    refine lv_iload_n hx hb dX8_paste_100 rfl (lv_at hl 3 rfl) ?_
                    obtain ⟨h_32, x_31, e_33, h⟩ := rdI_some h
                    refine g_iald S hW (k := 36) rfl rfl h_32 e_33 dX8_paste_101 ?_
                    refine lv_i2l (v := x_31.toInt64) hx hb dX8_paste_102 rfl ?_
                    refine W.lcmp hx hb dX8_paste_103 ?_
                    refine lv_if_le (tgt := 110) hx hb dX8_paste_104 (by decide) (fun c_34 => ?_) (fun c_34 => ?_)
                    · have h := if_t h c_34
                      refine lv_iconst (v := 0) hx hb dX8_paste_110 (by decide) ?_
                      refine lv_istore (lv' := [(6, .int 0), (0, .ref (al 0)), (1, .int a1), (2, .int a2), (3, .int a3), (4, .int a4), (5, .int a5)]) hx hb dX8_paste_111 hl (by decide) rfl (fun ls hl => ?_)
                      obtain ⟨L_46, h_45, h⟩ := bnd_some h
                      refine Lp113 a1 a2 a3 a4 a5 V0 1000 0 L0  _ _ _ _ h_45 hW (lv_sub hl [1, 2, 3, 4, 5, 6, 0] rfl) ?_
                      intro w0 eo H locs ls hW hl
                      subst eo
                      refine lv_iconst (v := 0) hx hb dX8_paste_147 (by decide) ?_
                      refine lv_istore (lv' := [(6, .int 0), (0, .ref (al 0)), (3, .int a3), (4, .int a4), (5, .int a5)]) hx hb dX8_paste_148 hl (by decide) rfl (fun ls hl => ?_)
                      obtain ⟨L_58, h_57, h⟩ := bnd_some h
                      refine Lp150 a3 a4 a5 V0 1000 0 L_46  _ _ _ _ h_57 hW (lv_sub hl [1, 2, 3, 4, 0] rfl) ?_
                      intro w0 eo H locs ls hW hl
                      subst eo
                      refine lv_iconst (v := 0) hx hb dX8_paste_185 (by decide) ?_
                      cases h
                      exact g_iret S hr hlk hW dX8_paste_186
                    · have h := if_f h c_34
                      refine lv_bipush (v := (-7)) hx hb dX8_paste_107 (by decide) ?_
                      cases h
                      exact g_iret S hr hlk hW dX8_paste_109
          · have h := if_f h c_23
            refine lv_bipush (v := (-8)) hx hb dX8_paste_55 (by decide) ?_
            cases h
            exact g_iret S hr hlk hW dX8_paste_57
        · have h := if_t h c_16
          refine lv_bipush (v := (-6)) hx hb dX8_paste_37 (by decide) ?_
          cases h
          exact g_iret S hr hlk hW dX8_paste_39
    · have h := if_t h c_8
      refine lv_bipush (v := (-2)) hx hb dX8_paste_14 (by decide) ?_
      cases h
      exact g_iret S hr hlk hW dX8_paste_16
theorem cwX8_paste {R : Room} {s : State} {args : Array Value} {index : Nat} (hts : ∀ w ∈ lw_all, w.before args s = true) (hl : Cond.methodLink RX8 index yX8_paste ∈ lw_all) (hR : rmX8_paste.frames + 1 ≤ R.frames ∧ 8 + (7 + 11) + rmX8_paste.locals ≤ R.locals) : CallW R s args RX8 RX8 index yX8_paste cX8_paste 7 (some .int) (ws_ yX8_paste cX8_paste 7 (some .int)) rmX8_paste 0 0 5 := cwV 5 hts (lw_V hl q2032 q2033 q122 q2034) rfl rfl rfl (by decide +kernel) hR
def tw_plain_B2 (j : Nat) (rec : Int32 → g_V → Option (g_V)) (x1 : Int32) (V : g_V) : Option (g_V) :=
  if 810 ≤ x1 then (some V) else (wrI V j 810 x1 0 fun V_4 => nmI (x1 + 1) fun x_5 => rec x_5 V_4)
abbrev tw_plain_F2 (j : Nat) : ((Int32 × g_V) → Option (g_V)) → (Int32 × g_V) → Option (g_V) := fun rec s => tw_plain_B2 j (fun x1 V => rec (x1, V)) s.1 s.2
def tw_plain_L2 (j : Nat) (n : Nat) (x1 : Int32) (V : g_V) : Option (g_V) := lp (tw_plain_F2 j) n (x1, V)
theorem tw_plain_L2_s (j : Nat) (n : Nat) (x1 : Int32) (V : g_V) : tw_plain_L2 j (n + 1) x1 V = tw_plain_B2 j (fun x1 V => tw_plain_L2 j n x1 V) x1 V := lp_s (tw_plain_F2 j) n (x1, V)
def tw_plain_B32 (j : Nat) (rec : Int32 → g_V → Option (g_V)) (x1 : Int32) (V : g_V) : Option (g_V) :=
  if 4 ≤ x1 then (some V) else (bnd (tw_groundAtFirst j V (20 + (4 * x1))) (fun V_19 => nmI (x1 + 1) fun x_20 => rec x_20 V_19))
abbrev tw_plain_F32 (j : Nat) : ((Int32 × g_V) → Option (g_V)) → (Int32 × g_V) → Option (g_V) := fun rec s => tw_plain_B32 j (fun x1 V => rec (x1, V)) s.1 s.2
def tw_plain_L32 (j : Nat) (n : Nat) (x1 : Int32) (V : g_V) : Option (g_V) := lp (tw_plain_F32 j) n (x1, V)
theorem tw_plain_L32_s (j : Nat) (n : Nat) (x1 : Int32) (V : g_V) : tw_plain_L32 j (n + 1) x1 V = tw_plain_B32 j (fun x1 V => tw_plain_L32 j n x1 V) x1 V := lp_s (tw_plain_F32 j) n (x1, V)
def tw_plain (j : Nat) (V0 : g_V) : Option (g_V) :=
  bnd (tw_plain_L2 j 1000 0 V0) (fun V_9 => wrI V_9 j 810 5 100 fun V_12 => wrI V_12 j 810 6 99999 fun V_15 => bnd (tw_plain_L32 j 1000 0 V_15) (fun V_24 => some V_24))
abbrev rmX8_plain : Room := rm_ 1 21
set_option maxHeartbeats 4000000 in
theorem metX8_plain {l : Launch} {gp : Nat → Nat} {nx : Nat} {D : va_G} {K : Nat → ClassId} {al : Nat → Nat} {j : Nat} {V0 : g_V} {L0 : g_L} {V' : g_V} (hj : twSh j = some (.inl (0, 810))) (h : tw_plain j V0 = some V') : Met l yX8_plain (ws_ yX8_plain cX8_plain 2 (none)) rmX8_plain (twPc gp nx [.ref (al j)] D K al V0 L0) (twQv nx D K al V' L0) 0 0 (g_A al twSh) := by
  refine g_met rfl (Nat.le_of_ble_eq_true rfl) ?_
  intro p e s m below meth c ls S hr hlk hnm hl hW
  have S : CallFix p m c cX8_plain 2 s ([.ref (al j)] : List Value).toArray lw_all RX8 := S
  have hx := S.1
  have hb := S.2.1
  have hl : lv_has ls 2 [(0, .ref (al j))] := hl
  have Lp2 : ∀ (L : g_L) (n : Nat) (x1 : Int32) (V : g_V) (out : (g_V)) (H : Heap) (locs : List Loc) (ls : Array Slot), tw_plain_L2 j n x1 V = some out → twW gp nx D K al s V L H locs → lv_has ls 2 [(0, .ref (al j)), (1, .int x1)] → (∀ (oV : g_V), out = oV → ∀ (H : Heap) (locs : List Loc) (ls : Array Slot), twW gp nx D K al s oV L H locs → lv_has ls 2 [(0, .ref (al j))] → W p l e rmX8_plain s m ([.ref (al j)] : List Value).toArray below meth c H locs 0 0 (MQ below (twQv nx D K al V' L0) ([.ref (al j)] : List Value).toArray s 0 0 (g_A al twSh)) (F0 m 19 ls [])) → W p l e rmX8_plain s m ([.ref (al j)] : List Value).toArray below meth c H locs 0 0 (MQ below (twQv nx D K al V' L0) ([.ref (al j)] : List Value).toArray s 0 0 (g_A al twSh)) (F0 m 2 ls []) := by
    intro L n
    induction n with
    | zero =>
      intro x1 V out H locs ls h
      exact (lp_0 h).elim
    | succ n ih =>
      intro x1 V out H locs ls h hW hl k1
      rw [tw_plain_L2_s] at h
      unfold tw_plain_B2 at h
      refine lv_iload_n hx hb dX8_plain_2 rfl (lv_at hl 1 rfl) ?_
      refine lv_sipush (v := 810) hx hb dX8_plain_3 (by decide) ?_
      refine lv_icmp_ge (tgt := 19) hx hb dX8_plain_6 (by decide) (fun c_1 => ?_) (fun c_1 => ?_)
      · have h := if_t h c_1
        exact k1 _ (Option.some.inj h).symm _ _ _ hW (lv_sub hl [0] rfl)
      · have h := if_f h c_1
        refine lv_aload_n hx hb dX8_plain_9 rfl (lv_at hl 0 rfl) ?_
        refine lv_iload_n hx hb dX8_plain_10 rfl (lv_at hl 1 rfl) ?_
        refine lv_iconst (v := 0) hx hb dX8_plain_11 (by decide) ?_
        obtain ⟨h_2, V_4, e_3, h⟩ := wrI_some h
        refine g_iast S hW (k := j) hj rfl h_2 e_3 dX8_plain_12 (fun H locs hW => ?_)
        obtain ⟨x_5, e_6, h⟩ := nmI_some h
        refine lv_iinc (v := x_5) (lv' := [(1, .int x_5), (0, .ref (al j))]) hx hb dX8_plain_13 hl (k := 1) rfl (by rw [e_6]; rfl) (by decide) rfl (fun ls hl => ?_)
        refine lv_goto (tgt := 2) hx hb dX8_plain_16 (by decide) ?_
        exact ih x_5 V_4 out _ _ _ h hW (lv_sub hl [1, 0] rfl) k1
  have Lp32 : ∀ (L : g_L) (n : Nat) (x1 : Int32) (V : g_V) (out : (g_V)) (H : Heap) (locs : List Loc) (ls : Array Slot), tw_plain_L32 j n x1 V = some out → twW gp nx D K al s V L H locs → lv_has ls 2 [(0, .ref (al j)), (1, .int x1)] → (∀ (oV : g_V), out = oV → ∀ (H : Heap) (locs : List Loc) (ls : Array Slot), twW gp nx D K al s oV L H locs → lv_has ls 2 [] → W p l e rmX8_plain s m ([.ref (al j)] : List Value).toArray below meth c H locs 0 0 (MQ below (twQv nx D K al V' L0) ([.ref (al j)] : List Value).toArray s 0 0 (g_A al twSh)) (F0 m 53 ls [])) → W p l e rmX8_plain s m ([.ref (al j)] : List Value).toArray below meth c H locs 0 0 (MQ below (twQv nx D K al V' L0) ([.ref (al j)] : List Value).toArray s 0 0 (g_A al twSh)) (F0 m 32 ls []) := by
    intro L n
    induction n with
    | zero =>
      intro x1 V out H locs ls h
      exact (lp_0 h).elim
    | succ n ih =>
      intro x1 V out H locs ls h hW hl k1
      rw [tw_plain_L32_s] at h
      unfold tw_plain_B32 at h
      refine lv_iload_n hx hb dX8_plain_32 rfl (lv_at hl 1 rfl) ?_
      refine lv_iconst (v := 4) hx hb dX8_plain_33 (by decide) ?_
      refine lv_icmp_ge (tgt := 53) hx hb dX8_plain_34 (by decide) (fun c_16 => ?_) (fun c_16 => ?_)
      · have h := if_t h c_16
        exact k1 _ (Option.some.inj h).symm _ _ _ hW (lv_sub hl [] rfl)
      · have h := if_f h c_16
        refine lv_aload_n hx hb dX8_plain_37 rfl (lv_at hl 0 rfl) ?_
        refine lv_bipush (v := 20) hx hb dX8_plain_38 (by decide) ?_
        refine lv_iconst (v := 4) hx hb dX8_plain_40 (by decide) ?_
        refine lv_iload_n hx hb dX8_plain_41 rfl (lv_at hl 1 rfl) ?_
        refine lv_imul hx hb dX8_plain_42 ?_
        refine lv_iadd hx hb dX8_plain_43 ?_
        obtain ⟨V_19, h_17, h⟩ := bnd_some h
        refine g_callSv (As := [.ref (al j), .int (20 + (4 * x1))]) (rest := []) S hW (metX8_groundAtFirst hj h_17) (cwX8_groundAtFirst S.2.2.2.2 q1489 ⟨Nat.le_of_ble_eq_true rfl, Nat.le_of_ble_eq_true rfl⟩) rfl hl.1 rfl (Nat.le_of_ble_eq_true rfl) dX8_plain_44 ⟨Nat.le_refl _, Nat.le_refl _⟩ (fun H locs hW => ?_)
        obtain ⟨x_20, e_21, h⟩ := nmI_some h
        refine lv_iinc (v := x_20) (lv' := [(1, .int x_20), (0, .ref (al j))]) hx hb dX8_plain_47 hl (k := 1) rfl (by rw [e_21]; rfl) (by decide) rfl (fun ls hl => ?_)
        refine lv_goto (tgt := 32) hx hb dX8_plain_50 (by decide) ?_
        exact ih x_20 V_19 out _ _ _ h hW (lv_sub hl [1, 0] rfl) k1
  unfold tw_plain at h
  refine lv_iconst (v := 0) hx hb dX8_plain_0 (by decide) ?_
  refine lv_istore_n (lv' := [(1, .int 0), (0, .ref (al j))]) hx hb dX8_plain_1 rfl hl (by decide) rfl (fun ls hl => ?_)
  obtain ⟨V_9, h_8, h⟩ := bnd_some h
  refine Lp2 L0 1000 0 V0  _ _ _ _ h_8 hW (lv_sub hl [1, 0] rfl) ?_
  intro w0 eo H locs ls hW hl
  subst eo
  refine lv_aload_n hx hb dX8_plain_19 rfl (lv_at hl 0 rfl) ?_
  refine lv_iconst (v := 5) hx hb dX8_plain_20 (by decide) ?_
  refine lv_bipush (v := 100) hx hb dX8_plain_21 (by decide) ?_
  obtain ⟨h_10, V_12, e_11, h⟩ := wrI_some h
  refine g_iast S hW (k := j) hj rfl h_10 e_11 dX8_plain_23 (fun H locs hW => ?_)
  refine lv_aload_n hx hb dX8_plain_24 rfl (lv_at hl 0 rfl) ?_
  refine lv_bipush (v := 6) hx hb dX8_plain_25 (by decide) ?_
  refine lv_ldc (v := 99999) hx hb S.2.2.2.1 (S.2.2.2.2 _ q1488) dX8_plain_27 ?_
  obtain ⟨h_13, V_15, e_14, h⟩ := wrI_some h
  refine g_iast S hW (k := j) hj rfl h_13 e_14 dX8_plain_29 (fun H locs hW => ?_)
  refine lv_iconst (v := 0) hx hb dX8_plain_30 (by decide) ?_
  refine lv_istore_n (lv' := [(1, .int 0), (0, .ref (al j))]) hx hb dX8_plain_31 rfl hl (by decide) rfl (fun ls hl => ?_)
  obtain ⟨V_24, h_23, h⟩ := bnd_some h
  refine Lp32 L0 1000 0 V_15  _ _ _ _ h_23 hW (lv_sub hl [1, 0] rfl) ?_
  intro w0 eo H locs ls hW hl
  subst eo
  cases h
  exact g_vret S hr hlk hW dX8_plain_53
theorem cwX8_plain {R : Room} {s : State} {args : Array Value} {index : Nat} (hts : ∀ w ∈ lw_all, w.before args s = true) (hl : Cond.methodLink RX8 index yX8_plain ∈ lw_all) (hR : rmX8_plain.frames + 1 ≤ R.frames ∧ 8 + (2 + 11) + rmX8_plain.locals ≤ R.locals) : CallB R s args RX8 index yX8_plain cX8_plain 2 (none) (ws_ yX8_plain cX8_plain 2 (none)) rmX8_plain 0 0 1 ∧ (Cond.static yX8_plain).before args s = true := va_cwS 1 hts (lw_S hl q1486 q122 q1487) rfl rfl rfl (by decide +kernel) hR
