/-! the law's cases (printed by gen/law.py) -/
set_option maxRecDepth 100000
set_option maxHeartbeats 4000000 in
theorem law_c21 {p : Program} {l : Launch} {e : Env} {s : State} {m : MethodId} {below : List Frame} {meth : Method} {c : Code} {H : Heap} {locs : List Loc} {cells slots : Nat} {Q : State → Prop} {gp : Nat → Nat} {ls : Array Slot} {D D2 : va_G} {K K2 : Nat → ClassId} {al : Nat → Nat} {Z : c_S} {V2 : g_V} {L2 : g_L} {x b L : Nat} {xs : Nat → Int32} {i : Int32} (S : CallFix p m c cL_law 4 s #[Value.ref b] lw_all "FrostRingLaw") (hlt : l.stackTraces = false) (hgp : gpI gp) (hX : va_X b L xs s s.heap) (hbl : b < s.heap.size) (hin : ∀ k : Int32, k ∈ ([1, 2, 3, 4, 5] : List Int32) → vp_in (i + k) L) (hl : lv_has ls 4 [(3, .int i), (2, .ref (al 0)), (1, .ref x), (0, .ref b)]) (hce : cells + 9000 ≤ 603072) (hsl : slots + 100000 ≤ 7262314) (hW : b_W gp D K D2 K2 al s Z V2 L2 H locs) (hG : G Z x V2 L2)
    (kk : ∀ (Z' : c_S) (V2' : g_V) (L2' : g_L) (H1 : Heap) (locs1 : List Loc), b_W gp D K D2 K2 al s Z' V2' L2' H1 locs1 → G Z' x V2' L2' → W p l e room_1 s m #[Value.ref b] below meth c H1 locs1 (cells + 9000) (slots + 100000) Q (F0 m 1159 ls [])) : W p l e room_1 s m #[Value.ref b] below meth c H locs cells slots Q (F0 m 717 ls []) := by
  have hx := S.1
  have hb := S.2.1
  have hbA : ¬ s.heap.size ≤ b := Nat.not_le.mpr hbl
  obtain ⟨Sh, V, L0, n⟩ := Z
  obtain ⟨ρ, mm, u, mt, qq, hG⟩ := hG
  obtain ⟨rf, hs, -⟩ := hG.gm
  refine lv_aload_n hx hb dL_law_717 rfl (lv_at hl 2 rfl) ?_
  obtain ⟨r, Z', V', hc, ht, hG'⟩ := q_foretell (gp := gp) hG 
  refine b_callC (As := []) (rest := []) S hW (metX0_foretell hc) (cwV 0 S.2.2.2.2 (lw_V q1394 q1395 q1396 q105 q1397) rfl rfl rfl (by decide +kernel) ⟨Nat.le_of_ble_eq_true rfl, Nat.le_of_ble_eq_true rfl⟩) hs rfl hl.1 rfl (Nat.le_of_ble_eq_true rfl) dL_law_718 ⟨by show _ ≤ 603072; omega, by show _ ≤ 7262314; omega⟩ (fun H locs hW => ?_)
  refine lv_aload_n hx hb dL_law_721 rfl (lv_at hl 1 rfl) ?_
  refine b_callR (As := []) (rest := [.int r]) S hW (metX8_foretell ht) (cwV 0 S.2.2.2.2 (lw_V q1953 q1954 q1955 q122 q1956) rfl rfl rfl (by decide +kernel) ⟨Nat.le_of_ble_eq_true rfl, Nat.le_of_ble_eq_true rfl⟩) rfl hl.1 rfl (Nat.le_of_ble_eq_true rfl) dL_law_722 ⟨by show _ ≤ 603072; omega, by show _ ≤ 7262314; omega⟩ (fun H locs hW => ?_)
  refine lv_icmp_eq (tgt := 1159) hx hb dL_law_725 (by decide) (fun _ => ?_) (fun z => absurd rfl z)
  exact W.widen (by omega) (by omega) (kk _ _ _ _ _ hW hG')
set_option maxHeartbeats 4000000 in
theorem law_c22 {p : Program} {l : Launch} {e : Env} {s : State} {m : MethodId} {below : List Frame} {meth : Method} {c : Code} {H : Heap} {locs : List Loc} {cells slots : Nat} {Q : State → Prop} {gp : Nat → Nat} {ls : Array Slot} {D D2 : va_G} {K K2 : Nat → ClassId} {al : Nat → Nat} {Z : c_S} {V2 : g_V} {L2 : g_L} {x b L : Nat} {xs : Nat → Int32} {i : Int32} (S : CallFix p m c cL_law 4 s #[Value.ref b] lw_all "FrostRingLaw") (hlt : l.stackTraces = false) (hgp : gpI gp) (hX : va_X b L xs s s.heap) (hbl : b < s.heap.size) (hin : ∀ k : Int32, k ∈ ([1, 2, 3, 4, 5] : List Int32) → vp_in (i + k) L) (hl : lv_has ls 4 [(3, .int i), (2, .ref (al 0)), (1, .ref x), (0, .ref b)]) (hce : cells + 9000 ≤ 603072) (hsl : slots + 100000 ≤ 7262314) (hW : b_W gp D K D2 K2 al s Z V2 L2 H locs) (hG : G Z x V2 L2)
    (kk : ∀ (Z' : c_S) (V2' : g_V) (L2' : g_L) (H1 : Heap) (locs1 : List Loc), b_W gp D K D2 K2 al s Z' V2' L2' H1 locs1 → G Z' x V2' L2' → W p l e room_1 s m #[Value.ref b] below meth c H1 locs1 (cells + 9000) (slots + 100000) Q (F0 m 1159 ls [])) : W p l e room_1 s m #[Value.ref b] below meth c H locs cells slots Q (F0 m 730 ls []) := by
  have hx := S.1
  have hb := S.2.1
  have hbA : ¬ s.heap.size ≤ b := Nat.not_le.mpr hbl
  obtain ⟨Sh, V, L0, n⟩ := Z
  obtain ⟨ρ, mm, u, mt, qq, hG⟩ := hG
  obtain ⟨rf, hs, -⟩ := hG.gm
  refine lv_aload_n hx hb dL_law_730 rfl (lv_at hl 2 rfl) ?_
  obtain ⟨r, Z', V', hc, ht, hG'⟩ := q_off (gp := gp) hG 
  refine b_callC (As := []) (rest := []) S hW (metX0_off hc) (cwV 0 S.2.2.2.2 (lw_V q1403 q1404 q1405 q105 q1406) rfl rfl rfl (by decide +kernel) ⟨Nat.le_of_ble_eq_true rfl, Nat.le_of_ble_eq_true rfl⟩) hs rfl hl.1 rfl (Nat.le_of_ble_eq_true rfl) dL_law_731 ⟨by show _ ≤ 603072; omega, by show _ ≤ 7262314; omega⟩ (fun H locs hW => ?_)
  refine lv_aload_n hx hb dL_law_734 rfl (lv_at hl 1 rfl) ?_
  refine b_callR (As := []) (rest := [.int r]) S hW (metX8_off ht) (cwV 0 S.2.2.2.2 (lw_V q1965 q1966 q1967 q122 q1968) rfl rfl rfl (by decide +kernel) ⟨Nat.le_of_ble_eq_true rfl, Nat.le_of_ble_eq_true rfl⟩) rfl hl.1 rfl (Nat.le_of_ble_eq_true rfl) dL_law_735 ⟨by show _ ≤ 603072; omega, by show _ ≤ 7262314; omega⟩ (fun H locs hW => ?_)
  refine lv_icmp_eq (tgt := 1159) hx hb dL_law_738 (by decide) (fun _ => ?_) (fun z => absurd rfl z)
  exact W.widen (by omega) (by omega) (kk _ _ _ _ _ hW hG')
set_option maxHeartbeats 4000000 in
theorem law_c23 {p : Program} {l : Launch} {e : Env} {s : State} {m : MethodId} {below : List Frame} {meth : Method} {c : Code} {H : Heap} {locs : List Loc} {cells slots : Nat} {Q : State → Prop} {gp : Nat → Nat} {ls : Array Slot} {D D2 : va_G} {K K2 : Nat → ClassId} {al : Nat → Nat} {Z : c_S} {V2 : g_V} {L2 : g_L} {x b L : Nat} {xs : Nat → Int32} {i : Int32} (S : CallFix p m c cL_law 4 s #[Value.ref b] lw_all "FrostRingLaw") (hlt : l.stackTraces = false) (hgp : gpI gp) (hX : va_X b L xs s s.heap) (hbl : b < s.heap.size) (hin : ∀ k : Int32, k ∈ ([1, 2, 3, 4, 5] : List Int32) → vp_in (i + k) L) (hl : lv_has ls 4 [(3, .int i), (2, .ref (al 0)), (1, .ref x), (0, .ref b)]) (hce : cells + 9000 ≤ 603072) (hsl : slots + 100000 ≤ 7262314) (hW : b_W gp D K D2 K2 al s Z V2 L2 H locs) (hG : G Z x V2 L2)
    (kk : ∀ (Z' : c_S) (V2' : g_V) (L2' : g_L) (H1 : Heap) (locs1 : List Loc), b_W gp D K D2 K2 al s Z' V2' L2' H1 locs1 → G Z' x V2' L2' → W p l e room_1 s m #[Value.ref b] below meth c H1 locs1 (cells + 9000) (slots + 100000) Q (F0 m 1159 ls [])) : W p l e room_1 s m #[Value.ref b] below meth c H locs cells slots Q (F0 m 743 ls []) := by
  have hx := S.1
  have hb := S.2.1
  have hbA : ¬ s.heap.size ≤ b := Nat.not_le.mpr hbl
  obtain ⟨Sh, V, L0, n⟩ := Z
  obtain ⟨ρ, mm, u, mt, qq, hG⟩ := hG
  obtain ⟨rf, hs, -⟩ := hG.gm
  refine lv_aload_n hx hb dL_law_743 rfl (lv_at hl 2 rfl) ?_
  refine lv_aload_n hx hb dL_law_744 rfl (lv_at hl 3 rfl) ?_
  refine lv_iload_n hx hb dL_law_745 rfl (lv_at hl 0 rfl) ?_
  refine lv_iconst (v := 1) hx hb dL_law_746 (by decide) ?_
  refine lv_iadd hx hb dL_law_747 ?_
  refine va_sld hx hb hX hbl hbA hW.1.1.2.2.2.1 (hin 1 (by decide)) dL_law_748 ?_
  refine lv_aload_n hx hb dL_law_749 rfl (lv_at hl 3 rfl) ?_
  refine lv_iload_n hx hb dL_law_750 rfl (lv_at hl 0 rfl) ?_
  refine lv_iconst (v := 2) hx hb dL_law_751 (by decide) ?_
  refine lv_iadd hx hb dL_law_752 ?_
  refine va_sld hx hb hX hbl hbA hW.1.1.2.2.2.1 (hin 2 (by decide)) dL_law_753 ?_
  obtain ⟨r, Z', V', hc, ht, hG'⟩ := q_more (gp := gp) hG (xs (i + 1).toNatClampNeg) (xs (i + 2).toNatClampNeg)
  refine b_callC (As := [.int (xs (i + 1).toNatClampNeg), .int (xs (i + 2).toNatClampNeg)]) (rest := []) S hW (metX0_more hc) (cwV 2 S.2.2.2.2 (lw_V q1407 q1408 q1409 q105 q1410) rfl rfl rfl (by decide +kernel) ⟨Nat.le_of_ble_eq_true rfl, Nat.le_of_ble_eq_true rfl⟩) hs rfl hl.1 rfl (Nat.le_of_ble_eq_true rfl) dL_law_754 ⟨by show _ ≤ 603072; omega, by show _ ≤ 7262314; omega⟩ (fun H locs hW => ?_)
  refine lv_aload_n hx hb dL_law_757 rfl (lv_at hl 1 rfl) ?_
  refine lv_aload_n hx hb dL_law_758 rfl (lv_at hl 3 rfl) ?_
  refine lv_iload_n hx hb dL_law_759 rfl (lv_at hl 0 rfl) ?_
  refine lv_iconst (v := 1) hx hb dL_law_760 (by decide) ?_
  refine lv_iadd hx hb dL_law_761 ?_
  refine va_sld hx hb hX hbl hbA hW.1.1.2.2.2.1 (hin 1 (by decide)) dL_law_762 ?_
  refine lv_aload_n hx hb dL_law_763 rfl (lv_at hl 3 rfl) ?_
  refine lv_iload_n hx hb dL_law_764 rfl (lv_at hl 0 rfl) ?_
  refine lv_iconst (v := 2) hx hb dL_law_765 (by decide) ?_
  refine lv_iadd hx hb dL_law_766 ?_
  refine va_sld hx hb hX hbl hbA hW.1.1.2.2.2.1 (hin 2 (by decide)) dL_law_767 ?_
  refine b_callR (As := [.int (xs (i + 1).toNatClampNeg), .int (xs (i + 2).toNatClampNeg)]) (rest := [.int r]) S hW (metX8_more ht) (cwV 2 S.2.2.2.2 (lw_V q1969 q1970 q1971 q122 q1972) rfl rfl rfl (by decide +kernel) ⟨Nat.le_of_ble_eq_true rfl, Nat.le_of_ble_eq_true rfl⟩) rfl hl.1 rfl (Nat.le_of_ble_eq_true rfl) dL_law_768 ⟨by show _ ≤ 603072; omega, by show _ ≤ 7262314; omega⟩ (fun H locs hW => ?_)
  refine lv_icmp_eq (tgt := 1159) hx hb dL_law_771 (by decide) (fun _ => ?_) (fun z => absurd rfl z)
  exact W.widen (by omega) (by omega) (kk _ _ _ _ _ hW hG')
set_option maxHeartbeats 4000000 in
theorem law_c24 {p : Program} {l : Launch} {e : Env} {s : State} {m : MethodId} {below : List Frame} {meth : Method} {c : Code} {H : Heap} {locs : List Loc} {cells slots : Nat} {Q : State → Prop} {gp : Nat → Nat} {ls : Array Slot} {D D2 : va_G} {K K2 : Nat → ClassId} {al : Nat → Nat} {Z : c_S} {V2 : g_V} {L2 : g_L} {x b L : Nat} {xs : Nat → Int32} {i : Int32} (S : CallFix p m c cL_law 4 s #[Value.ref b] lw_all "FrostRingLaw") (hlt : l.stackTraces = false) (hgp : gpI gp) (hX : va_X b L xs s s.heap) (hbl : b < s.heap.size) (hin : ∀ k : Int32, k ∈ ([1, 2, 3, 4, 5] : List Int32) → vp_in (i + k) L) (hl : lv_has ls 4 [(3, .int i), (2, .ref (al 0)), (1, .ref x), (0, .ref b)]) (hce : cells + 9000 ≤ 603072) (hsl : slots + 100000 ≤ 7262314) (hW : b_W gp D K D2 K2 al s Z V2 L2 H locs) (hG : G Z x V2 L2)
    (kk : ∀ (Z' : c_S) (V2' : g_V) (L2' : g_L) (H1 : Heap) (locs1 : List Loc), b_W gp D K D2 K2 al s Z' V2' L2' H1 locs1 → G Z' x V2' L2' → W p l e room_1 s m #[Value.ref b] below meth c H1 locs1 (cells + 9000) (slots + 100000) Q (F0 m 1159 ls [])) : W p l e room_1 s m #[Value.ref b] below meth c H locs cells slots Q (F0 m 776 ls []) := by
  have hx := S.1
  have hb := S.2.1
  have hbA : ¬ s.heap.size ≤ b := Nat.not_le.mpr hbl
  obtain ⟨Sh, V, L0, n⟩ := Z
  obtain ⟨ρ, mm, u, mt, qq, hG⟩ := hG
  obtain ⟨rf, hs, -⟩ := hG.gm
  refine lv_aload_n hx hb dL_law_776 rfl (lv_at hl 2 rfl) ?_
  obtain ⟨r, hc, ht⟩ := q_chosen hG 
  refine b_callC (As := []) (rest := []) S hW (metX0_chosen hc) (cwV 0 S.2.2.2.2 (lw_V q1441 q1442 q1443 q105 q1444) rfl rfl rfl (by decide +kernel) ⟨Nat.le_of_ble_eq_true rfl, Nat.le_of_ble_eq_true rfl⟩) hs rfl hl.1 rfl (Nat.le_of_ble_eq_true rfl) dL_law_777 ⟨by show _ ≤ 603072; omega, by show _ ≤ 7262314; omega⟩ (fun H locs hW => ?_)
  refine lv_aload_n hx hb dL_law_780 rfl (lv_at hl 1 rfl) ?_
  refine b_callR (As := []) (rest := [.int r]) S hW (metX8_chosen ht) (cwV 0 S.2.2.2.2 (lw_V q1992 q1993 q1994 q122 q1995) rfl rfl rfl (by decide +kernel) ⟨Nat.le_of_ble_eq_true rfl, Nat.le_of_ble_eq_true rfl⟩) rfl hl.1 rfl (Nat.le_of_ble_eq_true rfl) dL_law_781 ⟨by show _ ≤ 603072; omega, by show _ ≤ 7262314; omega⟩ (fun H locs hW => ?_)
  refine lv_icmp_eq (tgt := 1159) hx hb dL_law_784 (by decide) (fun _ => ?_) (fun z => absurd rfl z)
  exact W.widen (by omega) (by omega) (kk _ _ _ _ _ hW hG.g)
set_option maxHeartbeats 4000000 in
theorem law_c25 {p : Program} {l : Launch} {e : Env} {s : State} {m : MethodId} {below : List Frame} {meth : Method} {c : Code} {H : Heap} {locs : List Loc} {cells slots : Nat} {Q : State → Prop} {gp : Nat → Nat} {ls : Array Slot} {D D2 : va_G} {K K2 : Nat → ClassId} {al : Nat → Nat} {Z : c_S} {V2 : g_V} {L2 : g_L} {x b L : Nat} {xs : Nat → Int32} {i : Int32} (S : CallFix p m c cL_law 4 s #[Value.ref b] lw_all "FrostRingLaw") (hlt : l.stackTraces = false) (hgp : gpI gp) (hX : va_X b L xs s s.heap) (hbl : b < s.heap.size) (hin : ∀ k : Int32, k ∈ ([1, 2, 3, 4, 5] : List Int32) → vp_in (i + k) L) (hl : lv_has ls 4 [(3, .int i), (2, .ref (al 0)), (1, .ref x), (0, .ref b)]) (hce : cells + 9000 ≤ 603072) (hsl : slots + 100000 ≤ 7262314) (hW : b_W gp D K D2 K2 al s Z V2 L2 H locs) (hG : G Z x V2 L2)
    (kk : ∀ (Z' : c_S) (V2' : g_V) (L2' : g_L) (H1 : Heap) (locs1 : List Loc), b_W gp D K D2 K2 al s Z' V2' L2' H1 locs1 → G Z' x V2' L2' → W p l e room_1 s m #[Value.ref b] below meth c H1 locs1 (cells + 9000) (slots + 100000) Q (F0 m 1159 ls [])) : W p l e room_1 s m #[Value.ref b] below meth c H locs cells slots Q (F0 m 789 ls []) := by
  have hx := S.1
  have hb := S.2.1
  have hbA : ¬ s.heap.size ≤ b := Nat.not_le.mpr hbl
  obtain ⟨Sh, V, L0, n⟩ := Z
  obtain ⟨ρ, mm, u, mt, qq, hG⟩ := hG
  obtain ⟨rf, hs, -⟩ := hG.gm
  refine lv_aload_n hx hb dL_law_789 rfl (lv_at hl 2 rfl) ?_
  refine lv_aload_n hx hb dL_law_790 rfl (lv_at hl 3 rfl) ?_
  refine lv_iload_n hx hb dL_law_791 rfl (lv_at hl 0 rfl) ?_
  refine lv_iconst (v := 1) hx hb dL_law_792 (by decide) ?_
  refine lv_iadd hx hb dL_law_793 ?_
  refine va_sld hx hb hX hbl hbA hW.1.1.2.2.2.1 (hin 1 (by decide)) dL_law_794 ?_
  refine lv_aload_n hx hb dL_law_795 rfl (lv_at hl 3 rfl) ?_
  refine lv_iload_n hx hb dL_law_796 rfl (lv_at hl 0 rfl) ?_
  refine lv_iconst (v := 2) hx hb dL_law_797 (by decide) ?_
  refine lv_iadd hx hb dL_law_798 ?_
  refine va_sld hx hb hX hbl hbA hW.1.1.2.2.2.1 (hin 2 (by decide)) dL_law_799 ?_
  refine lv_aload_n hx hb dL_law_800 rfl (lv_at hl 3 rfl) ?_
  refine lv_iload_n hx hb dL_law_801 rfl (lv_at hl 0 rfl) ?_
  refine lv_iconst (v := 3) hx hb dL_law_802 (by decide) ?_
  refine lv_iadd hx hb dL_law_803 ?_
  refine va_sld hx hb hX hbl hbA hW.1.1.2.2.2.1 (hin 3 (by decide)) dL_law_804 ?_
  refine lv_aload_n hx hb dL_law_805 rfl (lv_at hl 3 rfl) ?_
  refine lv_iload_n hx hb dL_law_806 rfl (lv_at hl 0 rfl) ?_
  refine lv_iconst (v := 4) hx hb dL_law_807 (by decide) ?_
  refine lv_iadd hx hb dL_law_808 ?_
  refine va_sld hx hb hX hbl hbA hW.1.1.2.2.2.1 (hin 4 (by decide)) dL_law_809 ?_
  obtain ⟨r, Z', V', hc, ht, hG'⟩ := q_gauge hG (xs (i + 1).toNatClampNeg) (xs (i + 2).toNatClampNeg) (xs (i + 3).toNatClampNeg) (xs (i + 4).toNatClampNeg)
  refine b_callC (As := [.int (xs (i + 1).toNatClampNeg), .int (xs (i + 2).toNatClampNeg), .int (xs (i + 3).toNatClampNeg), .int (xs (i + 4).toNatClampNeg)]) (rest := []) S hW (metX0_gauge hc) (cwV 4 S.2.2.2.2 (lw_V q1445 q1446 q1447 q105 q1448) rfl rfl rfl (by decide +kernel) ⟨Nat.le_of_ble_eq_true rfl, Nat.le_of_ble_eq_true rfl⟩) hs rfl hl.1 rfl (Nat.le_of_ble_eq_true rfl) dL_law_810 ⟨by show _ ≤ 603072; omega, by show _ ≤ 7262314; omega⟩ (fun H locs hW => ?_)
  refine lv_aload_n hx hb dL_law_813 rfl (lv_at hl 1 rfl) ?_
  refine lv_aload_n hx hb dL_law_814 rfl (lv_at hl 3 rfl) ?_
  refine lv_iload_n hx hb dL_law_815 rfl (lv_at hl 0 rfl) ?_
  refine lv_iconst (v := 1) hx hb dL_law_816 (by decide) ?_
  refine lv_iadd hx hb dL_law_817 ?_
  refine va_sld hx hb hX hbl hbA hW.1.1.2.2.2.1 (hin 1 (by decide)) dL_law_818 ?_
  refine lv_aload_n hx hb dL_law_819 rfl (lv_at hl 3 rfl) ?_
  refine lv_iload_n hx hb dL_law_820 rfl (lv_at hl 0 rfl) ?_
  refine lv_iconst (v := 2) hx hb dL_law_821 (by decide) ?_
  refine lv_iadd hx hb dL_law_822 ?_
  refine va_sld hx hb hX hbl hbA hW.1.1.2.2.2.1 (hin 2 (by decide)) dL_law_823 ?_
  refine lv_aload_n hx hb dL_law_824 rfl (lv_at hl 3 rfl) ?_
  refine lv_iload_n hx hb dL_law_825 rfl (lv_at hl 0 rfl) ?_
  refine lv_iconst (v := 3) hx hb dL_law_826 (by decide) ?_
  refine lv_iadd hx hb dL_law_827 ?_
  refine va_sld hx hb hX hbl hbA hW.1.1.2.2.2.1 (hin 3 (by decide)) dL_law_828 ?_
  refine lv_aload_n hx hb dL_law_829 rfl (lv_at hl 3 rfl) ?_
  refine lv_iload_n hx hb dL_law_830 rfl (lv_at hl 0 rfl) ?_
  refine lv_iconst (v := 4) hx hb dL_law_831 (by decide) ?_
  refine lv_iadd hx hb dL_law_832 ?_
  refine va_sld hx hb hX hbl hbA hW.1.1.2.2.2.1 (hin 4 (by decide)) dL_law_833 ?_
  refine b_callR (As := [.int (xs (i + 1).toNatClampNeg), .int (xs (i + 2).toNatClampNeg), .int (xs (i + 3).toNatClampNeg), .int (xs (i + 4).toNatClampNeg)]) (rest := [.int r]) S hW (metX8_gauge ht) (cwV 4 S.2.2.2.2 (lw_V q1996 q1997 q1998 q122 q1999) rfl rfl rfl (by decide +kernel) ⟨Nat.le_of_ble_eq_true rfl, Nat.le_of_ble_eq_true rfl⟩) rfl hl.1 rfl (Nat.le_of_ble_eq_true rfl) dL_law_834 ⟨by show _ ≤ 603072; omega, by show _ ≤ 7262314; omega⟩ (fun H locs hW => ?_)
  refine lv_icmp_eq (tgt := 1159) hx hb dL_law_837 (by decide) (fun _ => ?_) (fun z => absurd rfl z)
  exact W.widen (by omega) (by omega) (kk _ _ _ _ _ hW hG')
set_option maxHeartbeats 4000000 in
theorem law_c26 {p : Program} {l : Launch} {e : Env} {s : State} {m : MethodId} {below : List Frame} {meth : Method} {c : Code} {H : Heap} {locs : List Loc} {cells slots : Nat} {Q : State → Prop} {gp : Nat → Nat} {ls : Array Slot} {D D2 : va_G} {K K2 : Nat → ClassId} {al : Nat → Nat} {Z : c_S} {V2 : g_V} {L2 : g_L} {x b L : Nat} {xs : Nat → Int32} {i : Int32} (S : CallFix p m c cL_law 4 s #[Value.ref b] lw_all "FrostRingLaw") (hlt : l.stackTraces = false) (hgp : gpI gp) (hX : va_X b L xs s s.heap) (hbl : b < s.heap.size) (hin : ∀ k : Int32, k ∈ ([1, 2, 3, 4, 5] : List Int32) → vp_in (i + k) L) (hl : lv_has ls 4 [(3, .int i), (2, .ref (al 0)), (1, .ref x), (0, .ref b)]) (hce : cells + 9000 ≤ 603072) (hsl : slots + 100000 ≤ 7262314) (hW : b_W gp D K D2 K2 al s Z V2 L2 H locs) (hG : G Z x V2 L2)
    (kk : ∀ (Z' : c_S) (V2' : g_V) (L2' : g_L) (H1 : Heap) (locs1 : List Loc), b_W gp D K D2 K2 al s Z' V2' L2' H1 locs1 → G Z' x V2' L2' → W p l e room_1 s m #[Value.ref b] below meth c H1 locs1 (cells + 9000) (slots + 100000) Q (F0 m 1159 ls [])) : W p l e room_1 s m #[Value.ref b] below meth c H locs cells slots Q (F0 m 842 ls []) := by
  have hx := S.1
  have hb := S.2.1
  have hbA : ¬ s.heap.size ≤ b := Nat.not_le.mpr hbl
  obtain ⟨Sh, V, L0, n⟩ := Z
  obtain ⟨ρ, mm, u, mt, qq, hG⟩ := hG
  obtain ⟨rf, hs, -⟩ := hG.gm
  refine lv_aload_n hx hb dL_law_842 rfl (lv_at hl 2 rfl) ?_
  refine lv_aload_n hx hb dL_law_843 rfl (lv_at hl 3 rfl) ?_
  refine lv_iload_n hx hb dL_law_844 rfl (lv_at hl 0 rfl) ?_
  refine lv_iconst (v := 1) hx hb dL_law_845 (by decide) ?_
  refine lv_iadd hx hb dL_law_846 ?_
  refine va_sld hx hb hX hbl hbA hW.1.1.2.2.2.1 (hin 1 (by decide)) dL_law_847 ?_
  obtain ⟨r, hc, ht⟩ := q_lies hG (xs (i + 1).toNatClampNeg)
  refine b_callC (As := [.int (xs (i + 1).toNatClampNeg)]) (rest := []) S hW (metX0_lies hc) (cwV 1 S.2.2.2.2 (lw_V q1452 q1453 q1454 q105 q1455) rfl rfl rfl (by decide +kernel) ⟨Nat.le_of_ble_eq_true rfl, Nat.le_of_ble_eq_true rfl⟩) hs rfl hl.1 rfl (Nat.le_of_ble_eq_true rfl) dL_law_848 ⟨by show _ ≤ 603072; omega, by show _ ≤ 7262314; omega⟩ (fun H locs hW => ?_)
  refine lv_aload_n hx hb dL_law_851 rfl (lv_at hl 1 rfl) ?_
  refine lv_aload_n hx hb dL_law_852 rfl (lv_at hl 3 rfl) ?_
  refine lv_iload_n hx hb dL_law_853 rfl (lv_at hl 0 rfl) ?_
  refine lv_iconst (v := 1) hx hb dL_law_854 (by decide) ?_
  refine lv_iadd hx hb dL_law_855 ?_
  refine va_sld hx hb hX hbl hbA hW.1.1.2.2.2.1 (hin 1 (by decide)) dL_law_856 ?_
  refine b_callR (As := [.int (xs (i + 1).toNatClampNeg)]) (rest := [.int r]) S hW (metX8_lies ht) (cwV 1 S.2.2.2.2 (lw_V q2003 q2004 q2005 q122 q2006) rfl rfl rfl (by decide +kernel) ⟨Nat.le_of_ble_eq_true rfl, Nat.le_of_ble_eq_true rfl⟩) rfl hl.1 rfl (Nat.le_of_ble_eq_true rfl) dL_law_857 ⟨by show _ ≤ 603072; omega, by show _ ≤ 7262314; omega⟩ (fun H locs hW => ?_)
  refine lv_icmp_eq (tgt := 1159) hx hb dL_law_860 (by decide) (fun _ => ?_) (fun z => absurd rfl z)
  exact W.widen (by omega) (by omega) (kk _ _ _ _ _ hW hG.g)
set_option maxHeartbeats 4000000 in
theorem law_c27 {p : Program} {l : Launch} {e : Env} {s : State} {m : MethodId} {below : List Frame} {meth : Method} {c : Code} {H : Heap} {locs : List Loc} {cells slots : Nat} {Q : State → Prop} {gp : Nat → Nat} {ls : Array Slot} {D D2 : va_G} {K K2 : Nat → ClassId} {al : Nat → Nat} {Z : c_S} {V2 : g_V} {L2 : g_L} {x b L : Nat} {xs : Nat → Int32} {i : Int32} (S : CallFix p m c cL_law 4 s #[Value.ref b] lw_all "FrostRingLaw") (hlt : l.stackTraces = false) (hgp : gpI gp) (hX : va_X b L xs s s.heap) (hbl : b < s.heap.size) (hin : ∀ k : Int32, k ∈ ([1, 2, 3, 4, 5] : List Int32) → vp_in (i + k) L) (hl : lv_has ls 4 [(3, .int i), (2, .ref (al 0)), (1, .ref x), (0, .ref b)]) (hce : cells + 9000 ≤ 603072) (hsl : slots + 100000 ≤ 7262314) (hW : b_W gp D K D2 K2 al s Z V2 L2 H locs) (hG : G Z x V2 L2)
    (kk : ∀ (Z' : c_S) (V2' : g_V) (L2' : g_L) (H1 : Heap) (locs1 : List Loc), b_W gp D K D2 K2 al s Z' V2' L2' H1 locs1 → G Z' x V2' L2' → W p l e room_1 s m #[Value.ref b] below meth c H1 locs1 (cells + 9000) (slots + 100000) Q (F0 m 1159 ls [])) : W p l e room_1 s m #[Value.ref b] below meth c H locs cells slots Q (F0 m 865 ls []) := by
  have hx := S.1
  have hb := S.2.1
  have hbA : ¬ s.heap.size ≤ b := Nat.not_le.mpr hbl
  obtain ⟨Sh, V, L0, n⟩ := Z
  obtain ⟨ρ, mm, u, mt, qq, hG⟩ := hG
  obtain ⟨rf, hs, -⟩ := hG.gm
  refine lv_aload_n hx hb dL_law_865 rfl (lv_at hl 2 rfl) ?_
  refine lv_aload_n hx hb dL_law_866 rfl (lv_at hl 3 rfl) ?_
  refine lv_iload_n hx hb dL_law_867 rfl (lv_at hl 0 rfl) ?_
  refine lv_iconst (v := 1) hx hb dL_law_868 (by decide) ?_
  refine lv_iadd hx hb dL_law_869 ?_
  refine va_sld hx hb hX hbl hbA hW.1.1.2.2.2.1 (hin 1 (by decide)) dL_law_870 ?_
  obtain ⟨r, hc, ht⟩ := q_most hG (xs (i + 1).toNatClampNeg)
  refine b_callC (As := [.int (xs (i + 1).toNatClampNeg)]) (rest := []) S hW (metX0_most hc) (cwV 1 S.2.2.2.2 (lw_V q1458 q1459 q1460 q105 q1461) rfl rfl rfl (by decide +kernel) ⟨Nat.le_of_ble_eq_true rfl, Nat.le_of_ble_eq_true rfl⟩) hs rfl hl.1 rfl (Nat.le_of_ble_eq_true rfl) dL_law_871 ⟨by show _ ≤ 603072; omega, by show _ ≤ 7262314; omega⟩ (fun H locs hW => ?_)
  refine lv_aload_n hx hb dL_law_874 rfl (lv_at hl 1 rfl) ?_
  refine lv_aload_n hx hb dL_law_875 rfl (lv_at hl 3 rfl) ?_
  refine lv_iload_n hx hb dL_law_876 rfl (lv_at hl 0 rfl) ?_
  refine lv_iconst (v := 1) hx hb dL_law_877 (by decide) ?_
  refine lv_iadd hx hb dL_law_878 ?_
  refine va_sld hx hb hX hbl hbA hW.1.1.2.2.2.1 (hin 1 (by decide)) dL_law_879 ?_
  refine b_callR (As := [.int (xs (i + 1).toNatClampNeg)]) (rest := [.int r]) S hW (metX8_most ht) (cwV 1 S.2.2.2.2 (lw_V q2008 q2009 q2010 q122 q2011) rfl rfl rfl (by decide +kernel) ⟨Nat.le_of_ble_eq_true rfl, Nat.le_of_ble_eq_true rfl⟩) rfl hl.1 rfl (Nat.le_of_ble_eq_true rfl) dL_law_880 ⟨by show _ ≤ 603072; omega, by show _ ≤ 7262314; omega⟩ (fun H locs hW => ?_)
  refine lv_icmp_eq (tgt := 1159) hx hb dL_law_883 (by decide) (fun _ => ?_) (fun z => absurd rfl z)
  exact W.widen (by omega) (by omega) (kk _ _ _ _ _ hW hG.g)
