/-! the law's cases (printed by gen/law.py) -/
set_option maxRecDepth 100000
set_option maxHeartbeats 4000000 in
theorem law_c14 {p : Program} {l : Launch} {e : Env} {s : State} {m : MethodId} {below : List Frame} {meth : Method} {c : Code} {H : Heap} {locs : List Loc} {cells slots : Nat} {Q : State → Prop} {gp : Nat → Nat} {ls : Array Slot} {D D2 : va_G} {K K2 : Nat → ClassId} {al : Nat → Nat} {Z : c_S} {V2 : g_V} {L2 : g_L} {x b L : Nat} {xs : Nat → Int32} {i : Int32} (S : CallFix p m c cL_law 4 s #[Value.ref b] lw_all "FrostRingLaw") (hlt : l.stackTraces = false) (hgp : gpI gp) (hX : va_X b L xs s s.heap) (hbl : b < s.heap.size) (hin : ∀ k : Int32, k ∈ ([1, 2, 3, 4, 5] : List Int32) → vp_in (i + k) L) (hl : lv_has ls 4 [(3, .int i), (2, .ref (al 0)), (1, .ref x), (0, .ref b)]) (hce : cells + 9000 ≤ 603072) (hsl : slots + 100000 ≤ 7262314) (hW : b_W gp D K D2 K2 al s Z V2 L2 H locs) (hG : G Z x V2 L2)
    (kk : ∀ (Z' : c_S) (V2' : g_V) (L2' : g_L) (H1 : Heap) (locs1 : List Loc), b_W gp D K D2 K2 al s Z' V2' L2' H1 locs1 → G Z' x V2' L2' → W p l e room_1 s m #[Value.ref b] below meth c H1 locs1 (cells + 9000) (slots + 100000) Q (F0 m 1159 ls [])) : W p l e room_1 s m #[Value.ref b] below meth c H locs cells slots Q (F0 m 566 ls []) := by
  have hx := S.1
  have hb := S.2.1
  have hbA : ¬ s.heap.size ≤ b := Nat.not_le.mpr hbl
  obtain ⟨Sh, V, L0, n⟩ := Z
  obtain ⟨ρ, mm, u, mt, qq, hG⟩ := hG
  obtain ⟨rf, hs, -⟩ := hG.gm
  refine lv_aload_n hx hb dL_law_566 rfl (lv_at hl 2 rfl) ?_
  obtain ⟨r, Z', V', hc, ht, hG'⟩ := q_thick hG 
  refine b_callC (As := []) (rest := []) S hW (metX0_thick hc) (cwV 0 S.2.2.2.2 (lw_V q1318 q1319 q1320 q105 q1321) rfl rfl rfl (by decide +kernel) ⟨Nat.le_of_ble_eq_true rfl, Nat.le_of_ble_eq_true rfl⟩) hs rfl hl.1 rfl (Nat.le_of_ble_eq_true rfl) dL_law_567 ⟨by show _ ≤ 603072; omega, by show _ ≤ 7262314; omega⟩ (fun H locs hW => ?_)
  refine lv_aload_n hx hb dL_law_570 rfl (lv_at hl 1 rfl) ?_
  refine b_callR (As := []) (rest := [.int r]) S hW (metX8_thick ht) (cwV 0 S.2.2.2.2 (lw_V q1881 q1882 q1883 q122 q1884) rfl rfl rfl (by decide +kernel) ⟨Nat.le_of_ble_eq_true rfl, Nat.le_of_ble_eq_true rfl⟩) rfl hl.1 rfl (Nat.le_of_ble_eq_true rfl) dL_law_571 ⟨by show _ ≤ 603072; omega, by show _ ≤ 7262314; omega⟩ (fun H locs hW => ?_)
  refine lv_icmp_eq (tgt := 1159) hx hb dL_law_574 (by decide) (fun _ => ?_) (fun z => absurd rfl z)
  exact W.widen (by omega) (by omega) (kk _ _ _ _ _ hW hG')
set_option maxHeartbeats 4000000 in
theorem law_c15 {p : Program} {l : Launch} {e : Env} {s : State} {m : MethodId} {below : List Frame} {meth : Method} {c : Code} {H : Heap} {locs : List Loc} {cells slots : Nat} {Q : State → Prop} {gp : Nat → Nat} {ls : Array Slot} {D D2 : va_G} {K K2 : Nat → ClassId} {al : Nat → Nat} {Z : c_S} {V2 : g_V} {L2 : g_L} {x b L : Nat} {xs : Nat → Int32} {i : Int32} (S : CallFix p m c cL_law 4 s #[Value.ref b] lw_all "FrostRingLaw") (hlt : l.stackTraces = false) (hgp : gpI gp) (hX : va_X b L xs s s.heap) (hbl : b < s.heap.size) (hin : ∀ k : Int32, k ∈ ([1, 2, 3, 4, 5] : List Int32) → vp_in (i + k) L) (hl : lv_has ls 4 [(3, .int i), (2, .ref (al 0)), (1, .ref x), (0, .ref b)]) (hce : cells + 9000 ≤ 603072) (hsl : slots + 100000 ≤ 7262314) (hW : b_W gp D K D2 K2 al s Z V2 L2 H locs) (hG : G Z x V2 L2)
    (kk : ∀ (Z' : c_S) (V2' : g_V) (L2' : g_L) (H1 : Heap) (locs1 : List Loc), b_W gp D K D2 K2 al s Z' V2' L2' H1 locs1 → G Z' x V2' L2' → W p l e room_1 s m #[Value.ref b] below meth c H1 locs1 (cells + 9000) (slots + 100000) Q (F0 m 1159 ls [])) : W p l e room_1 s m #[Value.ref b] below meth c H locs cells slots Q (F0 m 579 ls []) := by
  have hx := S.1
  have hb := S.2.1
  have hbA : ¬ s.heap.size ≤ b := Nat.not_le.mpr hbl
  obtain ⟨Sh, V, L0, n⟩ := Z
  obtain ⟨ρ, mm, u, mt, qq, hG⟩ := hG
  obtain ⟨rf, hs, -⟩ := hG.gm
  refine lv_aload_n hx hb dL_law_579 rfl (lv_at hl 2 rfl) ?_
  refine lv_aload_n hx hb dL_law_580 rfl (lv_at hl 3 rfl) ?_
  refine lv_iload_n hx hb dL_law_581 rfl (lv_at hl 0 rfl) ?_
  refine lv_iconst (v := 1) hx hb dL_law_582 (by decide) ?_
  refine lv_iadd hx hb dL_law_583 ?_
  refine va_sld hx hb hX hbl hbA hW.1.1.2.2.2.1 (hin 1 (by decide)) dL_law_584 ?_
  refine lv_aload_n hx hb dL_law_585 rfl (lv_at hl 3 rfl) ?_
  refine lv_iload_n hx hb dL_law_586 rfl (lv_at hl 0 rfl) ?_
  refine lv_iconst (v := 2) hx hb dL_law_587 (by decide) ?_
  refine lv_iadd hx hb dL_law_588 ?_
  refine va_sld hx hb hX hbl hbA hW.1.1.2.2.2.1 (hin 2 (by decide)) dL_law_589 ?_
  obtain ⟨r, Z', V', hc, ht, hG'⟩ := q_dig hG (xs (i + 1).toNatClampNeg) (xs (i + 2).toNatClampNeg)
  refine b_callC (As := [.int (xs (i + 1).toNatClampNeg), .int (xs (i + 2).toNatClampNeg)]) (rest := []) S hW (metX0_dig hc) (cwV 2 S.2.2.2.2 (lw_V q1330 q1331 q1332 q105 q1333) rfl rfl rfl (by decide +kernel) ⟨Nat.le_of_ble_eq_true rfl, Nat.le_of_ble_eq_true rfl⟩) hs rfl hl.1 rfl (Nat.le_of_ble_eq_true rfl) dL_law_590 ⟨by show _ ≤ 603072; omega, by show _ ≤ 7262314; omega⟩ (fun H locs hW => ?_)
  refine lv_aload_n hx hb dL_law_593 rfl (lv_at hl 1 rfl) ?_
  refine lv_aload_n hx hb dL_law_594 rfl (lv_at hl 3 rfl) ?_
  refine lv_iload_n hx hb dL_law_595 rfl (lv_at hl 0 rfl) ?_
  refine lv_iconst (v := 1) hx hb dL_law_596 (by decide) ?_
  refine lv_iadd hx hb dL_law_597 ?_
  refine va_sld hx hb hX hbl hbA hW.1.1.2.2.2.1 (hin 1 (by decide)) dL_law_598 ?_
  refine lv_aload_n hx hb dL_law_599 rfl (lv_at hl 3 rfl) ?_
  refine lv_iload_n hx hb dL_law_600 rfl (lv_at hl 0 rfl) ?_
  refine lv_iconst (v := 2) hx hb dL_law_601 (by decide) ?_
  refine lv_iadd hx hb dL_law_602 ?_
  refine va_sld hx hb hX hbl hbA hW.1.1.2.2.2.1 (hin 2 (by decide)) dL_law_603 ?_
  refine b_callR (As := [.int (xs (i + 1).toNatClampNeg), .int (xs (i + 2).toNatClampNeg)]) (rest := [.int r]) S hW (metX8_dig ht) (cwV 2 S.2.2.2.2 (lw_V q1928 q1929 q1930 q122 q1931) rfl rfl rfl (by decide +kernel) ⟨Nat.le_of_ble_eq_true rfl, Nat.le_of_ble_eq_true rfl⟩) rfl hl.1 rfl (Nat.le_of_ble_eq_true rfl) dL_law_604 ⟨by show _ ≤ 603072; omega, by show _ ≤ 7262314; omega⟩ (fun H locs hW => ?_)
  refine lv_icmp_eq (tgt := 1159) hx hb dL_law_607 (by decide) (fun _ => ?_) (fun z => absurd rfl z)
  exact W.widen (by omega) (by omega) (kk _ _ _ _ _ hW hG')
set_option maxHeartbeats 4000000 in
theorem law_c16 {p : Program} {l : Launch} {e : Env} {s : State} {m : MethodId} {below : List Frame} {meth : Method} {c : Code} {H : Heap} {locs : List Loc} {cells slots : Nat} {Q : State → Prop} {gp : Nat → Nat} {ls : Array Slot} {D D2 : va_G} {K K2 : Nat → ClassId} {al : Nat → Nat} {Z : c_S} {V2 : g_V} {L2 : g_L} {x b L : Nat} {xs : Nat → Int32} {i : Int32} (S : CallFix p m c cL_law 4 s #[Value.ref b] lw_all "FrostRingLaw") (hlt : l.stackTraces = false) (hgp : gpI gp) (hX : va_X b L xs s s.heap) (hbl : b < s.heap.size) (hin : ∀ k : Int32, k ∈ ([1, 2, 3, 4, 5] : List Int32) → vp_in (i + k) L) (hl : lv_has ls 4 [(3, .int i), (2, .ref (al 0)), (1, .ref x), (0, .ref b)]) (hce : cells + 9000 ≤ 603072) (hsl : slots + 100000 ≤ 7262314) (hW : b_W gp D K D2 K2 al s Z V2 L2 H locs) (hG : G Z x V2 L2)
    (kk : ∀ (Z' : c_S) (V2' : g_V) (L2' : g_L) (H1 : Heap) (locs1 : List Loc), b_W gp D K D2 K2 al s Z' V2' L2' H1 locs1 → G Z' x V2' L2' → W p l e room_1 s m #[Value.ref b] below meth c H1 locs1 (cells + 9000) (slots + 100000) Q (F0 m 1159 ls [])) : W p l e room_1 s m #[Value.ref b] below meth c H locs cells slots Q (F0 m 612 ls []) := by
  have hx := S.1
  have hb := S.2.1
  have hbA : ¬ s.heap.size ≤ b := Nat.not_le.mpr hbl
  obtain ⟨Sh, V, L0, n⟩ := Z
  obtain ⟨ρ, mm, u, mt, qq, hG⟩ := hG
  obtain ⟨rf, hs, -⟩ := hG.gm
  refine lv_aload_n hx hb dL_law_612 rfl (lv_at hl 2 rfl) ?_
  refine lv_aload_n hx hb dL_law_613 rfl (lv_at hl 3 rfl) ?_
  refine lv_iload_n hx hb dL_law_614 rfl (lv_at hl 0 rfl) ?_
  refine lv_iconst (v := 1) hx hb dL_law_615 (by decide) ?_
  refine lv_iadd hx hb dL_law_616 ?_
  refine va_sld hx hb hX hbl hbA hW.1.1.2.2.2.1 (hin 1 (by decide)) dL_law_617 ?_
  obtain ⟨r, Z', V', hc, ht, hG'⟩ := q_lacks hG (xs (i + 1).toNatClampNeg)
  refine b_callC (As := [.int (xs (i + 1).toNatClampNeg)]) (rest := []) S hW (metX0_lacks hc) (cwV 1 S.2.2.2.2 (lw_V q1373 q1374 q1375 q105 q1376) rfl rfl rfl (by decide +kernel) ⟨Nat.le_of_ble_eq_true rfl, Nat.le_of_ble_eq_true rfl⟩) hs rfl hl.1 rfl (Nat.le_of_ble_eq_true rfl) dL_law_618 ⟨by show _ ≤ 603072; omega, by show _ ≤ 7262314; omega⟩ (fun H locs hW => ?_)
  refine lv_aload_n hx hb dL_law_621 rfl (lv_at hl 1 rfl) ?_
  refine lv_aload_n hx hb dL_law_622 rfl (lv_at hl 3 rfl) ?_
  refine lv_iload_n hx hb dL_law_623 rfl (lv_at hl 0 rfl) ?_
  refine lv_iconst (v := 1) hx hb dL_law_624 (by decide) ?_
  refine lv_iadd hx hb dL_law_625 ?_
  refine va_sld hx hb hX hbl hbA hW.1.1.2.2.2.1 (hin 1 (by decide)) dL_law_626 ?_
  refine b_callR (As := [.int (xs (i + 1).toNatClampNeg)]) (rest := [.int r]) S hW (metX8_lacks ht) (cwV 1 S.2.2.2.2 (lw_V q1916 q1917 q1918 q122 q1919) rfl rfl rfl (by decide +kernel) ⟨Nat.le_of_ble_eq_true rfl, Nat.le_of_ble_eq_true rfl⟩) rfl hl.1 rfl (Nat.le_of_ble_eq_true rfl) dL_law_627 ⟨by show _ ≤ 603072; omega, by show _ ≤ 7262314; omega⟩ (fun H locs hW => ?_)
  refine lv_icmp_eq (tgt := 1159) hx hb dL_law_630 (by decide) (fun _ => ?_) (fun z => absurd rfl z)
  exact W.widen (by omega) (by omega) (kk _ _ _ _ _ hW hG')
set_option maxHeartbeats 4000000 in
theorem law_c17 {p : Program} {l : Launch} {e : Env} {s : State} {m : MethodId} {below : List Frame} {meth : Method} {c : Code} {H : Heap} {locs : List Loc} {cells slots : Nat} {Q : State → Prop} {gp : Nat → Nat} {ls : Array Slot} {D D2 : va_G} {K K2 : Nat → ClassId} {al : Nat → Nat} {Z : c_S} {V2 : g_V} {L2 : g_L} {x b L : Nat} {xs : Nat → Int32} {i : Int32} (S : CallFix p m c cL_law 4 s #[Value.ref b] lw_all "FrostRingLaw") (hlt : l.stackTraces = false) (hgp : gpI gp) (hX : va_X b L xs s s.heap) (hbl : b < s.heap.size) (hin : ∀ k : Int32, k ∈ ([1, 2, 3, 4, 5] : List Int32) → vp_in (i + k) L) (hl : lv_has ls 4 [(3, .int i), (2, .ref (al 0)), (1, .ref x), (0, .ref b)]) (hce : cells + 9000 ≤ 603072) (hsl : slots + 100000 ≤ 7262314) (hW : b_W gp D K D2 K2 al s Z V2 L2 H locs) (hG : G Z x V2 L2)
    (kk : ∀ (Z' : c_S) (V2' : g_V) (L2' : g_L) (H1 : Heap) (locs1 : List Loc), b_W gp D K D2 K2 al s Z' V2' L2' H1 locs1 → G Z' x V2' L2' → W p l e room_1 s m #[Value.ref b] below meth c H1 locs1 (cells + 9000) (slots + 100000) Q (F0 m 1159 ls [])) : W p l e room_1 s m #[Value.ref b] below meth c H locs cells slots Q (F0 m 635 ls []) := by
  have hx := S.1
  have hb := S.2.1
  have hbA : ¬ s.heap.size ≤ b := Nat.not_le.mpr hbl
  obtain ⟨Sh, V, L0, n⟩ := Z
  obtain ⟨ρ, mm, u, mt, qq, hG⟩ := hG
  obtain ⟨rf, hs, -⟩ := hG.gm
  refine lv_aload_n hx hb dL_law_635 rfl (lv_at hl 2 rfl) ?_
  obtain ⟨r, Z', V', hc, ht, hG'⟩ := q_pump hG 
  refine b_callC (As := []) (rest := []) S hW (metX0_pump hc) (cwV 0 S.2.2.2.2 (lw_V q1377 q1378 q1379 q105 q1380) rfl rfl rfl (by decide +kernel) ⟨Nat.le_of_ble_eq_true rfl, Nat.le_of_ble_eq_true rfl⟩) hs rfl hl.1 rfl (Nat.le_of_ble_eq_true rfl) dL_law_636 ⟨by show _ ≤ 603072; omega, by show _ ≤ 7262314; omega⟩ (fun H locs hW => ?_)
  refine lv_aload_n hx hb dL_law_639 rfl (lv_at hl 1 rfl) ?_
  refine b_callR (As := []) (rest := [.int r]) S hW (metX8_pump ht) (cwV 0 S.2.2.2.2 (lw_V q1937 q1938 q1939 q122 q1940) rfl rfl rfl (by decide +kernel) ⟨Nat.le_of_ble_eq_true rfl, Nat.le_of_ble_eq_true rfl⟩) rfl hl.1 rfl (Nat.le_of_ble_eq_true rfl) dL_law_640 ⟨by show _ ≤ 603072; omega, by show _ ≤ 7262314; omega⟩ (fun H locs hW => ?_)
  refine lv_icmp_eq (tgt := 1159) hx hb dL_law_643 (by decide) (fun _ => ?_) (fun z => absurd rfl z)
  exact W.widen (by omega) (by omega) (kk _ _ _ _ _ hW hG')
set_option maxHeartbeats 4000000 in
theorem law_c18 {p : Program} {l : Launch} {e : Env} {s : State} {m : MethodId} {below : List Frame} {meth : Method} {c : Code} {H : Heap} {locs : List Loc} {cells slots : Nat} {Q : State → Prop} {gp : Nat → Nat} {ls : Array Slot} {D D2 : va_G} {K K2 : Nat → ClassId} {al : Nat → Nat} {Z : c_S} {V2 : g_V} {L2 : g_L} {x b L : Nat} {xs : Nat → Int32} {i : Int32} (S : CallFix p m c cL_law 4 s #[Value.ref b] lw_all "FrostRingLaw") (hlt : l.stackTraces = false) (hgp : gpI gp) (hX : va_X b L xs s s.heap) (hbl : b < s.heap.size) (hin : ∀ k : Int32, k ∈ ([1, 2, 3, 4, 5] : List Int32) → vp_in (i + k) L) (hl : lv_has ls 4 [(3, .int i), (2, .ref (al 0)), (1, .ref x), (0, .ref b)]) (hce : cells + 9000 ≤ 603072) (hsl : slots + 100000 ≤ 7262314) (hW : b_W gp D K D2 K2 al s Z V2 L2 H locs) (hG : G Z x V2 L2)
    (kk : ∀ (Z' : c_S) (V2' : g_V) (L2' : g_L) (H1 : Heap) (locs1 : List Loc), b_W gp D K D2 K2 al s Z' V2' L2' H1 locs1 → G Z' x V2' L2' → W p l e room_1 s m #[Value.ref b] below meth c H1 locs1 (cells + 9000) (slots + 100000) Q (F0 m 1159 ls [])) : W p l e room_1 s m #[Value.ref b] below meth c H locs cells slots Q (F0 m 648 ls []) := by
  have hx := S.1
  have hb := S.2.1
  have hbA : ¬ s.heap.size ≤ b := Nat.not_le.mpr hbl
  obtain ⟨Sh, V, L0, n⟩ := Z
  obtain ⟨ρ, mm, u, mt, qq, hG⟩ := hG
  obtain ⟨rf, hs, -⟩ := hG.gm
  refine lv_aload_n hx hb dL_law_648 rfl (lv_at hl 2 rfl) ?_
  refine lv_aload_n hx hb dL_law_649 rfl (lv_at hl 3 rfl) ?_
  refine lv_iload_n hx hb dL_law_650 rfl (lv_at hl 0 rfl) ?_
  refine lv_iconst (v := 1) hx hb dL_law_651 (by decide) ?_
  refine lv_iadd hx hb dL_law_652 ?_
  refine va_sld hx hb hX hbl hbA hW.1.1.2.2.2.1 (hin 1 (by decide)) dL_law_653 ?_
  obtain ⟨r, hc, ht⟩ := q_lift hG (xs (i + 1).toNatClampNeg)
  refine b_callC (As := [.int (xs (i + 1).toNatClampNeg)]) (rest := []) S hW (metX0_lift hc) (cwV 1 S.2.2.2.2 (lw_V q1381 q1382 q1383 q105 q1384) rfl rfl rfl (by decide +kernel) ⟨Nat.le_of_ble_eq_true rfl, Nat.le_of_ble_eq_true rfl⟩) hs rfl hl.1 rfl (Nat.le_of_ble_eq_true rfl) dL_law_654 ⟨by show _ ≤ 603072; omega, by show _ ≤ 7262314; omega⟩ (fun H locs hW => ?_)
  refine lv_aload_n hx hb dL_law_657 rfl (lv_at hl 1 rfl) ?_
  refine lv_aload_n hx hb dL_law_658 rfl (lv_at hl 3 rfl) ?_
  refine lv_iload_n hx hb dL_law_659 rfl (lv_at hl 0 rfl) ?_
  refine lv_iconst (v := 1) hx hb dL_law_660 (by decide) ?_
  refine lv_iadd hx hb dL_law_661 ?_
  refine va_sld hx hb hX hbl hbA hW.1.1.2.2.2.1 (hin 1 (by decide)) dL_law_662 ?_
  refine b_callR (As := [.int (xs (i + 1).toNatClampNeg)]) (rest := [.int r]) S hW (metX8_lift ht) (cwV 1 S.2.2.2.2 (lw_V q1941 q1942 q1943 q122 q1944) rfl rfl rfl (by decide +kernel) ⟨Nat.le_of_ble_eq_true rfl, Nat.le_of_ble_eq_true rfl⟩) rfl hl.1 rfl (Nat.le_of_ble_eq_true rfl) dL_law_663 ⟨by show _ ≤ 603072; omega, by show _ ≤ 7262314; omega⟩ (fun H locs hW => ?_)
  refine lv_icmp_eq (tgt := 1159) hx hb dL_law_666 (by decide) (fun _ => ?_) (fun z => absurd rfl z)
  exact W.widen (by omega) (by omega) (kk _ _ _ _ _ hW hG.g)
set_option maxHeartbeats 4000000 in
theorem law_c19 {p : Program} {l : Launch} {e : Env} {s : State} {m : MethodId} {below : List Frame} {meth : Method} {c : Code} {H : Heap} {locs : List Loc} {cells slots : Nat} {Q : State → Prop} {gp : Nat → Nat} {ls : Array Slot} {D D2 : va_G} {K K2 : Nat → ClassId} {al : Nat → Nat} {Z : c_S} {V2 : g_V} {L2 : g_L} {x b L : Nat} {xs : Nat → Int32} {i : Int32} (S : CallFix p m c cL_law 4 s #[Value.ref b] lw_all "FrostRingLaw") (hlt : l.stackTraces = false) (hgp : gpI gp) (hX : va_X b L xs s s.heap) (hbl : b < s.heap.size) (hin : ∀ k : Int32, k ∈ ([1, 2, 3, 4, 5] : List Int32) → vp_in (i + k) L) (hl : lv_has ls 4 [(3, .int i), (2, .ref (al 0)), (1, .ref x), (0, .ref b)]) (hce : cells + 9000 ≤ 603072) (hsl : slots + 100000 ≤ 7262314) (hW : b_W gp D K D2 K2 al s Z V2 L2 H locs) (hG : G Z x V2 L2)
    (kk : ∀ (Z' : c_S) (V2' : g_V) (L2' : g_L) (H1 : Heap) (locs1 : List Loc), b_W gp D K D2 K2 al s Z' V2' L2' H1 locs1 → G Z' x V2' L2' → W p l e room_1 s m #[Value.ref b] below meth c H1 locs1 (cells + 9000) (slots + 100000) Q (F0 m 1159 ls [])) : W p l e room_1 s m #[Value.ref b] below meth c H locs cells slots Q (F0 m 671 ls []) := by
  have hx := S.1
  have hb := S.2.1
  have hbA : ¬ s.heap.size ≤ b := Nat.not_le.mpr hbl
  obtain ⟨Sh, V, L0, n⟩ := Z
  obtain ⟨ρ, mm, u, mt, qq, hG⟩ := hG
  obtain ⟨rf, hs, -⟩ := hG.gm
  refine lv_aload_n hx hb dL_law_671 rfl (lv_at hl 2 rfl) ?_
  obtain ⟨r, hc, ht⟩ := q_cracks hG 
  refine b_callC (As := []) (rest := []) S hW (metX0_cracks hc) (cwV 0 S.2.2.2.2 (lw_V q1385 q1386 q1387 q105 q1388) rfl rfl rfl (by decide +kernel) ⟨Nat.le_of_ble_eq_true rfl, Nat.le_of_ble_eq_true rfl⟩) hs rfl hl.1 rfl (Nat.le_of_ble_eq_true rfl) dL_law_672 ⟨by show _ ≤ 603072; omega, by show _ ≤ 7262314; omega⟩ (fun H locs hW => ?_)
  refine lv_aload_n hx hb dL_law_675 rfl (lv_at hl 1 rfl) ?_
  refine b_callR (As := []) (rest := [.int r]) S hW (metX8_cracks ht) (cwV 0 S.2.2.2.2 (lw_V q1945 q1946 q1947 q122 q1948) rfl rfl rfl (by decide +kernel) ⟨Nat.le_of_ble_eq_true rfl, Nat.le_of_ble_eq_true rfl⟩) rfl hl.1 rfl (Nat.le_of_ble_eq_true rfl) dL_law_676 ⟨by show _ ≤ 603072; omega, by show _ ≤ 7262314; omega⟩ (fun H locs hW => ?_)
  refine lv_icmp_eq (tgt := 1159) hx hb dL_law_679 (by decide) (fun _ => ?_) (fun z => absurd rfl z)
  exact W.widen (by omega) (by omega) (kk _ _ _ _ _ hW hG.g)
set_option maxHeartbeats 4000000 in
theorem law_c20 {p : Program} {l : Launch} {e : Env} {s : State} {m : MethodId} {below : List Frame} {meth : Method} {c : Code} {H : Heap} {locs : List Loc} {cells slots : Nat} {Q : State → Prop} {gp : Nat → Nat} {ls : Array Slot} {D D2 : va_G} {K K2 : Nat → ClassId} {al : Nat → Nat} {Z : c_S} {V2 : g_V} {L2 : g_L} {x b L : Nat} {xs : Nat → Int32} {i : Int32} (S : CallFix p m c cL_law 4 s #[Value.ref b] lw_all "FrostRingLaw") (hlt : l.stackTraces = false) (hgp : gpI gp) (hX : va_X b L xs s s.heap) (hbl : b < s.heap.size) (hin : ∀ k : Int32, k ∈ ([1, 2, 3, 4, 5] : List Int32) → vp_in (i + k) L) (hl : lv_has ls 4 [(3, .int i), (2, .ref (al 0)), (1, .ref x), (0, .ref b)]) (hce : cells + 9000 ≤ 603072) (hsl : slots + 100000 ≤ 7262314) (hW : b_W gp D K D2 K2 al s Z V2 L2 H locs) (hG : G Z x V2 L2)
    (kk : ∀ (Z' : c_S) (V2' : g_V) (L2' : g_L) (H1 : Heap) (locs1 : List Loc), b_W gp D K D2 K2 al s Z' V2' L2' H1 locs1 → G Z' x V2' L2' → W p l e room_1 s m #[Value.ref b] below meth c H1 locs1 (cells + 9000) (slots + 100000) Q (F0 m 1159 ls [])) : W p l e room_1 s m #[Value.ref b] below meth c H locs cells slots Q (F0 m 684 ls []) := by
  have hx := S.1
  have hb := S.2.1
  have hbA : ¬ s.heap.size ≤ b := Nat.not_le.mpr hbl
  obtain ⟨Sh, V, L0, n⟩ := Z
  obtain ⟨ρ, mm, u, mt, qq, hG⟩ := hG
  obtain ⟨rf, hs, -⟩ := hG.gm
  refine lv_aload_n hx hb dL_law_684 rfl (lv_at hl 2 rfl) ?_
  refine lv_aload_n hx hb dL_law_685 rfl (lv_at hl 3 rfl) ?_
  refine lv_iload_n hx hb dL_law_686 rfl (lv_at hl 0 rfl) ?_
  refine lv_iconst (v := 1) hx hb dL_law_687 (by decide) ?_
  refine lv_iadd hx hb dL_law_688 ?_
  refine va_sld hx hb hX hbl hbA hW.1.1.2.2.2.1 (hin 1 (by decide)) dL_law_689 ?_
  refine lv_aload_n hx hb dL_law_690 rfl (lv_at hl 3 rfl) ?_
  refine lv_iload_n hx hb dL_law_691 rfl (lv_at hl 0 rfl) ?_
  refine lv_iconst (v := 2) hx hb dL_law_692 (by decide) ?_
  refine lv_iadd hx hb dL_law_693 ?_
  refine va_sld hx hb hX hbl hbA hW.1.1.2.2.2.1 (hin 2 (by decide)) dL_law_694 ?_
  obtain ⟨r, hc, ht⟩ := q_house hG (xs (i + 1).toNatClampNeg) (xs (i + 2).toNatClampNeg)
  refine b_callC (As := [.int (xs (i + 1).toNatClampNeg), .int (xs (i + 2).toNatClampNeg)]) (rest := []) S hW (metX0_house hc) (cwV 2 S.2.2.2.2 (lw_V q1390 q1391 q1392 q105 q1393) rfl rfl rfl (by decide +kernel) ⟨Nat.le_of_ble_eq_true rfl, Nat.le_of_ble_eq_true rfl⟩) hs rfl hl.1 rfl (Nat.le_of_ble_eq_true rfl) dL_law_695 ⟨by show _ ≤ 603072; omega, by show _ ≤ 7262314; omega⟩ (fun H locs hW => ?_)
  refine lv_aload_n hx hb dL_law_698 rfl (lv_at hl 1 rfl) ?_
  refine lv_aload_n hx hb dL_law_699 rfl (lv_at hl 3 rfl) ?_
  refine lv_iload_n hx hb dL_law_700 rfl (lv_at hl 0 rfl) ?_
  refine lv_iconst (v := 1) hx hb dL_law_701 (by decide) ?_
  refine lv_iadd hx hb dL_law_702 ?_
  refine va_sld hx hb hX hbl hbA hW.1.1.2.2.2.1 (hin 1 (by decide)) dL_law_703 ?_
  refine lv_aload_n hx hb dL_law_704 rfl (lv_at hl 3 rfl) ?_
  refine lv_iload_n hx hb dL_law_705 rfl (lv_at hl 0 rfl) ?_
  refine lv_iconst (v := 2) hx hb dL_law_706 (by decide) ?_
  refine lv_iadd hx hb dL_law_707 ?_
  refine va_sld hx hb hX hbl hbA hW.1.1.2.2.2.1 (hin 2 (by decide)) dL_law_708 ?_
  refine b_callR (As := [.int (xs (i + 1).toNatClampNeg), .int (xs (i + 2).toNatClampNeg)]) (rest := [.int r]) S hW (metX8_house ht) (cwV 2 S.2.2.2.2 (lw_V q1949 q1950 q1951 q122 q1952) rfl rfl rfl (by decide +kernel) ⟨Nat.le_of_ble_eq_true rfl, Nat.le_of_ble_eq_true rfl⟩) rfl hl.1 rfl (Nat.le_of_ble_eq_true rfl) dL_law_709 ⟨by show _ ≤ 603072; omega, by show _ ≤ 7262314; omega⟩ (fun H locs hW => ?_)
  refine lv_icmp_eq (tgt := 1159) hx hb dL_law_712 (by decide) (fun _ => ?_) (fun z => absurd rfl z)
  exact W.widen (by omega) (by omega) (kk _ _ _ _ _ hW hG.g)
