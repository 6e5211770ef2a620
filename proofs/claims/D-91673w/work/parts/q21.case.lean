/-! the law's cases (printed by gen/law.py) -/
set_option maxRecDepth 100000
set_option maxHeartbeats 4000000 in
theorem law_c7 {p : Program} {l : Launch} {e : Env} {s : State} {m : MethodId} {below : List Frame} {meth : Method} {c : Code} {H : Heap} {locs : List Loc} {cells slots : Nat} {Q : State → Prop} {gp : Nat → Nat} {ls : Array Slot} {D D2 : va_G} {K K2 : Nat → ClassId} {al : Nat → Nat} {Z : c_S} {V2 : g_V} {L2 : g_L} {x b L : Nat} {xs : Nat → Int32} {i : Int32} (S : CallFix p m c cL_law 4 s #[Value.ref b] lw_all "FrostRingLaw") (hlt : l.stackTraces = false) (hgp : gpI gp) (hX : va_X b L xs s s.heap) (hbl : b < s.heap.size) (hin : ∀ k : Int32, k ∈ ([1, 2, 3, 4, 5] : List Int32) → vp_in (i + k) L) (hl : lv_has ls 4 [(3, .int i), (2, .ref (al 0)), (1, .ref x), (0, .ref b)]) (hce : cells + 9000 ≤ 603072) (hsl : slots + 100000 ≤ 7262314) (hW : b_W gp D K D2 K2 al s Z V2 L2 H locs) (hG : G Z x V2 L2)
    (kk : ∀ (Z' : c_S) (V2' : g_V) (L2' : g_L) (H1 : Heap) (locs1 : List Loc), b_W gp D K D2 K2 al s Z' V2' L2' H1 locs1 → G Z' x V2' L2' → W p l e room_1 s m #[Value.ref b] below meth c H1 locs1 (cells + 9000) (slots + 100000) Q (F0 m 1159 ls [])) : W p l e room_1 s m #[Value.ref b] below meth c H locs cells slots Q (F0 m 399 ls []) := by
  have hx := S.1
  have hb := S.2.1
  have hbA : ¬ s.heap.size ≤ b := Nat.not_le.mpr hbl
  obtain ⟨Sh, V, L0, n⟩ := Z
  obtain ⟨ρ, mm, u, mt, qq, hG⟩ := hG
  obtain ⟨rf, hs, -⟩ := hG.gm
  refine lv_aload_n hx hb dL_law_399 rfl (lv_at hl 2 rfl) ?_
  refine lv_aload_n hx hb dL_law_400 rfl (lv_at hl 3 rfl) ?_
  refine lv_iload_n hx hb dL_law_401 rfl (lv_at hl 0 rfl) ?_
  refine lv_iconst (v := 1) hx hb dL_law_402 (by decide) ?_
  refine lv_iadd hx hb dL_law_403 ?_
  refine va_sld hx hb hX hbl hbA hW.1.1.2.2.2.1 (hin 1 (by decide)) dL_law_404 ?_
  refine lv_aload_n hx hb dL_law_405 rfl (lv_at hl 3 rfl) ?_
  refine lv_iload_n hx hb dL_law_406 rfl (lv_at hl 0 rfl) ?_
  refine lv_iconst (v := 2) hx hb dL_law_407 (by decide) ?_
  refine lv_iadd hx hb dL_law_408 ?_
  refine va_sld hx hb hX hbl hbA hW.1.1.2.2.2.1 (hin 2 (by decide)) dL_law_409 ?_
  refine lv_if_eq (tgt := 417) hx hb dL_law_410 (by decide) (fun c_1 => ?_) (fun c_1 => ?_)
  · refine lv_iconst (v := 0) hx hb dL_law_417 (by decide) ?_
    obtain ⟨r, Z', V', hc, ht, hG'⟩ := q_run hG (xs (i + 1).toNatClampNeg) false
    refine b_callC (As := [.int (xs (i + 1).toNatClampNeg), .int 0]) (rest := []) S hW (metX0_run hc) (cwV 2 S.2.2.2.2 (lw_V q1205 q1206 q1207 q105 q1208) rfl rfl rfl (by decide +kernel) ⟨Nat.le_of_ble_eq_true rfl, Nat.le_of_ble_eq_true rfl⟩) hs rfl hl.1 rfl (Nat.le_of_ble_eq_true rfl) dL_law_418 ⟨by show _ ≤ 603072; omega, by show _ ≤ 7262314; omega⟩ (fun H locs hW => ?_)
    refine lv_aload_n hx hb dL_law_421 rfl (lv_at hl 1 rfl) ?_
    refine lv_aload_n hx hb dL_law_422 rfl (lv_at hl 3 rfl) ?_
    refine lv_iload_n hx hb dL_law_423 rfl (lv_at hl 0 rfl) ?_
    refine lv_iconst (v := 1) hx hb dL_law_424 (by decide) ?_
    refine lv_iadd hx hb dL_law_425 ?_
    refine va_sld hx hb hX hbl hbA hW.1.1.2.2.2.1 (hin 1 (by decide)) dL_law_426 ?_
    refine lv_aload_n hx hb dL_law_427 rfl (lv_at hl 3 rfl) ?_
    refine lv_iload_n hx hb dL_law_428 rfl (lv_at hl 0 rfl) ?_
    refine lv_iconst (v := 2) hx hb dL_law_429 (by decide) ?_
    refine lv_iadd hx hb dL_law_430 ?_
    refine va_sld hx hb hX hbl hbA hW.1.1.2.2.2.1 (hin 2 (by decide)) dL_law_431 ?_
    refine lv_if_eq (tgt := 439) hx hb dL_law_432 (by decide) (fun c_2 => ?_) (fun c_2 => absurd c_1 c_2)
    refine lv_iconst (v := 0) hx hb dL_law_439 (by decide) ?_
    refine b_callR (As := [.int (xs (i + 1).toNatClampNeg), .int 0]) (rest := [.int r]) S hW (metX8_run ht) (cwV 2 S.2.2.2.2 (lw_V q1852 q1853 q1854 q122 q1855) rfl rfl rfl (by decide +kernel) ⟨Nat.le_of_ble_eq_true rfl, Nat.le_of_ble_eq_true rfl⟩) rfl hl.1 rfl (Nat.le_of_ble_eq_true rfl) dL_law_440 ⟨by show _ ≤ 603072; omega, by show _ ≤ 7262314; omega⟩ (fun H locs hW => ?_)
    refine lv_icmp_eq (tgt := 1159) hx hb dL_law_443 (by decide) (fun _ => ?_) (fun z => absurd rfl z)
    exact W.widen (by omega) (by omega) (kk _ _ _ _ _ hW hG')
  · refine lv_iconst (v := 1) hx hb dL_law_413 (by decide) ?_
    refine lv_goto (tgt := 418) hx hb dL_law_414 (by decide) ?_
    obtain ⟨r, Z', V', hc, ht, hG'⟩ := q_run hG (xs (i + 1).toNatClampNeg) true
    refine b_callC (As := [.int (xs (i + 1).toNatClampNeg), .int 1]) (rest := []) S hW (metX0_run hc) (cwV 2 S.2.2.2.2 (lw_V q1205 q1206 q1207 q105 q1208) rfl rfl rfl (by decide +kernel) ⟨Nat.le_of_ble_eq_true rfl, Nat.le_of_ble_eq_true rfl⟩) hs rfl hl.1 rfl (Nat.le_of_ble_eq_true rfl) dL_law_418 ⟨by show _ ≤ 603072; omega, by show _ ≤ 7262314; omega⟩ (fun H locs hW => ?_)
    refine lv_aload_n hx hb dL_law_421 rfl (lv_at hl 1 rfl) ?_
    refine lv_aload_n hx hb dL_law_422 rfl (lv_at hl 3 rfl) ?_
    refine lv_iload_n hx hb dL_law_423 rfl (lv_at hl 0 rfl) ?_
    refine lv_iconst (v := 1) hx hb dL_law_424 (by decide) ?_
    refine lv_iadd hx hb dL_law_425 ?_
    refine va_sld hx hb hX hbl hbA hW.1.1.2.2.2.1 (hin 1 (by decide)) dL_law_426 ?_
    refine lv_aload_n hx hb dL_law_427 rfl (lv_at hl 3 rfl) ?_
    refine lv_iload_n hx hb dL_law_428 rfl (lv_at hl 0 rfl) ?_
    refine lv_iconst (v := 2) hx hb dL_law_429 (by decide) ?_
    refine lv_iadd hx hb dL_law_430 ?_
    refine va_sld hx hb hX hbl hbA hW.1.1.2.2.2.1 (hin 2 (by decide)) dL_law_431 ?_
    refine lv_if_eq (tgt := 439) hx hb dL_law_432 (by decide) (fun c_2 => absurd c_2 c_1) (fun c_2 => ?_)
    refine lv_iconst (v := 1) hx hb dL_law_435 (by decide) ?_
    refine lv_goto (tgt := 440) hx hb dL_law_436 (by decide) ?_
    refine b_callR (As := [.int (xs (i + 1).toNatClampNeg), .int 1]) (rest := [.int r]) S hW (metX8_run ht) (cwV 2 S.2.2.2.2 (lw_V q1852 q1853 q1854 q122 q1855) rfl rfl rfl (by decide +kernel) ⟨Nat.le_of_ble_eq_true rfl, Nat.le_of_ble_eq_true rfl⟩) rfl hl.1 rfl (Nat.le_of_ble_eq_true rfl) dL_law_440 ⟨by show _ ≤ 603072; omega, by show _ ≤ 7262314; omega⟩ (fun H locs hW => ?_)
    refine lv_icmp_eq (tgt := 1159) hx hb dL_law_443 (by decide) (fun _ => ?_) (fun z => absurd rfl z)
    exact W.widen (by omega) (by omega) (kk _ _ _ _ _ hW hG')
set_option maxHeartbeats 4000000 in
theorem law_c8 {p : Program} {l : Launch} {e : Env} {s : State} {m : MethodId} {below : List Frame} {meth : Method} {c : Code} {H : Heap} {locs : List Loc} {cells slots : Nat} {Q : State → Prop} {gp : Nat → Nat} {ls : Array Slot} {D D2 : va_G} {K K2 : Nat → ClassId} {al : Nat → Nat} {Z : c_S} {V2 : g_V} {L2 : g_L} {x b L : Nat} {xs : Nat → Int32} {i : Int32} (S : CallFix p m c cL_law 4 s #[Value.ref b] lw_all "FrostRingLaw") (hlt : l.stackTraces = false) (hgp : gpI gp) (hX : va_X b L xs s s.heap) (hbl : b < s.heap.size) (hin : ∀ k : Int32, k ∈ ([1, 2, 3, 4, 5] : List Int32) → vp_in (i + k) L) (hl : lv_has ls 4 [(3, .int i), (2, .ref (al 0)), (1, .ref x), (0, .ref b)]) (hce : cells + 9000 ≤ 603072) (hsl : slots + 100000 ≤ 7262314) (hW : b_W gp D K D2 K2 al s Z V2 L2 H locs) (hG : G Z x V2 L2)
    (kk : ∀ (Z' : c_S) (V2' : g_V) (L2' : g_L) (H1 : Heap) (locs1 : List Loc), b_W gp D K D2 K2 al s Z' V2' L2' H1 locs1 → G Z' x V2' L2' → W p l e room_1 s m #[Value.ref b] below meth c H1 locs1 (cells + 9000) (slots + 100000) Q (F0 m 1159 ls [])) : W p l e room_1 s m #[Value.ref b] below meth c H locs cells slots Q (F0 m 448 ls []) := by
  have hx := S.1
  have hb := S.2.1
  have hbA : ¬ s.heap.size ≤ b := Nat.not_le.mpr hbl
  obtain ⟨Sh, V, L0, n⟩ := Z
  obtain ⟨ρ, mm, u, mt, qq, hG⟩ := hG
  obtain ⟨rf, hs, -⟩ := hG.gm
  refine lv_aload_n hx hb dL_law_448 rfl (lv_at hl 2 rfl) ?_
  refine lv_aload_n hx hb dL_law_449 rfl (lv_at hl 3 rfl) ?_
  refine lv_iload_n hx hb dL_law_450 rfl (lv_at hl 0 rfl) ?_
  refine lv_iconst (v := 1) hx hb dL_law_451 (by decide) ?_
  refine lv_iadd hx hb dL_law_452 ?_
  refine va_sld hx hb hX hbl hbA hW.1.1.2.2.2.1 (hin 1 (by decide)) dL_law_453 ?_
  refine lv_aload_n hx hb dL_law_454 rfl (lv_at hl 3 rfl) ?_
  refine lv_iload_n hx hb dL_law_455 rfl (lv_at hl 0 rfl) ?_
  refine lv_iconst (v := 2) hx hb dL_law_456 (by decide) ?_
  refine lv_iadd hx hb dL_law_457 ?_
  refine va_sld hx hb hX hbl hbA hW.1.1.2.2.2.1 (hin 2 (by decide)) dL_law_458 ?_
  obtain ⟨r, hc, ht⟩ := q_pipe hG (xs (i + 1).toNatClampNeg) (xs (i + 2).toNatClampNeg)
  refine b_callC (As := [.int (xs (i + 1).toNatClampNeg), .int (xs (i + 2).toNatClampNeg)]) (rest := []) S hW (metX0_pipe hc) (cwV 2 S.2.2.2.2 (lw_V q1213 q1214 q1215 q105 q1216) rfl rfl rfl (by decide +kernel) ⟨Nat.le_of_ble_eq_true rfl, Nat.le_of_ble_eq_true rfl⟩) hs rfl hl.1 rfl (Nat.le_of_ble_eq_true rfl) dL_law_459 ⟨by show _ ≤ 603072; omega, by show _ ≤ 7262314; omega⟩ (fun H locs hW => ?_)
  refine lv_aload_n hx hb dL_law_462 rfl (lv_at hl 1 rfl) ?_
  refine lv_aload_n hx hb dL_law_463 rfl (lv_at hl 3 rfl) ?_
  refine lv_iload_n hx hb dL_law_464 rfl (lv_at hl 0 rfl) ?_
  refine lv_iconst (v := 1) hx hb dL_law_465 (by decide) ?_
  refine lv_iadd hx hb dL_law_466 ?_
  refine va_sld hx hb hX hbl hbA hW.1.1.2.2.2.1 (hin 1 (by decide)) dL_law_467 ?_
  refine lv_aload_n hx hb dL_law_468 rfl (lv_at hl 3 rfl) ?_
  refine lv_iload_n hx hb dL_law_469 rfl (lv_at hl 0 rfl) ?_
  refine lv_iconst (v := 2) hx hb dL_law_470 (by decide) ?_
  refine lv_iadd hx hb dL_law_471 ?_
  refine va_sld hx hb hX hbl hbA hW.1.1.2.2.2.1 (hin 2 (by decide)) dL_law_472 ?_
  refine b_callR (As := [.int (xs (i + 1).toNatClampNeg), .int (xs (i + 2).toNatClampNeg)]) (rest := [.int r]) S hW (metX8_pipe ht) (cwV 2 S.2.2.2.2 (lw_V q1860 q1861 q1862 q122 q1863) rfl rfl rfl (by decide +kernel) ⟨Nat.le_of_ble_eq_true rfl, Nat.le_of_ble_eq_true rfl⟩) rfl hl.1 rfl (Nat.le_of_ble_eq_true rfl) dL_law_473 ⟨by show _ ≤ 603072; omega, by show _ ≤ 7262314; omega⟩ (fun H locs hW => ?_)
  refine lv_icmp_eq (tgt := 1159) hx hb dL_law_476 (by decide) (fun _ => ?_) (fun z => absurd rfl z)
  exact W.widen (by omega) (by omega) (kk _ _ _ _ _ hW hG.g)
set_option maxHeartbeats 4000000 in
theorem law_c9 {p : Program} {l : Launch} {e : Env} {s : State} {m : MethodId} {below : List Frame} {meth : Method} {c : Code} {H : Heap} {locs : List Loc} {cells slots : Nat} {Q : State → Prop} {gp : Nat → Nat} {ls : Array Slot} {D D2 : va_G} {K K2 : Nat → ClassId} {al : Nat → Nat} {Z : c_S} {V2 : g_V} {L2 : g_L} {x b L : Nat} {xs : Nat → Int32} {i : Int32} (S : CallFix p m c cL_law 4 s #[Value.ref b] lw_all "FrostRingLaw") (hlt : l.stackTraces = false) (hgp : gpI gp) (hX : va_X b L xs s s.heap) (hbl : b < s.heap.size) (hin : ∀ k : Int32, k ∈ ([1, 2, 3, 4, 5] : List Int32) → vp_in (i + k) L) (hl : lv_has ls 4 [(3, .int i), (2, .ref (al 0)), (1, .ref x), (0, .ref b)]) (hce : cells + 9000 ≤ 603072) (hsl : slots + 100000 ≤ 7262314) (hW : b_W gp D K D2 K2 al s Z V2 L2 H locs) (hG : G Z x V2 L2)
    (kk : ∀ (Z' : c_S) (V2' : g_V) (L2' : g_L) (H1 : Heap) (locs1 : List Loc), b_W gp D K D2 K2 al s Z' V2' L2' H1 locs1 → G Z' x V2' L2' → W p l e room_1 s m #[Value.ref b] below meth c H1 locs1 (cells + 9000) (slots + 100000) Q (F0 m 1159 ls [])) : W p l e room_1 s m #[Value.ref b] below meth c H locs cells slots Q (F0 m 481 ls []) := by
  have hx := S.1
  have hb := S.2.1
  have hbA : ¬ s.heap.size ≤ b := Nat.not_le.mpr hbl
  obtain ⟨Sh, V, L0, n⟩ := Z
  obtain ⟨ρ, mm, u, mt, qq, hG⟩ := hG
  obtain ⟨rf, hs, -⟩ := hG.gm
  refine lv_aload_n hx hb dL_law_481 rfl (lv_at hl 2 rfl) ?_
  refine lv_aload_n hx hb dL_law_482 rfl (lv_at hl 3 rfl) ?_
  refine lv_iload_n hx hb dL_law_483 rfl (lv_at hl 0 rfl) ?_
  refine lv_iconst (v := 1) hx hb dL_law_484 (by decide) ?_
  refine lv_iadd hx hb dL_law_485 ?_
  refine va_sld hx hb hX hbl hbA hW.1.1.2.2.2.1 (hin 1 (by decide)) dL_law_486 ?_
  obtain ⟨r, Z', V', hc, ht, hG'⟩ := q_cold hG (xs (i + 1).toNatClampNeg)
  refine b_callC (As := [.int (xs (i + 1).toNatClampNeg)]) (rest := []) S hW (metX0_cold hc) (cwV 1 S.2.2.2.2 (lw_V q1217 q1218 q1219 q105 q1220) rfl rfl rfl (by decide +kernel) ⟨Nat.le_of_ble_eq_true rfl, Nat.le_of_ble_eq_true rfl⟩) hs rfl hl.1 rfl (Nat.le_of_ble_eq_true rfl) dL_law_487 ⟨by show _ ≤ 603072; omega, by show _ ≤ 7262314; omega⟩ (fun H locs hW => ?_)
  refine lv_aload_n hx hb dL_law_490 rfl (lv_at hl 1 rfl) ?_
  refine lv_aload_n hx hb dL_law_491 rfl (lv_at hl 3 rfl) ?_
  refine lv_iload_n hx hb dL_law_492 rfl (lv_at hl 0 rfl) ?_
  refine lv_iconst (v := 1) hx hb dL_law_493 (by decide) ?_
  refine lv_iadd hx hb dL_law_494 ?_
  refine va_sld hx hb hX hbl hbA hW.1.1.2.2.2.1 (hin 1 (by decide)) dL_law_495 ?_
  refine b_callR (As := [.int (xs (i + 1).toNatClampNeg)]) (rest := [.int r]) S hW (metX8_cold ht) (cwV 1 S.2.2.2.2 (lw_V q1864 q1865 q1866 q122 q1867) rfl rfl rfl (by decide +kernel) ⟨Nat.le_of_ble_eq_true rfl, Nat.le_of_ble_eq_true rfl⟩) rfl hl.1 rfl (Nat.le_of_ble_eq_true rfl) dL_law_496 ⟨by show _ ≤ 603072; omega, by show _ ≤ 7262314; omega⟩ (fun H locs hW => ?_)
  refine lv_icmp_eq (tgt := 1159) hx hb dL_law_499 (by decide) (fun _ => ?_) (fun z => absurd rfl z)
  exact W.widen (by omega) (by omega) (kk _ _ _ _ _ hW hG')
set_option maxHeartbeats 4000000 in
theorem law_c10 {p : Program} {l : Launch} {e : Env} {s : State} {m : MethodId} {below : List Frame} {meth : Method} {c : Code} {H : Heap} {locs : List Loc} {cells slots : Nat} {Q : State → Prop} {gp : Nat → Nat} {ls : Array Slot} {D D2 : va_G} {K K2 : Nat → ClassId} {al : Nat → Nat} {Z : c_S} {V2 : g_V} {L2 : g_L} {x b L : Nat} {xs : Nat → Int32} {i : Int32} (S : CallFix p m c cL_law 4 s #[Value.ref b] lw_all "FrostRingLaw") (hlt : l.stackTraces = false) (hgp : gpI gp) (hX : va_X b L xs s s.heap) (hbl : b < s.heap.size) (hin : ∀ k : Int32, k ∈ ([1, 2, 3, 4, 5] : List Int32) → vp_in (i + k) L) (hl : lv_has ls 4 [(3, .int i), (2, .ref (al 0)), (1, .ref x), (0, .ref b)]) (hce : cells + 9000 ≤ 603072) (hsl : slots + 100000 ≤ 7262314) (hW : b_W gp D K D2 K2 al s Z V2 L2 H locs) (hG : G Z x V2 L2)
    (kk : ∀ (Z' : c_S) (V2' : g_V) (L2' : g_L) (H1 : Heap) (locs1 : List Loc), b_W gp D K D2 K2 al s Z' V2' L2' H1 locs1 → G Z' x V2' L2' → W p l e room_1 s m #[Value.ref b] below meth c H1 locs1 (cells + 9000) (slots + 100000) Q (F0 m 1159 ls [])) : W p l e room_1 s m #[Value.ref b] below meth c H locs cells slots Q (F0 m 504 ls []) := by
  have hx := S.1
  have hb := S.2.1
  have hbA : ¬ s.heap.size ≤ b := Nat.not_le.mpr hbl
  obtain ⟨Sh, V, L0, n⟩ := Z
  obtain ⟨ρ, mm, u, mt, qq, hG⟩ := hG
  obtain ⟨rf, hs, -⟩ := hG.gm
  refine lv_aload_n hx hb dL_law_504 rfl (lv_at hl 2 rfl) ?_
  obtain ⟨r, Z', V', hc, ht, hG'⟩ := q_shut hG 
  refine b_callC (As := []) (rest := []) S hW (metX0_shut hc) (cwV 0 S.2.2.2.2 (lw_V q1222 q1223 q1224 q105 q1225) rfl rfl rfl (by decide +kernel) ⟨Nat.le_of_ble_eq_true rfl, Nat.le_of_ble_eq_true rfl⟩) hs rfl hl.1 rfl (Nat.le_of_ble_eq_true rfl) dL_law_505 ⟨by show _ ≤ 603072; omega, by show _ ≤ 7262314; omega⟩ (fun H locs hW => ?_)
  refine lv_aload_n hx hb dL_law_508 rfl (lv_at hl 1 rfl) ?_
  refine b_callR (As := []) (rest := [.int r]) S hW (metX8_shut ht) (cwV 0 S.2.2.2.2 (lw_V q1869 q1870 q1871 q122 q1872) rfl rfl rfl (by decide +kernel) ⟨Nat.le_of_ble_eq_true rfl, Nat.le_of_ble_eq_true rfl⟩) rfl hl.1 rfl (Nat.le_of_ble_eq_true rfl) dL_law_509 ⟨by show _ ≤ 603072; omega, by show _ ≤ 7262314; omega⟩ (fun H locs hW => ?_)
  refine lv_icmp_eq (tgt := 1159) hx hb dL_law_512 (by decide) (fun _ => ?_) (fun z => absurd rfl z)
  exact W.widen (by omega) (by omega) (kk _ _ _ _ _ hW hG')
set_option maxHeartbeats 4000000 in
theorem law_c11 {p : Program} {l : Launch} {e : Env} {s : State} {m : MethodId} {below : List Frame} {meth : Method} {c : Code} {H : Heap} {locs : List Loc} {cells slots : Nat} {Q : State → Prop} {gp : Nat → Nat} {ls : Array Slot} {D D2 : va_G} {K K2 : Nat → ClassId} {al : Nat → Nat} {Z : c_S} {V2 : g_V} {L2 : g_L} {x b L : Nat} {xs : Nat → Int32} {i : Int32} (S : CallFix p m c cL_law 4 s #[Value.ref b] lw_all "FrostRingLaw") (hlt : l.stackTraces = false) (hgp : gpI gp) (hX : va_X b L xs s s.heap) (hbl : b < s.heap.size) (hin : ∀ k : Int32, k ∈ ([1, 2, 3, 4, 5] : List Int32) → vp_in (i + k) L) (hl : lv_has ls 4 [(3, .int i), (2, .ref (al 0)), (1, .ref x), (0, .ref b)]) (hce : cells + 9000 ≤ 603072) (hsl : slots + 100000 ≤ 7262314) (hW : b_W gp D K D2 K2 al s Z V2 L2 H locs) (hG : G Z x V2 L2)
    (kk : ∀ (Z' : c_S) (V2' : g_V) (L2' : g_L) (H1 : Heap) (locs1 : List Loc), b_W gp D K D2 K2 al s Z' V2' L2' H1 locs1 → G Z' x V2' L2' → W p l e room_1 s m #[Value.ref b] below meth c H1 locs1 (cells + 9000) (slots + 100000) Q (F0 m 1159 ls [])) : W p l e room_1 s m #[Value.ref b] below meth c H locs cells slots Q (F0 m 517 ls []) := by
  have hx := S.1
  have hb := S.2.1
  have hbA : ¬ s.heap.size ≤ b := Nat.not_le.mpr hbl
  obtain ⟨Sh, V, L0, n⟩ := Z
  obtain ⟨ρ, mm, u, mt, qq, hG⟩ := hG
  obtain ⟨rf, hs, -⟩ := hG.gm
  refine lv_aload_n hx hb dL_law_517 rfl (lv_at hl 2 rfl) ?_
  obtain ⟨r, Z', V', hc, ht, hG'⟩ := q_way hG 
  refine b_callC (As := []) (rest := []) S hW (metX0_way hc) (cwV 0 S.2.2.2.2 (lw_V q1232 q1233 q1234 q105 q1235) rfl rfl rfl (by decide +kernel) ⟨Nat.le_of_ble_eq_true rfl, Nat.le_of_ble_eq_true rfl⟩) hs rfl hl.1 rfl (Nat.le_of_ble_eq_true rfl) dL_law_518 ⟨by show _ ≤ 603072; omega, by show _ ≤ 7262314; omega⟩ (fun H locs hW => ?_)
  refine lv_aload_n hx hb dL_law_521 rfl (lv_at hl 1 rfl) ?_
  refine b_callR (As := []) (rest := [.int r]) S hW (metX8_way ht) (cwV 0 S.2.2.2.2 (lw_V q1877 q1878 q1879 q122 q1880) rfl rfl rfl (by decide +kernel) ⟨Nat.le_of_ble_eq_true rfl, Nat.le_of_ble_eq_true rfl⟩) rfl hl.1 rfl (Nat.le_of_ble_eq_true rfl) dL_law_522 ⟨by show _ ≤ 603072; omega, by show _ ≤ 7262314; omega⟩ (fun H locs hW => ?_)
  refine lv_icmp_eq (tgt := 1159) hx hb dL_law_525 (by decide) (fun _ => ?_) (fun z => absurd rfl z)
  exact W.widen (by omega) (by omega) (kk _ _ _ _ _ hW hG')
set_option maxHeartbeats 4000000 in
theorem law_c12 {p : Program} {l : Launch} {e : Env} {s : State} {m : MethodId} {below : List Frame} {meth : Method} {c : Code} {H : Heap} {locs : List Loc} {cells slots : Nat} {Q : State → Prop} {gp : Nat → Nat} {ls : Array Slot} {D D2 : va_G} {K K2 : Nat → ClassId} {al : Nat → Nat} {Z : c_S} {V2 : g_V} {L2 : g_L} {x b L : Nat} {xs : Nat → Int32} {i : Int32} (S : CallFix p m c cL_law 4 s #[Value.ref b] lw_all "FrostRingLaw") (hlt : l.stackTraces = false) (hgp : gpI gp) (hX : va_X b L xs s s.heap) (hbl : b < s.heap.size) (hin : ∀ k : Int32, k ∈ ([1, 2, 3, 4, 5] : List Int32) → vp_in (i + k) L) (hl : lv_has ls 4 [(3, .int i), (2, .ref (al 0)), (1, .ref x), (0, .ref b)]) (hce : cells + 9000 ≤ 603072) (hsl : slots + 100000 ≤ 7262314) (hW : b_W gp D K D2 K2 al s Z V2 L2 H locs) (hG : G Z x V2 L2)
    (kk : ∀ (Z' : c_S) (V2' : g_V) (L2' : g_L) (H1 : Heap) (locs1 : List Loc), b_W gp D K D2 K2 al s Z' V2' L2' H1 locs1 → G Z' x V2' L2' → W p l e room_1 s m #[Value.ref b] below meth c H1 locs1 (cells + 9000) (slots + 100000) Q (F0 m 1159 ls [])) : W p l e room_1 s m #[Value.ref b] below meth c H locs cells slots Q (F0 m 530 ls []) := by
  have hx := S.1
  have hb := S.2.1
  have hbA : ¬ s.heap.size ≤ b := Nat.not_le.mpr hbl
  obtain ⟨Sh, V, L0, n⟩ := Z
  obtain ⟨ρ, mm, u, mt, qq, hG⟩ := hG
  obtain ⟨rf, hs, -⟩ := hG.gm
  refine lv_aload_n hx hb dL_law_530 rfl (lv_at hl 2 rfl) ?_
  obtain ⟨r, Z', V', hc, ht, hG'⟩ := q_gaps hG 
  refine b_callC (As := []) (rest := []) S hW (metX0_gaps hc) (cwV 0 S.2.2.2.2 (lw_V q1237 q1238 q1239 q105 q1240) rfl rfl rfl (by decide +kernel) ⟨Nat.le_of_ble_eq_true rfl, Nat.le_of_ble_eq_true rfl⟩) hs rfl hl.1 rfl (Nat.le_of_ble_eq_true rfl) dL_law_531 ⟨by show _ ≤ 603072; omega, by show _ ≤ 7262314; omega⟩ (fun H locs hW => ?_)
  refine lv_aload_n hx hb dL_law_534 rfl (lv_at hl 1 rfl) ?_
  refine b_callR (As := []) (rest := [.int r]) S hW (metX8_gaps ht) (cwV 0 S.2.2.2.2 (lw_V q1885 q1886 q1887 q122 q1888) rfl rfl rfl (by decide +kernel) ⟨Nat.le_of_ble_eq_true rfl, Nat.le_of_ble_eq_true rfl⟩) rfl hl.1 rfl (Nat.le_of_ble_eq_true rfl) dL_law_535 ⟨by show _ ≤ 603072; omega, by show _ ≤ 7262314; omega⟩ (fun H locs hW => ?_)
  refine lv_icmp_eq (tgt := 1159) hx hb dL_law_538 (by decide) (fun _ => ?_) (fun z => absurd rfl z)
  exact W.widen (by omega) (by omega) (kk _ _ _ _ _ hW hG')
set_option maxHeartbeats 4000000 in
theorem law_c13 {p : Program} {l : Launch} {e : Env} {s : State} {m : MethodId} {below : List Frame} {meth : Method} {c : Code} {H : Heap} {locs : List Loc} {cells slots : Nat} {Q : State → Prop} {gp : Nat → Nat} {ls : Array Slot} {D D2 : va_G} {K K2 : Nat → ClassId} {al : Nat → Nat} {Z : c_S} {V2 : g_V} {L2 : g_L} {x b L : Nat} {xs : Nat → Int32} {i : Int32} (S : CallFix p m c cL_law 4 s #[Value.ref b] lw_all "FrostRingLaw") (hlt : l.stackTraces = false) (hgp : gpI gp) (hX : va_X b L xs s s.heap) (hbl : b < s.heap.size) (hin : ∀ k : Int32, k ∈ ([1, 2, 3, 4, 5] : List Int32) → vp_in (i + k) L) (hl : lv_has ls 4 [(3, .int i), (2, .ref (al 0)), (1, .ref x), (0, .ref b)]) (hce : cells + 9000 ≤ 603072) (hsl : slots + 100000 ≤ 7262314) (hW : b_W gp D K D2 K2 al s Z V2 L2 H locs) (hG : G Z x V2 L2)
    (kk : ∀ (Z' : c_S) (V2' : g_V) (L2' : g_L) (H1 : Heap) (locs1 : List Loc), b_W gp D K D2 K2 al s Z' V2' L2' H1 locs1 → G Z' x V2' L2' → W p l e room_1 s m #[Value.ref b] below meth c H1 locs1 (cells + 9000) (slots + 100000) Q (F0 m 1159 ls [])) : W p l e room_1 s m #[Value.ref b] below meth c H locs cells slots Q (F0 m 543 ls []) := by
  have hx := S.1
  have hb := S.2.1
  have hbA : ¬ s.heap.size ≤ b := Nat.not_le.mpr hbl
  obtain ⟨Sh, V, L0, n⟩ := Z
  obtain ⟨ρ, mm, u, mt, qq, hG⟩ := hG
  obtain ⟨rf, hs, -⟩ := hG.gm
  refine lv_aload_n hx hb dL_law_543 rfl (lv_at hl 2 rfl) ?_
  refine lv_aload_n hx hb dL_law_544 rfl (lv_at hl 3 rfl) ?_
  refine lv_iload_n hx hb dL_law_545 rfl (lv_at hl 0 rfl) ?_
  refine lv_iconst (v := 1) hx hb dL_law_546 (by decide) ?_
  refine lv_iadd hx hb dL_law_547 ?_
  refine va_sld hx hb hX hbl hbA hW.1.1.2.2.2.1 (hin 1 (by decide)) dL_law_548 ?_
  obtain ⟨r, hc, ht⟩ := q_gap hG (xs (i + 1).toNatClampNeg)
  refine b_callC (As := [.int (xs (i + 1).toNatClampNeg)]) (rest := []) S hW (metX0_gap hc) (cwV 1 S.2.2.2.2 (lw_V q1314 q1315 q1316 q105 q1317) rfl rfl rfl (by decide +kernel) ⟨Nat.le_of_ble_eq_true rfl, Nat.le_of_ble_eq_true rfl⟩) hs rfl hl.1 rfl (Nat.le_of_ble_eq_true rfl) dL_law_549 ⟨by show _ ≤ 603072; omega, by show _ ≤ 7262314; omega⟩ (fun H locs hW => ?_)
  refine lv_aload_n hx hb dL_law_552 rfl (lv_at hl 1 rfl) ?_
  refine lv_aload_n hx hb dL_law_553 rfl (lv_at hl 3 rfl) ?_
  refine lv_iload_n hx hb dL_law_554 rfl (lv_at hl 0 rfl) ?_
  refine lv_iconst (v := 1) hx hb dL_law_555 (by decide) ?_
  refine lv_iadd hx hb dL_law_556 ?_
  refine va_sld hx hb hX hbl hbA hW.1.1.2.2.2.1 (hin 1 (by decide)) dL_law_557 ?_
  refine b_callR (As := [.int (xs (i + 1).toNatClampNeg)]) (rest := [.int r]) S hW (metX8_gap ht) (cwV 1 S.2.2.2.2 (lw_V q1912 q1913 q1914 q122 q1915) rfl rfl rfl (by decide +kernel) ⟨Nat.le_of_ble_eq_true rfl, Nat.le_of_ble_eq_true rfl⟩) rfl hl.1 rfl (Nat.le_of_ble_eq_true rfl) dL_law_558 ⟨by show _ ≤ 603072; omega, by show _ ≤ 7262314; omega⟩ (fun H locs hW => ?_)
  refine lv_icmp_eq (tgt := 1159) hx hb dL_law_561 (by decide) (fun _ => ?_) (fun z => absurd rfl z)
  exact W.widen (by omega) (by omega) (kk _ _ _ _ _ hW hG.g)
