/-! the law's cases (printed by gen/law.py) -/
set_option maxRecDepth 100000
set_option maxHeartbeats 4000000 in
theorem law_c28 {p : Program} {l : Launch} {e : Env} {s : State} {m : MethodId} {below : List Frame} {meth : Method} {c : Code} {H : Heap} {locs : List Loc} {cells slots : Nat} {Q : State → Prop} {gp : Nat → Nat} {ls : Array Slot} {D D2 : va_G} {K K2 : Nat → ClassId} {al : Nat → Nat} {Z : c_S} {V2 : g_V} {L2 : g_L} {x b L : Nat} {xs : Nat → Int32} {i : Int32} (S : CallFix p m c cL_law 4 s #[Value.ref b] lw_all "FrostRingLaw") (hlt : l.stackTraces = false) (hgp : gpI gp) (hX : va_X b L xs s s.heap) (hbl : b < s.heap.size) (hin : ∀ k : Int32, k ∈ ([1, 2, 3, 4, 5] : List Int32) → vp_in (i + k) L) (hl : lv_has ls 4 [(3, .int i), (2, .ref (al 0)), (1, .ref x), (0, .ref b)]) (hce : cells + 9000 ≤ 603072) (hsl : slots + 100000 ≤ 7262314) (hW : b_W gp D K D2 K2 al s Z V2 L2 H locs) (hG : G Z x V2 L2)
    (kk : ∀ (Z' : c_S) (V2' : g_V) (L2' : g_L) (H1 : Heap) (locs1 : List Loc), b_W gp D K D2 K2 al s Z' V2' L2' H1 locs1 → G Z' x V2' L2' → W p l e room_1 s m #[Value.ref b] below meth c H1 locs1 (cells + 9000) (slots + 100000) Q (F0 m 1159 ls [])) : W p l e room_1 s m #[Value.ref b] below meth c H locs cells slots Q (F0 m 888 ls []) := by
  have hx := S.1
  have hb := S.2.1
  have hbA : ¬ s.heap.size ≤ b := Nat.not_le.mpr hbl
  obtain ⟨Sh, V, L0, n⟩ := Z
  obtain ⟨ρ, mm, u, mt, qq, hG⟩ := hG
  obtain ⟨rf, hs, -⟩ := hG.gm
  refine lv_aload_n hx hb dL_law_888 rfl (lv_at hl 2 rfl) ?_
  refine lv_aload_n hx hb dL_law_889 rfl (lv_at hl 3 rfl) ?_
  refine lv_iload_n hx hb dL_law_890 rfl (lv_at hl 0 rfl) ?_
  refine lv_iconst (v := 1) hx hb dL_law_891 (by decide) ?_
  refine lv_iadd hx hb dL_law_892 ?_
  refine va_sld hx hb hX hbl hbA hW.1.1.2.2.2.1 (hin 1 (by decide)) dL_law_893 ?_
  obtain ⟨r, hc, ht⟩ := q_frost hG (xs (i + 1).toNatClampNeg)
  refine b_callC (As := [.int (xs (i + 1).toNatClampNeg)]) (rest := []) S hW (metX0_frost hc) (cwV 1 S.2.2.2.2 (lw_V q1462 q1463 q1464 q105 q1465) rfl rfl rfl (by decide +kernel) ⟨Nat.le_of_ble_eq_true rfl, Nat.le_of_ble_eq_true rfl⟩) hs rfl hl.1 rfl (Nat.le_of_ble_eq_true rfl) dL_law_894 ⟨by show _ ≤ 603072; omega, by show _ ≤ 7262314; omega⟩ (fun H locs hW => ?_)
  refine lv_aload_n hx hb dL_law_897 rfl (lv_at hl 1 rfl) ?_
  refine lv_aload_n hx hb dL_law_898 rfl (lv_at hl 3 rfl) ?_
  refine lv_iload_n hx hb dL_law_899 rfl (lv_at hl 0 rfl) ?_
  refine lv_iconst (v := 1) hx hb dL_law_900 (by decide) ?_
  refine lv_iadd hx hb dL_law_901 ?_
  refine va_sld hx hb hX hbl hbA hW.1.1.2.2.2.1 (hin 1 (by decide)) dL_law_902 ?_
  refine b_callR (As := [.int (xs (i + 1).toNatClampNeg)]) (rest := [.int r]) S hW (metX8_frost ht) (cwV 1 S.2.2.2.2 (lw_V q2012 q2013 q2014 q122 q2015) rfl rfl rfl (by decide +kernel) ⟨Nat.le_of_ble_eq_true rfl, Nat.le_of_ble_eq_true rfl⟩) rfl hl.1 rfl (Nat.le_of_ble_eq_true rfl) dL_law_903 ⟨by show _ ≤ 603072; omega, by show _ ≤ 7262314; omega⟩ (fun H locs hW => ?_)
  refine lv_icmp_eq (tgt := 1159) hx hb dL_law_906 (by decide) (fun _ => ?_) (fun z => absurd rfl z)
  exact W.widen (by omega) (by omega) (kk _ _ _ _ _ hW hG.g)
set_option maxHeartbeats 4000000 in
theorem law_c29 {p : Program} {l : Launch} {e : Env} {s : State} {m : MethodId} {below : List Frame} {meth : Method} {c : Code} {H : Heap} {locs : List Loc} {cells slots : Nat} {Q : State → Prop} {gp : Nat → Nat} {ls : Array Slot} {D D2 : va_G} {K K2 : Nat → ClassId} {al : Nat → Nat} {Z : c_S} {V2 : g_V} {L2 : g_L} {x b L : Nat} {xs : Nat → Int32} {i : Int32} (S : CallFix p m c cL_law 4 s #[Value.ref b] lw_all "FrostRingLaw") (hlt : l.stackTraces = false) (hgp : gpI gp) (hX : va_X b L xs s s.heap) (hbl : b < s.heap.size) (hin : ∀ k : Int32, k ∈ ([1, 2, 3, 4, 5] : List Int32) → vp_in (i + k) L) (hl : lv_has ls 4 [(3, .int i), (2, .ref (al 0)), (1, .ref x), (0, .ref b)]) (hce : cells + 9000 ≤ 603072) (hsl : slots + 100000 ≤ 7262314) (hW : b_W gp D K D2 K2 al s Z V2 L2 H locs) (hG : G Z x V2 L2)
    (kk : ∀ (Z' : c_S) (V2' : g_V) (L2' : g_L) (H1 : Heap) (locs1 : List Loc), b_W gp D K D2 K2 al s Z' V2' L2' H1 locs1 → G Z' x V2' L2' → W p l e room_1 s m #[Value.ref b] below meth c H1 locs1 (cells + 9000) (slots + 100000) Q (F0 m 1159 ls [])) : W p l e room_1 s m #[Value.ref b] below meth c H locs cells slots Q (F0 m 911 ls []) := by
  have hx := S.1
  have hb := S.2.1
  have hbA : ¬ s.heap.size ≤ b := Nat.not_le.mpr hbl
  obtain ⟨Sh, V, L0, n⟩ := Z
  obtain ⟨ρ, mm, u, mt, qq, hG⟩ := hG
  obtain ⟨rf, hs, -⟩ := hG.gm
  refine lv_aload_n hx hb dL_law_911 rfl (lv_at hl 2 rfl) ?_
  refine lv_aload_n hx hb dL_law_912 rfl (lv_at hl 3 rfl) ?_
  refine lv_iload_n hx hb dL_law_913 rfl (lv_at hl 0 rfl) ?_
  refine lv_iconst (v := 1) hx hb dL_law_914 (by decide) ?_
  refine lv_iadd hx hb dL_law_915 ?_
  refine va_sld hx hb hX hbl hbA hW.1.1.2.2.2.1 (hin 1 (by decide)) dL_law_916 ?_
  obtain ⟨r, hc, ht⟩ := q_count hG (xs (i + 1).toNatClampNeg)
  refine b_callC (As := [.int (xs (i + 1).toNatClampNeg)]) (rest := []) S hW (metX0_count hc) (cwV 1 S.2.2.2.2 (lw_V q1466 q1467 q1468 q105 q1469) rfl rfl rfl (by decide +kernel) ⟨Nat.le_of_ble_eq_true rfl, Nat.le_of_ble_eq_true rfl⟩) hs rfl hl.1 rfl (Nat.le_of_ble_eq_true rfl) dL_law_917 ⟨by show _ ≤ 603072; omega, by show _ ≤ 7262314; omega⟩ (fun H locs hW => ?_)
  refine lv_aload_n hx hb dL_law_920 rfl (lv_at hl 1 rfl) ?_
  refine lv_aload_n hx hb dL_law_921 rfl (lv_at hl 3 rfl) ?_
  refine lv_iload_n hx hb dL_law_922 rfl (lv_at hl 0 rfl) ?_
  refine lv_iconst (v := 1) hx hb dL_law_923 (by decide) ?_
  refine lv_iadd hx hb dL_law_924 ?_
  refine va_sld hx hb hX hbl hbA hW.1.1.2.2.2.1 (hin 1 (by decide)) dL_law_925 ?_
  refine b_callR (As := [.int (xs (i + 1).toNatClampNeg)]) (rest := [.int r]) S hW (metX8_count ht) (cwV 1 S.2.2.2.2 (lw_V q2016 q2017 q2018 q122 q2019) rfl rfl rfl (by decide +kernel) ⟨Nat.le_of_ble_eq_true rfl, Nat.le_of_ble_eq_true rfl⟩) rfl hl.1 rfl (Nat.le_of_ble_eq_true rfl) dL_law_926 ⟨by show _ ≤ 603072; omega, by show _ ≤ 7262314; omega⟩ (fun H locs hW => ?_)
  refine lv_icmp_eq (tgt := 1159) hx hb dL_law_929 (by decide) (fun _ => ?_) (fun z => absurd rfl z)
  exact W.widen (by omega) (by omega) (kk _ _ _ _ _ hW hG.g)
set_option maxHeartbeats 4000000 in
theorem law_c30 {p : Program} {l : Launch} {e : Env} {s : State} {m : MethodId} {below : List Frame} {meth : Method} {c : Code} {H : Heap} {locs : List Loc} {cells slots : Nat} {Q : State → Prop} {gp : Nat → Nat} {ls : Array Slot} {D D2 : va_G} {K K2 : Nat → ClassId} {al : Nat → Nat} {Z : c_S} {V2 : g_V} {L2 : g_L} {x b L : Nat} {xs : Nat → Int32} {i : Int32} (S : CallFix p m c cL_law 4 s #[Value.ref b] lw_all "FrostRingLaw") (hlt : l.stackTraces = false) (hgp : gpI gp) (hX : va_X b L xs s s.heap) (hbl : b < s.heap.size) (hin : ∀ k : Int32, k ∈ ([1, 2, 3, 4, 5] : List Int32) → vp_in (i + k) L) (hl : lv_has ls 4 [(3, .int i), (2, .ref (al 0)), (1, .ref x), (0, .ref b)]) (hce : cells + 9000 ≤ 603072) (hsl : slots + 100000 ≤ 7262314) (hW : b_W gp D K D2 K2 al s Z V2 L2 H locs) (hG : G Z x V2 L2)
    (kk : ∀ (Z' : c_S) (V2' : g_V) (L2' : g_L) (H1 : Heap) (locs1 : List Loc), b_W gp D K D2 K2 al s Z' V2' L2' H1 locs1 → G Z' x V2' L2' → W p l e room_1 s m #[Value.ref b] below meth c H1 locs1 (cells + 9000) (slots + 100000) Q (F0 m 1159 ls [])) : W p l e room_1 s m #[Value.ref b] below meth c H locs cells slots Q (F0 m 934 ls []) := by
  have hx := S.1
  have hb := S.2.1
  have hbA : ¬ s.heap.size ≤ b := Nat.not_le.mpr hbl
  obtain ⟨Sh, V, L0, n⟩ := Z
  obtain ⟨ρ, mm, u, mt, qq, hG⟩ := hG
  obtain ⟨rf, hs, -⟩ := hG.gm
  refine lv_aload_n hx hb dL_law_934 rfl (lv_at hl 2 rfl) ?_
  refine lv_aload_n hx hb dL_law_935 rfl (lv_at hl 3 rfl) ?_
  refine lv_iload_n hx hb dL_law_936 rfl (lv_at hl 0 rfl) ?_
  refine lv_iconst (v := 1) hx hb dL_law_937 (by decide) ?_
  refine lv_iadd hx hb dL_law_938 ?_
  refine va_sld hx hb hX hbl hbA hW.1.1.2.2.2.1 (hin 1 (by decide)) dL_law_939 ?_
  obtain ⟨r, Z', V', hc, ht, hG'⟩ := q_keep (gp := gp) hG (xs (i + 1).toNatClampNeg)
  refine b_callC (As := [.int (xs (i + 1).toNatClampNeg)]) (rest := []) S hW (metX0_keep hc) (cwV 1 S.2.2.2.2 (lw_V q1470 q1471 q1472 q105 q1473) rfl rfl rfl (by decide +kernel) ⟨Nat.le_of_ble_eq_true rfl, Nat.le_of_ble_eq_true rfl⟩) hs rfl hl.1 rfl (Nat.le_of_ble_eq_true rfl) dL_law_940 ⟨by show _ ≤ 603072; omega, by show _ ≤ 7262314; omega⟩ (fun H locs hW => ?_)
  refine lv_aload_n hx hb dL_law_943 rfl (lv_at hl 1 rfl) ?_
  refine lv_aload_n hx hb dL_law_944 rfl (lv_at hl 3 rfl) ?_
  refine lv_iload_n hx hb dL_law_945 rfl (lv_at hl 0 rfl) ?_
  refine lv_iconst (v := 1) hx hb dL_law_946 (by decide) ?_
  refine lv_iadd hx hb dL_law_947 ?_
  refine va_sld hx hb hX hbl hbA hW.1.1.2.2.2.1 (hin 1 (by decide)) dL_law_948 ?_
  refine b_callR (As := [.int (xs (i + 1).toNatClampNeg)]) (rest := [.int r]) S hW (metX8_keep ht) (cwV 1 S.2.2.2.2 (lw_V q1620 q1621 q1622 q122 q1623) rfl rfl rfl (by decide +kernel) ⟨Nat.le_of_ble_eq_true rfl, Nat.le_of_ble_eq_true rfl⟩) rfl hl.1 rfl (Nat.le_of_ble_eq_true rfl) dL_law_949 ⟨by show _ ≤ 603072; omega, by show _ ≤ 7262314; omega⟩ (fun H locs hW => ?_)
  refine lv_icmp_eq (tgt := 1159) hx hb dL_law_952 (by decide) (fun _ => ?_) (fun z => absurd rfl z)
  exact W.widen (by omega) (by omega) (kk _ _ _ _ _ hW hG')
set_option maxHeartbeats 4000000 in
theorem law_c31 {p : Program} {l : Launch} {e : Env} {s : State} {m : MethodId} {below : List Frame} {meth : Method} {c : Code} {H : Heap} {locs : List Loc} {cells slots : Nat} {Q : State → Prop} {gp : Nat → Nat} {ls : Array Slot} {D D2 : va_G} {K K2 : Nat → ClassId} {al : Nat → Nat} {Z : c_S} {V2 : g_V} {L2 : g_L} {x b L : Nat} {xs : Nat → Int32} {i : Int32} (S : CallFix p m c cL_law 4 s #[Value.ref b] lw_all "FrostRingLaw") (hlt : l.stackTraces = false) (hgp : gpI gp) (hX : va_X b L xs s s.heap) (hbl : b < s.heap.size) (hin : ∀ k : Int32, k ∈ ([1, 2, 3, 4, 5] : List Int32) → vp_in (i + k) L) (hl : lv_has ls 4 [(3, .int i), (2, .ref (al 0)), (1, .ref x), (0, .ref b)]) (hce : cells + 9000 ≤ 603072) (hsl : slots + 100000 ≤ 7262314) (hW : b_W gp D K D2 K2 al s Z V2 L2 H locs) (hG : G Z x V2 L2)
    (kk : ∀ (Z' : c_S) (V2' : g_V) (L2' : g_L) (H1 : Heap) (locs1 : List Loc), b_W gp D K D2 K2 al s Z' V2' L2' H1 locs1 → G Z' x V2' L2' → W p l e room_1 s m #[Value.ref b] below meth c H1 locs1 (cells + 9000) (slots + 100000) Q (F0 m 1159 ls [])) : W p l e room_1 s m #[Value.ref b] below meth c H locs cells slots Q (F0 m 957 ls []) := by
  have hx := S.1
  have hb := S.2.1
  have hbA : ¬ s.heap.size ≤ b := Nat.not_le.mpr hbl
  obtain ⟨Sh, V, L0, n⟩ := Z
  obtain ⟨ρ, mm, u, mt, qq, hG⟩ := hG
  obtain ⟨rf, hs, -⟩ := hG.gm
  refine lv_aload_n hx hb dL_law_957 rfl (lv_at hl 2 rfl) ?_
  refine lv_aload_n hx hb dL_law_958 rfl (lv_at hl 3 rfl) ?_
  refine lv_iload_n hx hb dL_law_959 rfl (lv_at hl 0 rfl) ?_
  refine lv_iconst (v := 1) hx hb dL_law_960 (by decide) ?_
  refine lv_iadd hx hb dL_law_961 ?_
  refine va_sld hx hb hX hbl hbA hW.1.1.2.2.2.1 (hin 1 (by decide)) dL_law_962 ?_
  obtain ⟨r, Z', V', hc, ht, hG'⟩ := q_back (gp := gp) hG (xs (i + 1).toNatClampNeg)
  refine b_callC (As := [.int (xs (i + 1).toNatClampNeg)]) (rest := []) S hW (metX0_back hc) (cwV 1 S.2.2.2.2 (lw_V q1475 q1476 q1477 q105 q1478) rfl rfl rfl (by decide +kernel) ⟨Nat.le_of_ble_eq_true rfl, Nat.le_of_ble_eq_true rfl⟩) hs rfl hl.1 rfl (Nat.le_of_ble_eq_true rfl) dL_law_963 ⟨by show _ ≤ 603072; omega, by show _ ≤ 7262314; omega⟩ (fun H locs hW => ?_)
  refine lv_aload_n hx hb dL_law_966 rfl (lv_at hl 1 rfl) ?_
  refine lv_aload_n hx hb dL_law_967 rfl (lv_at hl 3 rfl) ?_
  refine lv_iload_n hx hb dL_law_968 rfl (lv_at hl 0 rfl) ?_
  refine lv_iconst (v := 1) hx hb dL_law_969 (by decide) ?_
  refine lv_iadd hx hb dL_law_970 ?_
  refine va_sld hx hb hX hbl hbA hW.1.1.2.2.2.1 (hin 1 (by decide)) dL_law_971 ?_
  refine b_callR (As := [.int (xs (i + 1).toNatClampNeg)]) (rest := [.int r]) S hW (metX8_back ht) (cwV 1 S.2.2.2.2 (lw_V q1628 q1629 q1630 q122 q1631) rfl rfl rfl (by decide +kernel) ⟨Nat.le_of_ble_eq_true rfl, Nat.le_of_ble_eq_true rfl⟩) rfl hl.1 rfl (Nat.le_of_ble_eq_true rfl) dL_law_972 ⟨by show _ ≤ 603072; omega, by show _ ≤ 7262314; omega⟩ (fun H locs hW => ?_)
  refine lv_icmp_eq (tgt := 1159) hx hb dL_law_975 (by decide) (fun _ => ?_) (fun z => absurd rfl z)
  exact W.widen (by omega) (by omega) (kk _ _ _ _ _ hW hG')
set_option maxHeartbeats 4000000 in
theorem law_c32 {p : Program} {l : Launch} {e : Env} {s : State} {m : MethodId} {below : List Frame} {meth : Method} {c : Code} {H : Heap} {locs : List Loc} {cells slots : Nat} {Q : State → Prop} {gp : Nat → Nat} {ls : Array Slot} {D D2 : va_G} {K K2 : Nat → ClassId} {al : Nat → Nat} {Z : c_S} {V2 : g_V} {L2 : g_L} {x b L : Nat} {xs : Nat → Int32} {i : Int32} (S : CallFix p m c cL_law 4 s #[Value.ref b] lw_all "FrostRingLaw") (hlt : l.stackTraces = false) (hgp : gpI gp) (hX : va_X b L xs s s.heap) (hbl : b < s.heap.size) (hin : ∀ k : Int32, k ∈ ([1, 2, 3, 4, 5] : List Int32) → vp_in (i + k) L) (hl : lv_has ls 4 [(3, .int i), (2, .ref (al 0)), (1, .ref x), (0, .ref b)]) (hce : cells + 9000 ≤ 603072) (hsl : slots + 100000 ≤ 7262314) (hW : b_W gp D K D2 K2 al s Z V2 L2 H locs) (hG : G Z x V2 L2)
    (kk : ∀ (Z' : c_S) (V2' : g_V) (L2' : g_L) (H1 : Heap) (locs1 : List Loc), b_W gp D K D2 K2 al s Z' V2' L2' H1 locs1 → G Z' x V2' L2' → W p l e room_1 s m #[Value.ref b] below meth c H1 locs1 (cells + 9000) (slots + 100000) Q (F0 m 1159 ls [])) : W p l e room_1 s m #[Value.ref b] below meth c H locs cells slots Q (F0 m 980 ls []) := by
  have hx := S.1
  have hb := S.2.1
  have hbA : ¬ s.heap.size ≤ b := Nat.not_le.mpr hbl
  obtain ⟨Sh, V, L0, n⟩ := Z
  obtain ⟨ρ, mm, u, mt, qq, hG⟩ := hG
  obtain ⟨rf, hs, -⟩ := hG.gm
  refine lv_aload_n hx hb dL_law_980 rfl (lv_at hl 2 rfl) ?_
  refine lv_aload_n hx hb dL_law_981 rfl (lv_at hl 3 rfl) ?_
  refine lv_iload_n hx hb dL_law_982 rfl (lv_at hl 0 rfl) ?_
  refine lv_iconst (v := 1) hx hb dL_law_983 (by decide) ?_
  refine lv_iadd hx hb dL_law_984 ?_
  refine va_sld hx hb hX hbl hbA hW.1.1.2.2.2.1 (hin 1 (by decide)) dL_law_985 ?_
  refine lv_aload_n hx hb dL_law_986 rfl (lv_at hl 3 rfl) ?_
  refine lv_iload_n hx hb dL_law_987 rfl (lv_at hl 0 rfl) ?_
  refine lv_iconst (v := 2) hx hb dL_law_988 (by decide) ?_
  refine lv_iadd hx hb dL_law_989 ?_
  refine va_sld hx hb hX hbl hbA hW.1.1.2.2.2.1 (hin 2 (by decide)) dL_law_990 ?_
  refine lv_aload_n hx hb dL_law_991 rfl (lv_at hl 3 rfl) ?_
  refine lv_iload_n hx hb dL_law_992 rfl (lv_at hl 0 rfl) ?_
  refine lv_iconst (v := 3) hx hb dL_law_993 (by decide) ?_
  refine lv_iadd hx hb dL_law_994 ?_
  refine va_sld hx hb hX hbl hbA hW.1.1.2.2.2.1 (hin 3 (by decide)) dL_law_995 ?_
  obtain ⟨r, Z', V', L', hc, ht, hG'⟩ := q_row hG (xs (i + 1).toNatClampNeg) (xs (i + 2).toNatClampNeg) (xs (i + 3).toNatClampNeg)
  refine b_callCT (As := [.int (xs (i + 1).toNatClampNeg), .int (xs (i + 2).toNatClampNeg), .int (xs (i + 3).toNatClampNeg)]) (rest := []) S hW (metX0_row hlt hc) (cwV 3 S.2.2.2.2 (lw_V q141 q142 q143 q105 q144) rfl rfl rfl (by decide +kernel) ⟨Nat.le_of_ble_eq_true rfl, Nat.le_of_ble_eq_true rfl⟩) hs rfl hl.1 rfl (Nat.le_of_ble_eq_true rfl) dL_law_996 ⟨by show _ ≤ 603072; omega, by show _ ≤ 7262314; omega⟩ (fun H locs hW => ?_)
  refine lv_aload_n hx hb dL_law_999 rfl (lv_at hl 1 rfl) ?_
  refine lv_aload_n hx hb dL_law_1000 rfl (lv_at hl 3 rfl) ?_
  refine lv_iload_n hx hb dL_law_1001 rfl (lv_at hl 0 rfl) ?_
  refine lv_iconst (v := 1) hx hb dL_law_1002 (by decide) ?_
  refine lv_iadd hx hb dL_law_1003 ?_
  refine va_sld hx hb hX hbl hbA hW.1.1.2.2.2.1 (hin 1 (by decide)) dL_law_1004 ?_
  refine lv_aload_n hx hb dL_law_1005 rfl (lv_at hl 3 rfl) ?_
  refine lv_iload_n hx hb dL_law_1006 rfl (lv_at hl 0 rfl) ?_
  refine lv_iconst (v := 2) hx hb dL_law_1007 (by decide) ?_
  refine lv_iadd hx hb dL_law_1008 ?_
  refine va_sld hx hb hX hbl hbA hW.1.1.2.2.2.1 (hin 2 (by decide)) dL_law_1009 ?_
  refine lv_aload_n hx hb dL_law_1010 rfl (lv_at hl 3 rfl) ?_
  refine lv_iload_n hx hb dL_law_1011 rfl (lv_at hl 0 rfl) ?_
  refine lv_iconst (v := 3) hx hb dL_law_1012 (by decide) ?_
  refine lv_iadd hx hb dL_law_1013 ?_
  refine va_sld hx hb hX hbl hbA hW.1.1.2.2.2.1 (hin 3 (by decide)) dL_law_1014 ?_
  refine b_callR (As := [.int (xs (i + 1).toNatClampNeg), .int (xs (i + 2).toNatClampNeg), .int (xs (i + 3).toNatClampNeg)]) (rest := [.int r]) S hW (metX8_row ht) (cwV 3 S.2.2.2.2 (lw_V q2020 q2021 q2022 q122 q2023) rfl rfl rfl (by decide +kernel) ⟨Nat.le_of_ble_eq_true rfl, Nat.le_of_ble_eq_true rfl⟩) rfl hl.1 rfl (Nat.le_of_ble_eq_true rfl) dL_law_1015 ⟨by show _ ≤ 603072; omega, by show _ ≤ 7262314; omega⟩ (fun H locs hW => ?_)
  refine lv_icmp_eq (tgt := 1159) hx hb dL_law_1018 (by decide) (fun _ => ?_) (fun z => absurd rfl z)
  exact W.widen (by omega) (by omega) (kk _ _ _ _ _ hW hG')
set_option maxHeartbeats 4000000 in
theorem law_c33 {p : Program} {l : Launch} {e : Env} {s : State} {m : MethodId} {below : List Frame} {meth : Method} {c : Code} {H : Heap} {locs : List Loc} {cells slots : Nat} {Q : State → Prop} {gp : Nat → Nat} {ls : Array Slot} {D D2 : va_G} {K K2 : Nat → ClassId} {al : Nat → Nat} {Z : c_S} {V2 : g_V} {L2 : g_L} {x b L : Nat} {xs : Nat → Int32} {i : Int32} (S : CallFix p m c cL_law 4 s #[Value.ref b] lw_all "FrostRingLaw") (hlt : l.stackTraces = false) (hgp : gpI gp) (hX : va_X b L xs s s.heap) (hbl : b < s.heap.size) (hin : ∀ k : Int32, k ∈ ([1, 2, 3, 4, 5] : List Int32) → vp_in (i + k) L) (hl : lv_has ls 4 [(3, .int i), (2, .ref (al 0)), (1, .ref x), (0, .ref b)]) (hce : cells + 9000 ≤ 603072) (hsl : slots + 100000 ≤ 7262314) (hW : b_W gp D K D2 K2 al s Z V2 L2 H locs) (hG : G Z x V2 L2)
    (kk : ∀ (Z' : c_S) (V2' : g_V) (L2' : g_L) (H1 : Heap) (locs1 : List Loc), b_W gp D K D2 K2 al s Z' V2' L2' H1 locs1 → G Z' x V2' L2' → W p l e room_1 s m #[Value.ref b] below meth c H1 locs1 (cells + 9000) (slots + 100000) Q (F0 m 1159 ls [])) : W p l e room_1 s m #[Value.ref b] below meth c H locs cells slots Q (F0 m 1023 ls []) := by
  have hx := S.1
  have hb := S.2.1
  have hbA : ¬ s.heap.size ≤ b := Nat.not_le.mpr hbl
  obtain ⟨Sh, V, L0, n⟩ := Z
  obtain ⟨ρ, mm, u, mt, qq, hG⟩ := hG
  obtain ⟨rf, hs, -⟩ := hG.gm
  refine lv_aload_n hx hb dL_law_1023 rfl (lv_at hl 2 rfl) ?_
  refine lv_aload_n hx hb dL_law_1024 rfl (lv_at hl 3 rfl) ?_
  refine lv_iload_n hx hb dL_law_1025 rfl (lv_at hl 0 rfl) ?_
  refine lv_iconst (v := 1) hx hb dL_law_1026 (by decide) ?_
  refine lv_iadd hx hb dL_law_1027 ?_
  refine va_sld hx hb hX hbl hbA hW.1.1.2.2.2.1 (hin 1 (by decide)) dL_law_1028 ?_
  refine lv_aload_n hx hb dL_law_1029 rfl (lv_at hl 3 rfl) ?_
  refine lv_iload_n hx hb dL_law_1030 rfl (lv_at hl 0 rfl) ?_
  refine lv_iconst (v := 2) hx hb dL_law_1031 (by decide) ?_
  refine lv_iadd hx hb dL_law_1032 ?_
  refine va_sld hx hb hX hbl hbA hW.1.1.2.2.2.1 (hin 2 (by decide)) dL_law_1033 ?_
  refine lv_aload_n hx hb dL_law_1034 rfl (lv_at hl 3 rfl) ?_
  refine lv_iload_n hx hb dL_law_1035 rfl (lv_at hl 0 rfl) ?_
  refine lv_iconst (v := 3) hx hb dL_law_1036 (by decide) ?_
  refine lv_iadd hx hb dL_law_1037 ?_
  refine va_sld hx hb hX hbl hbA hW.1.1.2.2.2.1 (hin 3 (by decide)) dL_law_1038 ?_
  refine lv_i2l hx hb dL_law_1039 rfl ?_
  refine lv_bipush (v := 32) hx hb dL_law_1040 (by decide) ?_
  refine lv_lshl hx hb dL_law_1042 rfl ?_
  refine lv_aload_n hx hb dL_law_1043 rfl (lv_at hl 3 rfl) ?_
  refine lv_iload_n hx hb dL_law_1044 rfl (lv_at hl 0 rfl) ?_
  refine lv_iconst (v := 4) hx hb dL_law_1045 (by decide) ?_
  refine lv_iadd hx hb dL_law_1046 ?_
  refine va_sld hx hb hX hbl hbA hW.1.1.2.2.2.1 (hin 4 (by decide)) dL_law_1047 ?_
  refine lv_i2l hx hb dL_law_1048 rfl ?_
  refine lv_ldc2 (v := 4294967295) hx hb S.2.2.2.1 (S.2.2.2.2 _ q2035) dL_law_1049 ?_
  refine lv_land hx hb dL_law_1052 ?_
  refine lv_lor hx hb dL_law_1053 ?_
  obtain ⟨r, Z', L', hc, ht, hG'⟩ := q_write hG (xs (i + 1).toNatClampNeg) (xs (i + 2).toNatClampNeg) (((xs (i + 3).toNatClampNeg).toInt64 <<< ((32 : Int32).toInt64 &&& 63)) ||| ((xs (i + 4).toNatClampNeg).toInt64 &&& 4294967295))
  refine b_callCT (As := [.int (xs (i + 1).toNatClampNeg), .int (xs (i + 2).toNatClampNeg), .long (((xs (i + 3).toNatClampNeg).toInt64 <<< ((32 : Int32).toInt64 &&& 63)) ||| ((xs (i + 4).toNatClampNeg).toInt64 &&& 4294967295))]) (rest := []) S hW (metX0_write hlt hc) (cwV 3 S.2.2.2.2 (lw_V q247 q248 q249 q105 q250) rfl rfl rfl (by decide +kernel) ⟨Nat.le_of_ble_eq_true rfl, Nat.le_of_ble_eq_true rfl⟩) hs rfl hl.1 rfl (Nat.le_of_ble_eq_true rfl) dL_law_1054 ⟨by show _ ≤ 603072; omega, by show _ ≤ 7262314; omega⟩ (fun H locs hW => ?_)
  refine lv_aload_n hx hb dL_law_1057 rfl (lv_at hl 1 rfl) ?_
  refine lv_aload_n hx hb dL_law_1058 rfl (lv_at hl 3 rfl) ?_
  refine lv_iload_n hx hb dL_law_1059 rfl (lv_at hl 0 rfl) ?_
  refine lv_iconst (v := 1) hx hb dL_law_1060 (by decide) ?_
  refine lv_iadd hx hb dL_law_1061 ?_
  refine va_sld hx hb hX hbl hbA hW.1.1.2.2.2.1 (hin 1 (by decide)) dL_law_1062 ?_
  refine lv_aload_n hx hb dL_law_1063 rfl (lv_at hl 3 rfl) ?_
  refine lv_iload_n hx hb dL_law_1064 rfl (lv_at hl 0 rfl) ?_
  refine lv_iconst (v := 2) hx hb dL_law_1065 (by decide) ?_
  refine lv_iadd hx hb dL_law_1066 ?_
  refine va_sld hx hb hX hbl hbA hW.1.1.2.2.2.1 (hin 2 (by decide)) dL_law_1067 ?_
  refine lv_aload_n hx hb dL_law_1068 rfl (lv_at hl 3 rfl) ?_
  refine lv_iload_n hx hb dL_law_1069 rfl (lv_at hl 0 rfl) ?_
  refine lv_iconst (v := 3) hx hb dL_law_1070 (by decide) ?_
  refine lv_iadd hx hb dL_law_1071 ?_
  refine va_sld hx hb hX hbl hbA hW.1.1.2.2.2.1 (hin 3 (by decide)) dL_law_1072 ?_
  refine lv_i2l hx hb dL_law_1073 rfl ?_
  refine lv_bipush (v := 32) hx hb dL_law_1074 (by decide) ?_
  refine lv_lshl hx hb dL_law_1076 rfl ?_
  refine lv_aload_n hx hb dL_law_1077 rfl (lv_at hl 3 rfl) ?_
  refine lv_iload_n hx hb dL_law_1078 rfl (lv_at hl 0 rfl) ?_
  refine lv_iconst (v := 4) hx hb dL_law_1079 (by decide) ?_
  refine lv_iadd hx hb dL_law_1080 ?_
  refine va_sld hx hb hX hbl hbA hW.1.1.2.2.2.1 (hin 4 (by decide)) dL_law_1081 ?_
  refine lv_i2l hx hb dL_law_1082 rfl ?_
  refine lv_ldc2 (v := 4294967295) hx hb S.2.2.2.1 (S.2.2.2.2 _ q2035) dL_law_1083 ?_
  refine lv_land hx hb dL_law_1086 ?_
  refine lv_lor hx hb dL_law_1087 ?_
  refine b_callR (As := [.int (xs (i + 1).toNatClampNeg), .int (xs (i + 2).toNatClampNeg), .long (((xs (i + 3).toNatClampNeg).toInt64 <<< ((32 : Int32).toInt64 &&& 63)) ||| ((xs (i + 4).toNatClampNeg).toInt64 &&& 4294967295))]) (rest := [.int r]) S hW (metX8_write ht) (cwV 3 S.2.2.2.2 (lw_V q2024 q2025 q2026 q122 q2027) rfl rfl rfl (by decide +kernel) ⟨Nat.le_of_ble_eq_true rfl, Nat.le_of_ble_eq_true rfl⟩) rfl hl.1 rfl (Nat.le_of_ble_eq_true rfl) dL_law_1088 ⟨by show _ ≤ 603072; omega, by show _ ≤ 7262314; omega⟩ (fun H locs hW => ?_)
  refine lv_icmp_eq (tgt := 1159) hx hb dL_law_1091 (by decide) (fun _ => ?_) (fun z => absurd rfl z)
  exact W.widen (by omega) (by omega) (kk _ _ _ _ _ hW hG')
set_option maxHeartbeats 4000000 in
theorem law_c34 {p : Program} {l : Launch} {e : Env} {s : State} {m : MethodId} {below : List Frame} {meth : Method} {c : Code} {H : Heap} {locs : List Loc} {cells slots : Nat} {Q : State → Prop} {gp : Nat → Nat} {ls : Array Slot} {D D2 : va_G} {K K2 : Nat → ClassId} {al : Nat → Nat} {Z : c_S} {V2 : g_V} {L2 : g_L} {x b L : Nat} {xs : Nat → Int32} {i : Int32} (S : CallFix p m c cL_law 4 s #[Value.ref b] lw_all "FrostRingLaw") (hlt : l.stackTraces = false) (hgp : gpI gp) (hX : va_X b L xs s s.heap) (hbl : b < s.heap.size) (hin : ∀ k : Int32, k ∈ ([1, 2, 3, 4, 5] : List Int32) → vp_in (i + k) L) (hl : lv_has ls 4 [(3, .int i), (2, .ref (al 0)), (1, .ref x), (0, .ref b)]) (hce : cells + 9000 ≤ 603072) (hsl : slots + 100000 ≤ 7262314) (hW : b_W gp D K D2 K2 al s Z V2 L2 H locs) (hG : G Z x V2 L2)
    (kk : ∀ (Z' : c_S) (V2' : g_V) (L2' : g_L) (H1 : Heap) (locs1 : List Loc), b_W gp D K D2 K2 al s Z' V2' L2' H1 locs1 → G Z' x V2' L2' → W p l e room_1 s m #[Value.ref b] below meth c H1 locs1 (cells + 9000) (slots + 100000) Q (F0 m 1159 ls [])) : W p l e room_1 s m #[Value.ref b] below meth c H locs cells slots Q (F0 m 1096 ls []) := by
  have hx := S.1
  have hb := S.2.1
  have hbA : ¬ s.heap.size ≤ b := Nat.not_le.mpr hbl
  obtain ⟨Sh, V, L0, n⟩ := Z
  obtain ⟨ρ, mm, u, mt, qq, hG⟩ := hG
  obtain ⟨rf, hs, -⟩ := hG.gm
  refine lv_aload_n hx hb dL_law_1096 rfl (lv_at hl 2 rfl) ?_
  refine lv_aload_n hx hb dL_law_1097 rfl (lv_at hl 3 rfl) ?_
  refine lv_iload_n hx hb dL_law_1098 rfl (lv_at hl 0 rfl) ?_
  refine lv_iconst (v := 1) hx hb dL_law_1099 (by decide) ?_
  refine lv_iadd hx hb dL_law_1100 ?_
  refine va_sld hx hb hX hbl hbA hW.1.1.2.2.2.1 (hin 1 (by decide)) dL_law_1101 ?_
  refine lv_aload_n hx hb dL_law_1102 rfl (lv_at hl 3 rfl) ?_
  refine lv_iload_n hx hb dL_law_1103 rfl (lv_at hl 0 rfl) ?_
  refine lv_iconst (v := 2) hx hb dL_law_1104 (by decide) ?_
  refine lv_iadd hx hb dL_law_1105 ?_
  refine va_sld hx hb hX hbl hbA hW.1.1.2.2.2.1 (hin 2 (by decide)) dL_law_1106 ?_
  refine lv_aload_n hx hb dL_law_1107 rfl (lv_at hl 3 rfl) ?_
  refine lv_iload_n hx hb dL_law_1108 rfl (lv_at hl 0 rfl) ?_
  refine lv_iconst (v := 3) hx hb dL_law_1109 (by decide) ?_
  refine lv_iadd hx hb dL_law_1110 ?_
  refine va_sld hx hb hX hbl hbA hW.1.1.2.2.2.1 (hin 3 (by decide)) dL_law_1111 ?_
  refine lv_aload_n hx hb dL_law_1112 rfl (lv_at hl 3 rfl) ?_
  refine lv_iload_n hx hb dL_law_1113 rfl (lv_at hl 0 rfl) ?_
  refine lv_iconst (v := 4) hx hb dL_law_1114 (by decide) ?_
  refine lv_iadd hx hb dL_law_1115 ?_
  refine va_sld hx hb hX hbl hbA hW.1.1.2.2.2.1 (hin 4 (by decide)) dL_law_1116 ?_
  refine lv_aload_n hx hb dL_law_1117 rfl (lv_at hl 3 rfl) ?_
  refine lv_iload_n hx hb dL_law_1118 rfl (lv_at hl 0 rfl) ?_
  refine lv_iconst (v := 5) hx hb dL_law_1119 (by decide) ?_
  refine lv_iadd hx hb dL_law_1120 ?_
  refine va_sld hx hb hX hbl hbA hW.1.1.2.2.2.1 (hin 5 (by decide)) dL_law_1121 ?_
  obtain ⟨r, Z', L', hc, ht, hG'⟩ := q_paste hG (xs (i + 1).toNatClampNeg) (xs (i + 2).toNatClampNeg) (xs (i + 3).toNatClampNeg) (xs (i + 4).toNatClampNeg) (xs (i + 5).toNatClampNeg)
  refine b_callCT (As := [.int (xs (i + 1).toNatClampNeg), .int (xs (i + 2).toNatClampNeg), .int (xs (i + 3).toNatClampNeg), .int (xs (i + 4).toNatClampNeg), .int (xs (i + 5).toNatClampNeg)]) (rest := []) S hW (metX0_paste hlt hc) (cwV 5 S.2.2.2.2 (lw_V q326 q327 q328 q105 q329) rfl rfl rfl (by decide +kernel) ⟨Nat.le_of_ble_eq_true rfl, Nat.le_of_ble_eq_true rfl⟩) hs rfl hl.1 rfl (Nat.le_of_ble_eq_true rfl) dL_law_1122 ⟨by show _ ≤ 603072; omega, by show _ ≤ 7262314; omega⟩ (fun H locs hW => ?_)
  refine lv_aload_n hx hb dL_law_1125 rfl (lv_at hl 1 rfl) ?_
  refine lv_aload_n hx hb dL_law_1126 rfl (lv_at hl 3 rfl) ?_
  refine lv_iload_n hx hb dL_law_1127 rfl (lv_at hl 0 rfl) ?_
  refine lv_iconst (v := 1) hx hb dL_law_1128 (by decide) ?_
  refine lv_iadd hx hb dL_law_1129 ?_
  refine va_sld hx hb hX hbl hbA hW.1.1.2.2.2.1 (hin 1 (by decide)) dL_law_1130 ?_
  refine lv_aload_n hx hb dL_law_1131 rfl (lv_at hl 3 rfl) ?_
  refine lv_iload_n hx hb dL_law_1132 rfl (lv_at hl 0 rfl) ?_
  refine lv_iconst (v := 2) hx hb dL_law_1133 (by decide) ?_
  refine lv_iadd hx hb dL_law_1134 ?_
  refine va_sld hx hb hX hbl hbA hW.1.1.2.2.2.1 (hin 2 (by decide)) dL_law_1135 ?_
  refine lv_aload_n hx hb dL_law_1136 rfl (lv_at hl 3 rfl) ?_
  refine lv_iload_n hx hb dL_law_1137 rfl (lv_at hl 0 rfl) ?_
  refine lv_iconst (v := 3) hx hb dL_law_1138 (by decide) ?_
  refine lv_iadd hx hb dL_law_1139 ?_
  refine va_sld hx hb hX hbl hbA hW.1.1.2.2.2.1 (hin 3 (by decide)) dL_law_1140 ?_
  refine lv_aload_n hx hb dL_law_1141 rfl (lv_at hl 3 rfl) ?_
  refine lv_iload_n hx hb dL_law_1142 rfl (lv_at hl 0 rfl) ?_
  refine lv_iconst (v := 4) hx hb dL_law_1143 (by decide) ?_
  refine lv_iadd hx hb dL_law_1144 ?_
  refine va_sld hx hb hX hbl hbA hW.1.1.2.2.2.1 (hin 4 (by decide)) dL_law_1145 ?_
  refine lv_aload_n hx hb dL_law_1146 rfl (lv_at hl 3 rfl) ?_
  refine lv_iload_n hx hb dL_law_1147 rfl (lv_at hl 0 rfl) ?_
  refine lv_iconst (v := 5) hx hb dL_law_1148 (by decide) ?_
  refine lv_iadd hx hb dL_law_1149 ?_
  refine va_sld hx hb hX hbl hbA hW.1.1.2.2.2.1 (hin 5 (by decide)) dL_law_1150 ?_
  refine b_callR (As := [.int (xs (i + 1).toNatClampNeg), .int (xs (i + 2).toNatClampNeg), .int (xs (i + 3).toNatClampNeg), .int (xs (i + 4).toNatClampNeg), .int (xs (i + 5).toNatClampNeg)]) (rest := [.int r]) S hW (metX8_paste ht) (cwV 5 S.2.2.2.2 (lw_V q2031 q2032 q2033 q122 q2034) rfl rfl rfl (by decide +kernel) ⟨Nat.le_of_ble_eq_true rfl, Nat.le_of_ble_eq_true rfl⟩) rfl hl.1 rfl (Nat.le_of_ble_eq_true rfl) dL_law_1151 ⟨by show _ ≤ 603072; omega, by show _ ≤ 7262314; omega⟩ (fun H locs hW => ?_)
  refine lv_icmp_eq (tgt := 1159) hx hb dL_law_1154 (by decide) (fun _ => ?_) (fun z => absurd rfl z)
  exact W.widen (by omega) (by omega) (kk _ _ _ _ _ hW hG')
