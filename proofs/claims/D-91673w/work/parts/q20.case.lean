/-! the law's cases (printed by gen/law.py) -/
set_option maxRecDepth 100000
set_option maxHeartbeats 4000000 in
theorem law_c0 {p : Program} {l : Launch} {e : Env} {s : State} {m : MethodId} {below : List Frame} {meth : Method} {c : Code} {H : Heap} {locs : List Loc} {cells slots : Nat} {Q : State → Prop} {gp : Nat → Nat} {ls : Array Slot} {D D2 : va_G} {K K2 : Nat → ClassId} {al : Nat → Nat} {Z : c_S} {V2 : g_V} {L2 : g_L} {x b L : Nat} {xs : Nat → Int32} {i : Int32} (S : CallFix p m c cL_law 4 s #[Value.ref b] lw_all "FrostRingLaw") (hlt : l.stackTraces = false) (hgp : gpI gp) (hX : va_X b L xs s s.heap) (hbl : b < s.heap.size) (hin : ∀ k : Int32, k ∈ ([1, 2, 3, 4, 5] : List Int32) → vp_in (i + k) L) (hl : lv_has ls 4 [(3, .int i), (2, .ref (al 0)), (1, .ref x), (0, .ref b)]) (hce : cells + 9000 ≤ 603072) (hsl : slots + 100000 ≤ 7262314) (hW : b_W gp D K D2 K2 al s Z V2 L2 H locs) (hG : G Z x V2 L2)
    (kk : ∀ (Z' : c_S) (V2' : g_V) (L2' : g_L) (H1 : Heap) (locs1 : List Loc), b_W gp D K D2 K2 al s Z' V2' L2' H1 locs1 → G Z' x V2' L2' → W p l e room_1 s m #[Value.ref b] below meth c H1 locs1 (cells + 9000) (slots + 100000) Q (F0 m 1159 ls [])) : W p l e room_1 s m #[Value.ref b] below meth c H locs cells slots Q (F0 m 188 ls []) := by
  have hx := S.1
  have hb := S.2.1
  have hbA : ¬ s.heap.size ≤ b := Nat.not_le.mpr hbl
  obtain ⟨Sh, V, L0, n⟩ := Z
  obtain ⟨ρ, mm, u, mt, qq, hG⟩ := hG
  obtain ⟨rf, hs, -⟩ := hG.gm
  refine lv_aload_n hx hb dL_law_188 rfl (lv_at hl 2 rfl) ?_
  refine lv_aload_n hx hb dL_law_189 rfl (lv_at hl 3 rfl) ?_
  refine lv_iload_n hx hb dL_law_190 rfl (lv_at hl 0 rfl) ?_
  refine lv_iconst (v := 1) hx hb dL_law_191 (by decide) ?_
  refine lv_iadd hx hb dL_law_192 ?_
  refine va_sld hx hb hX hbl hbA hW.1.1.2.2.2.1 (hin 1 (by decide)) dL_law_193 ?_
  refine lv_aload_n hx hb dL_law_194 rfl (lv_at hl 3 rfl) ?_
  refine lv_iload_n hx hb dL_law_195 rfl (lv_at hl 0 rfl) ?_
  refine lv_iconst (v := 2) hx hb dL_law_196 (by decide) ?_
  refine lv_iadd hx hb dL_law_197 ?_
  refine va_sld hx hb hX hbl hbA hW.1.1.2.2.2.1 (hin 2 (by decide)) dL_law_198 ?_
  refine lv_aload_n hx hb dL_law_199 rfl (lv_at hl 3 rfl) ?_
  refine lv_iload_n hx hb dL_law_200 rfl (lv_at hl 0 rfl) ?_
  refine lv_iconst (v := 3) hx hb dL_law_201 (by decide) ?_
  refine lv_iadd hx hb dL_law_202 ?_
  refine va_sld hx hb hX hbl hbA hW.1.1.2.2.2.1 (hin 3 (by decide)) dL_law_203 ?_
  refine lv_aload_n hx hb dL_law_204 rfl (lv_at hl 3 rfl) ?_
  refine lv_iload_n hx hb dL_law_205 rfl (lv_at hl 0 rfl) ?_
  refine lv_iconst (v := 4) hx hb dL_law_206 (by decide) ?_
  refine lv_iadd hx hb dL_law_207 ?_
  refine va_sld hx hb hX hbl hbA hW.1.1.2.2.2.1 (hin 4 (by decide)) dL_law_208 ?_
  refine lv_aload_n hx hb dL_law_209 rfl (lv_at hl 3 rfl) ?_
  refine lv_iload_n hx hb dL_law_210 rfl (lv_at hl 0 rfl) ?_
  refine lv_iconst (v := 5) hx hb dL_law_211 (by decide) ?_
  refine lv_iadd hx hb dL_law_212 ?_
  refine va_sld hx hb hX hbl hbA hW.1.1.2.2.2.1 (hin 5 (by decide)) dL_law_213 ?_
  obtain ⟨r, Z', V', hc, ht, hG'⟩ := q_feed hG (xs (i + 1).toNatClampNeg) (xs (i + 2).toNatClampNeg) (xs (i + 3).toNatClampNeg) (xs (i + 4).toNatClampNeg) (xs (i + 5).toNatClampNeg)
  refine b_callC (As := [.int (xs (i + 1).toNatClampNeg), .int (xs (i + 2).toNatClampNeg), .int (xs (i + 3).toNatClampNeg), .int (xs (i + 4).toNatClampNeg), .int (xs (i + 5).toNatClampNeg)]) (rest := []) S hW (metX0_feed hc) (cwV 5 S.2.2.2.2 (lw_V q789 q790 q791 q105 q792) rfl rfl rfl (by decide +kernel) ⟨Nat.le_of_ble_eq_true rfl, Nat.le_of_ble_eq_true rfl⟩) hs rfl hl.1 rfl (Nat.le_of_ble_eq_true rfl) dL_law_214 ⟨by show _ ≤ 603072; omega, by show _ ≤ 7262314; omega⟩ (fun H locs hW => ?_)
  refine lv_aload_n hx hb dL_law_217 rfl (lv_at hl 1 rfl) ?_
  refine lv_aload_n hx hb dL_law_218 rfl (lv_at hl 3 rfl) ?_
  refine lv_iload_n hx hb dL_law_219 rfl (lv_at hl 0 rfl) ?_
  refine lv_iconst (v := 1) hx hb dL_law_220 (by decide) ?_
  refine lv_iadd hx hb dL_law_221 ?_
  refine va_sld hx hb hX hbl hbA hW.1.1.2.2.2.1 (hin 1 (by decide)) dL_law_222 ?_
  refine lv_aload_n hx hb dL_law_223 rfl (lv_at hl 3 rfl) ?_
  refine lv_iload_n hx hb dL_law_224 rfl (lv_at hl 0 rfl) ?_
  refine lv_iconst (v := 2) hx hb dL_law_225 (by decide) ?_
  refine lv_iadd hx hb dL_law_226 ?_
  refine va_sld hx hb hX hbl hbA hW.1.1.2.2.2.1 (hin 2 (by decide)) dL_law_227 ?_
  refine lv_aload_n hx hb dL_law_228 rfl (lv_at hl 3 rfl) ?_
  refine lv_iload_n hx hb dL_law_229 rfl (lv_at hl 0 rfl) ?_
  refine lv_iconst (v := 3) hx hb dL_law_230 (by decide) ?_
  refine lv_iadd hx hb dL_law_231 ?_
  refine va_sld hx hb hX hbl hbA hW.1.1.2.2.2.1 (hin 3 (by decide)) dL_law_232 ?_
  refine lv_aload_n hx hb dL_law_233 rfl (lv_at hl 3 rfl) ?_
  refine lv_iload_n hx hb dL_law_234 rfl (lv_at hl 0 rfl) ?_
  refine lv_iconst (v := 4) hx hb dL_law_235 (by decide) ?_
  refine lv_iadd hx hb dL_law_236 ?_
  refine va_sld hx hb hX hbl hbA hW.1.1.2.2.2.1 (hin 4 (by decide)) dL_law_237 ?_
  refine lv_aload_n hx hb dL_law_238 rfl (lv_at hl 3 rfl) ?_
  refine lv_iload_n hx hb dL_law_239 rfl (lv_at hl 0 rfl) ?_
  refine lv_iconst (v := 5) hx hb dL_law_240 (by decide) ?_
  refine lv_iadd hx hb dL_law_241 ?_
  refine va_sld hx hb hX hbl hbA hW.1.1.2.2.2.1 (hin 5 (by decide)) dL_law_242 ?_
  refine b_callR (As := [.int (xs (i + 1).toNatClampNeg), .int (xs (i + 2).toNatClampNeg), .int (xs (i + 3).toNatClampNeg), .int (xs (i + 4).toNatClampNeg), .int (xs (i + 5).toNatClampNeg)]) (rest := [.int r]) S hW (metX8_feed ht) (cwV 5 S.2.2.2.2 (lw_V q1632 q1633 q1634 q122 q1635) rfl rfl rfl (by decide +kernel) ⟨Nat.le_of_ble_eq_true rfl, Nat.le_of_ble_eq_true rfl⟩) rfl hl.1 rfl (Nat.le_of_ble_eq_true rfl) dL_law_243 ⟨by show _ ≤ 603072; omega, by show _ ≤ 7262314; omega⟩ (fun H locs hW => ?_)
  refine lv_icmp_eq (tgt := 1159) hx hb dL_law_246 (by decide) (fun _ => ?_) (fun z => absurd rfl z)
  exact W.widen (by omega) (by omega) (kk _ _ _ _ _ hW hG')
set_option maxHeartbeats 4000000 in
theorem law_c1 {p : Program} {l : Launch} {e : Env} {s : State} {m : MethodId} {below : List Frame} {meth : Method} {c : Code} {H : Heap} {locs : List Loc} {cells slots : Nat} {Q : State → Prop} {gp : Nat → Nat} {ls : Array Slot} {D D2 : va_G} {K K2 : Nat → ClassId} {al : Nat → Nat} {Z : c_S} {V2 : g_V} {L2 : g_L} {x b L : Nat} {xs : Nat → Int32} {i : Int32} (S : CallFix p m c cL_law 4 s #[Value.ref b] lw_all "FrostRingLaw") (hlt : l.stackTraces = false) (hgp : gpI gp) (hX : va_X b L xs s s.heap) (hbl : b < s.heap.size) (hin : ∀ k : Int32, k ∈ ([1, 2, 3, 4, 5] : List Int32) → vp_in (i + k) L) (hl : lv_has ls 4 [(3, .int i), (2, .ref (al 0)), (1, .ref x), (0, .ref b)]) (hce : cells + 9000 ≤ 603072) (hsl : slots + 100000 ≤ 7262314) (hW : b_W gp D K D2 K2 al s Z V2 L2 H locs) (hG : G Z x V2 L2)
    (kk : ∀ (Z' : c_S) (V2' : g_V) (L2' : g_L) (H1 : Heap) (locs1 : List Loc), b_W gp D K D2 K2 al s Z' V2' L2' H1 locs1 → G Z' x V2' L2' → W p l e room_1 s m #[Value.ref b] below meth c H1 locs1 (cells + 9000) (slots + 100000) Q (F0 m 1159 ls [])) : W p l e room_1 s m #[Value.ref b] below meth c H locs cells slots Q (F0 m 251 ls []) := by
  have hx := S.1
  have hb := S.2.1
  have hbA : ¬ s.heap.size ≤ b := Nat.not_le.mpr hbl
  obtain ⟨Sh, V, L0, n⟩ := Z
  obtain ⟨ρ, mm, u, mt, qq, hG⟩ := hG
  obtain ⟨rf, hs, -⟩ := hG.gm
  refine lv_aload_n hx hb dL_law_251 rfl (lv_at hl 2 rfl) ?_
  refine lv_aload_n hx hb dL_law_252 rfl (lv_at hl 3 rfl) ?_
  refine lv_iload_n hx hb dL_law_253 rfl (lv_at hl 0 rfl) ?_
  refine lv_iconst (v := 1) hx hb dL_law_254 (by decide) ?_
  refine lv_iadd hx hb dL_law_255 ?_
  refine va_sld hx hb hX hbl hbA hW.1.1.2.2.2.1 (hin 1 (by decide)) dL_law_256 ?_
  obtain ⟨r, Z', V', hc, ht, hG'⟩ := q_end hG (xs (i + 1).toNatClampNeg)
  refine b_callC (As := [.int (xs (i + 1).toNatClampNeg)]) (rest := []) S hW (metX0_end hc) (cwV 1 S.2.2.2.2 (lw_V q797 q798 q799 q105 q800) rfl rfl rfl (by decide +kernel) ⟨Nat.le_of_ble_eq_true rfl, Nat.le_of_ble_eq_true rfl⟩) hs rfl hl.1 rfl (Nat.le_of_ble_eq_true rfl) dL_law_257 ⟨by show _ ≤ 603072; omega, by show _ ≤ 7262314; omega⟩ (fun H locs hW => ?_)
  refine lv_aload_n hx hb dL_law_260 rfl (lv_at hl 1 rfl) ?_
  refine lv_aload_n hx hb dL_law_261 rfl (lv_at hl 3 rfl) ?_
  refine lv_iload_n hx hb dL_law_262 rfl (lv_at hl 0 rfl) ?_
  refine lv_iconst (v := 1) hx hb dL_law_263 (by decide) ?_
  refine lv_iadd hx hb dL_law_264 ?_
  refine va_sld hx hb hX hbl hbA hW.1.1.2.2.2.1 (hin 1 (by decide)) dL_law_265 ?_
  refine b_callR (As := [.int (xs (i + 1).toNatClampNeg)]) (rest := [.int r]) S hW (metX8_end ht) (cwV 1 S.2.2.2.2 (lw_V q1636 q1637 q1638 q122 q1639) rfl rfl rfl (by decide +kernel) ⟨Nat.le_of_ble_eq_true rfl, Nat.le_of_ble_eq_true rfl⟩) rfl hl.1 rfl (Nat.le_of_ble_eq_true rfl) dL_law_266 ⟨by show _ ≤ 603072; omega, by show _ ≤ 7262314; omega⟩ (fun H locs hW => ?_)
  refine lv_icmp_eq (tgt := 1159) hx hb dL_law_269 (by decide) (fun _ => ?_) (fun z => absurd rfl z)
  exact W.widen (by omega) (by omega) (kk _ _ _ _ _ hW hG')
set_option maxHeartbeats 4000000 in
theorem law_c2 {p : Program} {l : Launch} {e : Env} {s : State} {m : MethodId} {below : List Frame} {meth : Method} {c : Code} {H : Heap} {locs : List Loc} {cells slots : Nat} {Q : State → Prop} {gp : Nat → Nat} {ls : Array Slot} {D D2 : va_G} {K K2 : Nat → ClassId} {al : Nat → Nat} {Z : c_S} {V2 : g_V} {L2 : g_L} {x b L : Nat} {xs : Nat → Int32} {i : Int32} (S : CallFix p m c cL_law 4 s #[Value.ref b] lw_all "FrostRingLaw") (hlt : l.stackTraces = false) (hgp : gpI gp) (hX : va_X b L xs s s.heap) (hbl : b < s.heap.size) (hin : ∀ k : Int32, k ∈ ([1, 2, 3, 4, 5] : List Int32) → vp_in (i + k) L) (hl : lv_has ls 4 [(3, .int i), (2, .ref (al 0)), (1, .ref x), (0, .ref b)]) (hce : cells + 9000 ≤ 603072) (hsl : slots + 100000 ≤ 7262314) (hW : b_W gp D K D2 K2 al s Z V2 L2 H locs) (hG : G Z x V2 L2)
    (kk : ∀ (Z' : c_S) (V2' : g_V) (L2' : g_L) (H1 : Heap) (locs1 : List Loc), b_W gp D K D2 K2 al s Z' V2' L2' H1 locs1 → G Z' x V2' L2' → W p l e room_1 s m #[Value.ref b] below meth c H1 locs1 (cells + 9000) (slots + 100000) Q (F0 m 1159 ls [])) : W p l e room_1 s m #[Value.ref b] below meth c H locs cells slots Q (F0 m 274 ls []) := by
  have hx := S.1
  have hb := S.2.1
  have hbA : ¬ s.heap.size ≤ b := Nat.not_le.mpr hbl
  obtain ⟨Sh, V, L0, n⟩ := Z
  obtain ⟨ρ, mm, u, mt, qq, hG⟩ := hG
  obtain ⟨rf, hs, -⟩ := hG.gm
  refine lv_aload_n hx hb dL_law_274 rfl (lv_at hl 2 rfl) ?_
  obtain ⟨r, Z', V', hc, ht, hG'⟩ := q_text (gp := gp) hG hgp
  refine b_callCTW (As := []) (rest := []) S hW (metX0_text hc) (zcwVW 0 S.2.2.2.2 q801 q802 q803 q105 q804 rfl rfl ⟨by decide, by decide, by decide +kernel⟩ ⟨Nat.le_of_ble_eq_true rfl, Nat.le_of_ble_eq_true rfl⟩) hs rfl hl.1 rfl (Nat.le_of_ble_eq_true rfl) dL_law_275 ⟨by show _ ≤ 603072; omega, by show _ ≤ 7262314; omega⟩ (fun H locs hW => ?_)
  refine lv_aload_n hx hb dL_law_278 rfl (lv_at hl 1 rfl) ?_
  refine b_callR (As := []) (rest := [.int r]) S hW (metX8_text ht) (cwV 0 S.2.2.2.2 (lw_V q1640 q1641 q1642 q122 q1643) rfl rfl rfl (by decide +kernel) ⟨Nat.le_of_ble_eq_true rfl, Nat.le_of_ble_eq_true rfl⟩) rfl hl.1 rfl (Nat.le_of_ble_eq_true rfl) dL_law_279 ⟨by show _ ≤ 603072; omega, by show _ ≤ 7262314; omega⟩ (fun H locs hW => ?_)
  refine lv_icmp_eq (tgt := 1159) hx hb dL_law_282 (by decide) (fun _ => ?_) (fun z => absurd rfl z)
  exact W.widen (by omega) (by omega) (kk _ _ _ _ _ hW hG')
set_option maxHeartbeats 4000000 in
theorem law_c3 {p : Program} {l : Launch} {e : Env} {s : State} {m : MethodId} {below : List Frame} {meth : Method} {c : Code} {H : Heap} {locs : List Loc} {cells slots : Nat} {Q : State → Prop} {gp : Nat → Nat} {ls : Array Slot} {D D2 : va_G} {K K2 : Nat → ClassId} {al : Nat → Nat} {Z : c_S} {V2 : g_V} {L2 : g_L} {x b L : Nat} {xs : Nat → Int32} {i : Int32} (S : CallFix p m c cL_law 4 s #[Value.ref b] lw_all "FrostRingLaw") (hlt : l.stackTraces = false) (hgp : gpI gp) (hX : va_X b L xs s s.heap) (hbl : b < s.heap.size) (hin : ∀ k : Int32, k ∈ ([1, 2, 3, 4, 5] : List Int32) → vp_in (i + k) L) (hl : lv_has ls 4 [(3, .int i), (2, .ref (al 0)), (1, .ref x), (0, .ref b)]) (hce : cells + 9000 ≤ 603072) (hsl : slots + 100000 ≤ 7262314) (hW : b_W gp D K D2 K2 al s Z V2 L2 H locs) (hG : G Z x V2 L2)
    (kk : ∀ (Z' : c_S) (V2' : g_V) (L2' : g_L) (H1 : Heap) (locs1 : List Loc), b_W gp D K D2 K2 al s Z' V2' L2' H1 locs1 → G Z' x V2' L2' → W p l e room_1 s m #[Value.ref b] below meth c H1 locs1 (cells + 9000) (slots + 100000) Q (F0 m 1159 ls [])) : W p l e room_1 s m #[Value.ref b] below meth c H locs cells slots Q (F0 m 287 ls []) := by
  have hx := S.1
  have hb := S.2.1
  have hbA : ¬ s.heap.size ≤ b := Nat.not_le.mpr hbl
  obtain ⟨Sh, V, L0, n⟩ := Z
  obtain ⟨ρ, mm, u, mt, qq, hG⟩ := hG
  obtain ⟨rf, hs, -⟩ := hG.gm
  refine lv_aload_n hx hb dL_law_287 rfl (lv_at hl 2 rfl) ?_
  refine lv_aload_n hx hb dL_law_288 rfl (lv_at hl 3 rfl) ?_
  refine lv_iload_n hx hb dL_law_289 rfl (lv_at hl 0 rfl) ?_
  refine lv_iconst (v := 1) hx hb dL_law_290 (by decide) ?_
  refine lv_iadd hx hb dL_law_291 ?_
  refine va_sld hx hb hX hbl hbA hW.1.1.2.2.2.1 (hin 1 (by decide)) dL_law_292 ?_
  obtain ⟨r, hc, ht⟩ := q_fault hG (xs (i + 1).toNatClampNeg)
  refine b_callC (As := [.int (xs (i + 1).toNatClampNeg)]) (rest := []) S hW (metX0_fault hc) (cwV 1 S.2.2.2.2 (lw_V q1095 q1096 q1097 q105 q1098) rfl rfl rfl (by decide +kernel) ⟨Nat.le_of_ble_eq_true rfl, Nat.le_of_ble_eq_true rfl⟩) hs rfl hl.1 rfl (Nat.le_of_ble_eq_true rfl) dL_law_293 ⟨by show _ ≤ 603072; omega, by show _ ≤ 7262314; omega⟩ (fun H locs hW => ?_)
  refine lv_aload_n hx hb dL_law_296 rfl (lv_at hl 1 rfl) ?_
  refine lv_aload_n hx hb dL_law_297 rfl (lv_at hl 3 rfl) ?_
  refine lv_iload_n hx hb dL_law_298 rfl (lv_at hl 0 rfl) ?_
  refine lv_iconst (v := 1) hx hb dL_law_299 (by decide) ?_
  refine lv_iadd hx hb dL_law_300 ?_
  refine va_sld hx hb hX hbl hbA hW.1.1.2.2.2.1 (hin 1 (by decide)) dL_law_301 ?_
  refine b_callR (As := [.int (xs (i + 1).toNatClampNeg)]) (rest := [.int r]) S hW (metX8_fault ht) (cwV 1 S.2.2.2.2 (lw_V q1758 q1759 q1760 q122 q1761) rfl rfl rfl (by decide +kernel) ⟨Nat.le_of_ble_eq_true rfl, Nat.le_of_ble_eq_true rfl⟩) rfl hl.1 rfl (Nat.le_of_ble_eq_true rfl) dL_law_302 ⟨by show _ ≤ 603072; omega, by show _ ≤ 7262314; omega⟩ (fun H locs hW => ?_)
  refine lv_icmp_eq (tgt := 1159) hx hb dL_law_305 (by decide) (fun _ => ?_) (fun z => absurd rfl z)
  exact W.widen (by omega) (by omega) (kk _ _ _ _ _ hW hG.g)
set_option maxHeartbeats 4000000 in
theorem law_c4 {p : Program} {l : Launch} {e : Env} {s : State} {m : MethodId} {below : List Frame} {meth : Method} {c : Code} {H : Heap} {locs : List Loc} {cells slots : Nat} {Q : State → Prop} {gp : Nat → Nat} {ls : Array Slot} {D D2 : va_G} {K K2 : Nat → ClassId} {al : Nat → Nat} {Z : c_S} {V2 : g_V} {L2 : g_L} {x b L : Nat} {xs : Nat → Int32} {i : Int32} (S : CallFix p m c cL_law 4 s #[Value.ref b] lw_all "FrostRingLaw") (hlt : l.stackTraces = false) (hgp : gpI gp) (hX : va_X b L xs s s.heap) (hbl : b < s.heap.size) (hin : ∀ k : Int32, k ∈ ([1, 2, 3, 4, 5] : List Int32) → vp_in (i + k) L) (hl : lv_has ls 4 [(3, .int i), (2, .ref (al 0)), (1, .ref x), (0, .ref b)]) (hce : cells + 9000 ≤ 603072) (hsl : slots + 100000 ≤ 7262314) (hW : b_W gp D K D2 K2 al s Z V2 L2 H locs) (hG : G Z x V2 L2)
    (kk : ∀ (Z' : c_S) (V2' : g_V) (L2' : g_L) (H1 : Heap) (locs1 : List Loc), b_W gp D K D2 K2 al s Z' V2' L2' H1 locs1 → G Z' x V2' L2' → W p l e room_1 s m #[Value.ref b] below meth c H1 locs1 (cells + 9000) (slots + 100000) Q (F0 m 1159 ls [])) : W p l e room_1 s m #[Value.ref b] below meth c H locs cells slots Q (F0 m 310 ls []) := by
  have hx := S.1
  have hb := S.2.1
  have hbA : ¬ s.heap.size ≤ b := Nat.not_le.mpr hbl
  obtain ⟨Sh, V, L0, n⟩ := Z
  obtain ⟨ρ, mm, u, mt, qq, hG⟩ := hG
  obtain ⟨rf, hs, -⟩ := hG.gm
  refine lv_aload_n hx hb dL_law_310 rfl (lv_at hl 2 rfl) ?_
  refine lv_aload_n hx hb dL_law_311 rfl (lv_at hl 3 rfl) ?_
  refine lv_iload_n hx hb dL_law_312 rfl (lv_at hl 0 rfl) ?_
  refine lv_iconst (v := 1) hx hb dL_law_313 (by decide) ?_
  refine lv_iadd hx hb dL_law_314 ?_
  refine va_sld hx hb hX hbl hbA hW.1.1.2.2.2.1 (hin 1 (by decide)) dL_law_315 ?_
  obtain ⟨r, Z', V', hc, ht, hG'⟩ := q_tick hG (xs (i + 1).toNatClampNeg)
  refine b_callC (As := [.int (xs (i + 1).toNatClampNeg)]) (rest := []) S hW (metX0_tick hc) (cwV 1 S.2.2.2.2 (lw_V q1099 q1100 q1101 q105 q1102) rfl rfl rfl (by decide +kernel) ⟨Nat.le_of_ble_eq_true rfl, Nat.le_of_ble_eq_true rfl⟩) hs rfl hl.1 rfl (Nat.le_of_ble_eq_true rfl) dL_law_316 ⟨by show _ ≤ 603072; omega, by show _ ≤ 7262314; omega⟩ (fun H locs hW => ?_)
  refine lv_aload_n hx hb dL_law_319 rfl (lv_at hl 1 rfl) ?_
  refine lv_aload_n hx hb dL_law_320 rfl (lv_at hl 3 rfl) ?_
  refine lv_iload_n hx hb dL_law_321 rfl (lv_at hl 0 rfl) ?_
  refine lv_iconst (v := 1) hx hb dL_law_322 (by decide) ?_
  refine lv_iadd hx hb dL_law_323 ?_
  refine va_sld hx hb hX hbl hbA hW.1.1.2.2.2.1 (hin 1 (by decide)) dL_law_324 ?_
  refine b_callR (As := [.int (xs (i + 1).toNatClampNeg)]) (rest := [.int r]) S hW (metX8_tick ht) (cwV 1 S.2.2.2.2 (lw_V q1762 q1763 q1764 q122 q1765) rfl rfl rfl (by decide +kernel) ⟨Nat.le_of_ble_eq_true rfl, Nat.le_of_ble_eq_true rfl⟩) rfl hl.1 rfl (Nat.le_of_ble_eq_true rfl) dL_law_325 ⟨by show _ ≤ 603072; omega, by show _ ≤ 7262314; omega⟩ (fun H locs hW => ?_)
  refine lv_icmp_eq (tgt := 1159) hx hb dL_law_328 (by decide) (fun _ => ?_) (fun z => absurd rfl z)
  exact W.widen (by omega) (by omega) (kk _ _ _ _ _ hW hG')
set_option maxHeartbeats 4000000 in
theorem law_c5 {p : Program} {l : Launch} {e : Env} {s : State} {m : MethodId} {below : List Frame} {meth : Method} {c : Code} {H : Heap} {locs : List Loc} {cells slots : Nat} {Q : State → Prop} {gp : Nat → Nat} {ls : Array Slot} {D D2 : va_G} {K K2 : Nat → ClassId} {al : Nat → Nat} {Z : c_S} {V2 : g_V} {L2 : g_L} {x b L : Nat} {xs : Nat → Int32} {i : Int32} (S : CallFix p m c cL_law 4 s #[Value.ref b] lw_all "FrostRingLaw") (hlt : l.stackTraces = false) (hgp : gpI gp) (hX : va_X b L xs s s.heap) (hbl : b < s.heap.size) (hin : ∀ k : Int32, k ∈ ([1, 2, 3, 4, 5] : List Int32) → vp_in (i + k) L) (hl : lv_has ls 4 [(3, .int i), (2, .ref (al 0)), (1, .ref x), (0, .ref b)]) (hce : cells + 9000 ≤ 603072) (hsl : slots + 100000 ≤ 7262314) (hW : b_W gp D K D2 K2 al s Z V2 L2 H locs) (hG : G Z x V2 L2)
    (kk : ∀ (Z' : c_S) (V2' : g_V) (L2' : g_L) (H1 : Heap) (locs1 : List Loc), b_W gp D K D2 K2 al s Z' V2' L2' H1 locs1 → G Z' x V2' L2' → W p l e room_1 s m #[Value.ref b] below meth c H1 locs1 (cells + 9000) (slots + 100000) Q (F0 m 1159 ls [])) : W p l e room_1 s m #[Value.ref b] below meth c H locs cells slots Q (F0 m 333 ls []) := by
  have hx := S.1
  have hb := S.2.1
  have hbA : ¬ s.heap.size ≤ b := Nat.not_le.mpr hbl
  obtain ⟨Sh, V, L0, n⟩ := Z
  obtain ⟨ρ, mm, u, mt, qq, hG⟩ := hG
  obtain ⟨rf, hs, -⟩ := hG.gm
  refine lv_aload_n hx hb dL_law_333 rfl (lv_at hl 2 rfl) ?_
  refine lv_aload_n hx hb dL_law_334 rfl (lv_at hl 3 rfl) ?_
  refine lv_iload_n hx hb dL_law_335 rfl (lv_at hl 0 rfl) ?_
  refine lv_iconst (v := 1) hx hb dL_law_336 (by decide) ?_
  refine lv_iadd hx hb dL_law_337 ?_
  refine va_sld hx hb hX hbl hbA hW.1.1.2.2.2.1 (hin 1 (by decide)) dL_law_338 ?_
  refine lv_aload_n hx hb dL_law_339 rfl (lv_at hl 3 rfl) ?_
  refine lv_iload_n hx hb dL_law_340 rfl (lv_at hl 0 rfl) ?_
  refine lv_iconst (v := 2) hx hb dL_law_341 (by decide) ?_
  refine lv_iadd hx hb dL_law_342 ?_
  refine va_sld hx hb hX hbl hbA hW.1.1.2.2.2.1 (hin 2 (by decide)) dL_law_343 ?_
  refine lv_aload_n hx hb dL_law_344 rfl (lv_at hl 3 rfl) ?_
  refine lv_iload_n hx hb dL_law_345 rfl (lv_at hl 0 rfl) ?_
  refine lv_iconst (v := 3) hx hb dL_law_346 (by decide) ?_
  refine lv_iadd hx hb dL_law_347 ?_
  refine va_sld hx hb hX hbl hbA hW.1.1.2.2.2.1 (hin 3 (by decide)) dL_law_348 ?_
  obtain ⟨r, hc, ht⟩ := q_cell hG (xs (i + 1).toNatClampNeg) (xs (i + 2).toNatClampNeg) (xs (i + 3).toNatClampNeg)
  refine b_callC (As := [.int (xs (i + 1).toNatClampNeg), .int (xs (i + 2).toNatClampNeg), .int (xs (i + 3).toNatClampNeg)]) (rest := []) S hW (metX0_cell hc) (cwV 3 S.2.2.2.2 (lw_V q1177 q1178 q1179 q105 q1180) rfl rfl rfl (by decide +kernel) ⟨Nat.le_of_ble_eq_true rfl, Nat.le_of_ble_eq_true rfl⟩) hs rfl hl.1 rfl (Nat.le_of_ble_eq_true rfl) dL_law_349 ⟨by show _ ≤ 603072; omega, by show _ ≤ 7262314; omega⟩ (fun H locs hW => ?_)
  refine lv_aload_n hx hb dL_law_352 rfl (lv_at hl 1 rfl) ?_
  refine lv_aload_n hx hb dL_law_353 rfl (lv_at hl 3 rfl) ?_
  refine lv_iload_n hx hb dL_law_354 rfl (lv_at hl 0 rfl) ?_
  refine lv_iconst (v := 1) hx hb dL_law_355 (by decide) ?_
  refine lv_iadd hx hb dL_law_356 ?_
  refine va_sld hx hb hX hbl hbA hW.1.1.2.2.2.1 (hin 1 (by decide)) dL_law_357 ?_
  refine lv_aload_n hx hb dL_law_358 rfl (lv_at hl 3 rfl) ?_
  refine lv_iload_n hx hb dL_law_359 rfl (lv_at hl 0 rfl) ?_
  refine lv_iconst (v := 2) hx hb dL_law_360 (by decide) ?_
  refine lv_iadd hx hb dL_law_361 ?_
  refine va_sld hx hb hX hbl hbA hW.1.1.2.2.2.1 (hin 2 (by decide)) dL_law_362 ?_
  refine lv_aload_n hx hb dL_law_363 rfl (lv_at hl 3 rfl) ?_
  refine lv_iload_n hx hb dL_law_364 rfl (lv_at hl 0 rfl) ?_
  refine lv_iconst (v := 3) hx hb dL_law_365 (by decide) ?_
  refine lv_iadd hx hb dL_law_366 ?_
  refine va_sld hx hb hX hbl hbA hW.1.1.2.2.2.1 (hin 3 (by decide)) dL_law_367 ?_
  refine b_callR (As := [.int (xs (i + 1).toNatClampNeg), .int (xs (i + 2).toNatClampNeg), .int (xs (i + 3).toNatClampNeg)]) (rest := [.int r]) S hW (metX8_cell ht) (cwV 3 S.2.2.2.2 (lw_V q1838 q1839 q1840 q122 q1841) rfl rfl rfl (by decide +kernel) ⟨Nat.le_of_ble_eq_true rfl, Nat.le_of_ble_eq_true rfl⟩) rfl hl.1 rfl (Nat.le_of_ble_eq_true rfl) dL_law_368 ⟨by show _ ≤ 603072; omega, by show _ ≤ 7262314; omega⟩ (fun H locs hW => ?_)
  refine lv_icmp_eq (tgt := 1159) hx hb dL_law_371 (by decide) (fun _ => ?_) (fun z => absurd rfl z)
  exact W.widen (by omega) (by omega) (kk _ _ _ _ _ hW hG.g)
set_option maxHeartbeats 4000000 in
theorem law_c6 {p : Program} {l : Launch} {e : Env} {s : State} {m : MethodId} {below : List Frame} {meth : Method} {c : Code} {H : Heap} {locs : List Loc} {cells slots : Nat} {Q : State → Prop} {gp : Nat → Nat} {ls : Array Slot} {D D2 : va_G} {K K2 : Nat → ClassId} {al : Nat → Nat} {Z : c_S} {V2 : g_V} {L2 : g_L} {x b L : Nat} {xs : Nat → Int32} {i : Int32} (S : CallFix p m c cL_law 4 s #[Value.ref b] lw_all "FrostRingLaw") (hlt : l.stackTraces = false) (hgp : gpI gp) (hX : va_X b L xs s s.heap) (hbl : b < s.heap.size) (hin : ∀ k : Int32, k ∈ ([1, 2, 3, 4, 5] : List Int32) → vp_in (i + k) L) (hl : lv_has ls 4 [(3, .int i), (2, .ref (al 0)), (1, .ref x), (0, .ref b)]) (hce : cells + 9000 ≤ 603072) (hsl : slots + 100000 ≤ 7262314) (hW : b_W gp D K D2 K2 al s Z V2 L2 H locs) (hG : G Z x V2 L2)
    (kk : ∀ (Z' : c_S) (V2' : g_V) (L2' : g_L) (H1 : Heap) (locs1 : List Loc), b_W gp D K D2 K2 al s Z' V2' L2' H1 locs1 → G Z' x V2' L2' → W p l e room_1 s m #[Value.ref b] below meth c H1 locs1 (cells + 9000) (slots + 100000) Q (F0 m 1159 ls [])) : W p l e room_1 s m #[Value.ref b] below meth c H locs cells slots Q (F0 m 376 ls []) := by
  have hx := S.1
  have hb := S.2.1
  have hbA : ¬ s.heap.size ≤ b := Nat.not_le.mpr hbl
  obtain ⟨Sh, V, L0, n⟩ := Z
  obtain ⟨ρ, mm, u, mt, qq, hG⟩ := hG
  obtain ⟨rf, hs, -⟩ := hG.gm
  refine lv_aload_n hx hb dL_law_376 rfl (lv_at hl 2 rfl) ?_
  refine lv_aload_n hx hb dL_law_377 rfl (lv_at hl 3 rfl) ?_
  refine lv_iload_n hx hb dL_law_378 rfl (lv_at hl 0 rfl) ?_
  refine lv_iconst (v := 1) hx hb dL_law_379 (by decide) ?_
  refine lv_iadd hx hb dL_law_380 ?_
  refine va_sld hx hb hX hbl hbA hW.1.1.2.2.2.1 (hin 1 (by decide)) dL_law_381 ?_
  obtain ⟨r, hc, ht⟩ := q_heat hG (xs (i + 1).toNatClampNeg)
  refine b_callC (As := [.int (xs (i + 1).toNatClampNeg)]) (rest := []) S hW (metX0_heat hc) (cwV 1 S.2.2.2.2 (lw_V q1197 q1198 q1199 q105 q1200) rfl rfl rfl (by decide +kernel) ⟨Nat.le_of_ble_eq_true rfl, Nat.le_of_ble_eq_true rfl⟩) hs rfl hl.1 rfl (Nat.le_of_ble_eq_true rfl) dL_law_382 ⟨by show _ ≤ 603072; omega, by show _ ≤ 7262314; omega⟩ (fun H locs hW => ?_)
  refine lv_aload_n hx hb dL_law_385 rfl (lv_at hl 1 rfl) ?_
  refine lv_aload_n hx hb dL_law_386 rfl (lv_at hl 3 rfl) ?_
  refine lv_iload_n hx hb dL_law_387 rfl (lv_at hl 0 rfl) ?_
  refine lv_iconst (v := 1) hx hb dL_law_388 (by decide) ?_
  refine lv_iadd hx hb dL_law_389 ?_
  refine va_sld hx hb hX hbl hbA hW.1.1.2.2.2.1 (hin 1 (by decide)) dL_law_390 ?_
  refine b_callR (As := [.int (xs (i + 1).toNatClampNeg)]) (rest := [.int r]) S hW (metX8_heat ht) (cwV 1 S.2.2.2.2 (lw_V q1847 q1848 q1849 q122 q1850) rfl rfl rfl (by decide +kernel) ⟨Nat.le_of_ble_eq_true rfl, Nat.le_of_ble_eq_true rfl⟩) rfl hl.1 rfl (Nat.le_of_ble_eq_true rfl) dL_law_391 ⟨by show _ ≤ 603072; omega, by show _ ≤ 7262314; omega⟩ (fun H locs hW => ?_)
  refine lv_icmp_eq (tgt := 1159) hx hb dL_law_394 (by decide) (fun _ => ?_) (fun z => absurd rfl z)
  exact W.widen (by omega) (by omega) (kk _ _ _ _ _ hW hG.g)
