/-! the law's loop (printed by gen/loop.py) -/
set_option maxRecDepth 100000
theorem in_sm {j k L : Nat} (h : j + k < L) (hL : L ≤ 384) : vp_in (nI j + nI k) L := by
  intro z
  rw [nI_add] at z
  rcases z with z | z
  · exact nI_n0 (by omega) z
  · rw [nI_clamp (by omega)] at z; omega
theorem sub6 {L j : Nat} (hL : L ≤ 384) (hj : 6 * j ≤ 390) : (nI L - 6 < nI (6 * j)) = (L < 6 * j + 6) := by
  have e : (nI L - 6).toInt = (L : Int) - 6 := by
    rw [Int32.toInt_sub, nI_toInt (by omega), show (6 : Int32).toInt = 6 from rfl]
    exact Int.bmod_eq_of_le (by omega) (by omega)
  rw [Int32.lt_iff_toInt_lt, e, nI_toInt (by omega)]
  apply propext
  omega
set_option maxHeartbeats 4000000 in
theorem law_loop {p : Program} {l : Launch} {e : Env} {s : State} {m : MethodId} {below : List Frame} {meth : Method} {c : Code} {Q : State → Prop} {gp : Nat → Nat} {D D2 : va_G} {K K2 : Nat → ClassId} {al : Nat → Nat} {x b L : Nat} {xs : Nat → Int32} (hL : L ≤ 384)
    (S : CallFix p m c cL_law 4 s #[Value.ref b] lw_all "FrostRingLaw") (hlt : l.stackTraces = false) (hgp : gpI gp) (hX : va_X b L xs s s.heap) (hbl : b < s.heap.size)
    (he : ∀ (H : Heap) (ls : Array Slot), W p l e room_1 s m #[Value.ref b] below meth c H [] 603072 7262314 Q (F0 m 1166 ls [.int 1])) :
    ∀ (n j : Nat), 64 < j + n → 6 * j ≤ 390 → ∀ (cells slots : Nat) (H : Heap) (locs : List Loc) (ls : Array Slot) (Z : c_S) (V2 : g_V) (L2 : g_L), cells ≤ 500 + 9000 * j → slots ≤ 15000 + 100000 * j → lv_has ls 4 [(3, .int (nI (6 * j))), (2, .ref (al 0)), (1, .ref x), (0, .ref b)] → b_W gp D K D2 K2 al s Z V2 L2 H locs → G Z x V2 L2 → W p l e room_1 s m #[Value.ref b] below meth c H locs cells slots Q (F0 m 18 ls []) := by
  have hx := S.1
  have hb := S.2.1
  have hbA : ¬ s.heap.size ≤ b := Nat.not_le.mpr hbl
  have ends : ∀ (j : Nat) (cells slots : Nat) (H : Heap) (locs : List Loc) (ls : Array Slot) (Z : c_S) (V2 : g_V) (L2 : g_L), 6 * j ≤ 390 → cells ≤ 500 + 9000 * j → slots ≤ 15000 + 100000 * j → b_W gp D K D2 K2 al s Z V2 L2 H locs → W p l e room_1 s m #[Value.ref b] below meth c H locs cells slots Q (F0 m 1165 ls []) := by
    intro j cells slots H locs ls Z V2 L2 hj hc hsl hW
    refine lv_iconst (v := 1) hx hb dL_law_1165 (by decide) ?_
    refine va_forget (fun q hq => hW.1.1.2.2.2.1.2.2 q hq) ?_
    exact W.widen (by omega) (by omega) (he _ _)
  intro n
  induction n with
  | zero =>
    intro j h1 h2
    intro cells slots H locs ls Z V2 L2 hc hsl hl hW hG
    refine lv_iload_n hx hb dL_law_18 rfl (lv_at hl 0 rfl) ?_
    refine lv_aload_n hx hb dL_law_19 rfl (lv_at hl 3 rfl) ?_
    refine va_slen hx hb hX hbl hbA hW.1.1.2.2.2.1 dL_law_20 ?_
    refine lv_bipush (v := 6) hx hb dL_law_21 (by decide) ?_
    refine lv_isub hx hb dL_law_23 ?_
    refine lv_icmp_gt (tgt := 1165) hx hb dL_law_24 (by decide) (fun z => ?_) (fun z => ?_)
    · exact ends j _ _ _ _ _ _ _ _ h2 hc hsl hW
    · exact absurd (show nI L - 6 < nI (6 * j) by rw [sub6 hL h2]; omega) z
  | succ n ih =>
    intro j h1 h2 cells slots H locs ls Z V2 L2 hc hsl hl hW hG
    refine lv_iload_n hx hb dL_law_18 rfl (lv_at hl 0 rfl) ?_
    refine lv_aload_n hx hb dL_law_19 rfl (lv_at hl 3 rfl) ?_
    refine va_slen hx hb hX hbl hbA hW.1.1.2.2.2.1 dL_law_20 ?_
    refine lv_bipush (v := 6) hx hb dL_law_21 (by decide) ?_
    refine lv_isub hx hb dL_law_23 ?_
    refine lv_icmp_gt (tgt := 1165) hx hb dL_law_24 (by decide) (fun z => ?_) (fun z => ?_)
    · exact ends j _ _ _ _ _ _ _ _ h2 hc hsl hW
    · have hj : 6 * j + 6 ≤ L := by
        have z : ¬ nI L - 6 < nI (6 * j) := z
        rw [sub6 hL h2] at z
        omega
      have hin : ∀ k : Int32, k ∈ ([1, 2, 3, 4, 5] : List Int32) → vp_in (nI (6 * j) + k) L := by
        intro k hk
        simp only [List.mem_cons, List.not_mem_nil, or_false] at hk
        rcases hk with rfl | rfl | rfl | rfl | rfl
        · exact in_sm (k := 1) (by omega) hL
        · exact in_sm (k := 2) (by omega) hL
        · exact in_sm (k := 3) (by omega) hL
        · exact in_sm (k := 4) (by omega) hL
        · exact in_sm (k := 5) (by omega) hL
      have h0 : vp_in (nI (6 * j)) L := by
        intro z
        rcases z with z | z
        · exact nI_n0 (by omega) z
        · rw [nI_clamp (by omega)] at z; omega
      have kk : ∀ (Z' : c_S) (V2' : g_V) (L2' : g_L) (H1 : Heap) (locs1 : List Loc), b_W gp D K D2 K2 al s Z' V2' L2' H1 locs1 → G Z' x V2' L2' → W p l e room_1 s m #[Value.ref b] below meth c H1 locs1 (cells + 9000) (slots + 100000) Q (F0 m 1159 ls []) := by
        intro Z' V2' L2' H1 locs1 hW hG
        refine lv_iinc (v := nI (6 * (j + 1))) (lv' := [(3, .int (nI (6 * (j + 1)))), (2, .ref (al 0)), (1, .ref x), (0, .ref b)]) hx hb dL_law_1159 hl (k := 0) rfl ?_ (by decide) rfl (fun ls hl => ?_)
        · show nI (6 * j) + nI 6 = _
          rw [nI_add, show 6 * j + 6 = 6 * (j + 1) by omega]
        · refine lv_goto (tgt := 18) hx hb dL_law_1162 (by decide) ?_
          exact ih (j + 1) (by omega) (by omega) _ _ _ _ _ _ _ _ (by omega) (by omega) hl hW hG
      have hce : cells + 9000 ≤ 603072 := by omega
      have hsl2 : slots + 100000 ≤ 7262314 := by omega
      refine lv_aload_n hx hb dL_law_27 rfl (lv_at hl 3 rfl) ?_
      refine lv_iload_n hx hb dL_law_28 rfl (lv_at hl 0 rfl) ?_
      refine va_sld hx hb hX hbl hbA hW.1.1.2.2.2.1 h0 dL_law_29 ?_
      refine lv_bipush (v := 63) hx hb dL_law_30 (by decide) ?_
      refine lv_iand hx hb dL_law_32 ?_
      generalize xs (nI (6 * j)).toNatClampNeg &&& 63 = v
      by_cases c_0 : v = 0
      · exact lv_tableIn (off := 155) (tgt := 188) hx hb dL_law_33 (by rw [c_0]; decide) (by rw [c_0]; decide) (by rw [c_0]; decide) (by decide) (law_c0 S hlt hgp hX hbl hin hl hce hsl2 hW hG kk)
      by_cases c_1 : v = 1
      · exact lv_tableIn (off := 218) (tgt := 251) hx hb dL_law_33 (by rw [c_1]; decide) (by rw [c_1]; decide) (by rw [c_1]; decide) (by decide) (law_c1 S hlt hgp hX hbl hin hl hce hsl2 hW hG kk)
      by_cases c_2 : v = 2
      · exact lv_tableIn (off := 241) (tgt := 274) hx hb dL_law_33 (by rw [c_2]; decide) (by rw [c_2]; decide) (by rw [c_2]; decide) (by decide) (law_c2 S hlt hgp hX hbl hin hl hce hsl2 hW hG kk)
      by_cases c_3 : v = 3
      · exact lv_tableIn (off := 254) (tgt := 287) hx hb dL_law_33 (by rw [c_3]; decide) (by rw [c_3]; decide) (by rw [c_3]; decide) (by decide) (law_c3 S hlt hgp hX hbl hin hl hce hsl2 hW hG kk)
      by_cases c_4 : v = 4
      · exact lv_tableIn (off := 277) (tgt := 310) hx hb dL_law_33 (by rw [c_4]; decide) (by rw [c_4]; decide) (by rw [c_4]; decide) (by decide) (law_c4 S hlt hgp hX hbl hin hl hce hsl2 hW hG kk)
      by_cases c_5 : v = 5
      · exact lv_tableIn (off := 300) (tgt := 333) hx hb dL_law_33 (by rw [c_5]; decide) (by rw [c_5]; decide) (by rw [c_5]; decide) (by decide) (law_c5 S hlt hgp hX hbl hin hl hce hsl2 hW hG kk)
      by_cases c_6 : v = 6
      · exact lv_tableIn (off := 343) (tgt := 376) hx hb dL_law_33 (by rw [c_6]; decide) (by rw [c_6]; decide) (by rw [c_6]; decide) (by decide) (law_c6 S hlt hgp hX hbl hin hl hce hsl2 hW hG kk)
      by_cases c_7 : v = 7
      · exact lv_tableIn (off := 366) (tgt := 399) hx hb dL_law_33 (by rw [c_7]; decide) (by rw [c_7]; decide) (by rw [c_7]; decide) (by decide) (law_c7 S hlt hgp hX hbl hin hl hce hsl2 hW hG kk)
      by_cases c_8 : v = 8
      · exact lv_tableIn (off := 415) (tgt := 448) hx hb dL_law_33 (by rw [c_8]; decide) (by rw [c_8]; decide) (by rw [c_8]; decide) (by decide) (law_c8 S hlt hgp hX hbl hin hl hce hsl2 hW hG kk)
      by_cases c_9 : v = 9
      · exact lv_tableIn (off := 448) (tgt := 481) hx hb dL_law_33 (by rw [c_9]; decide) (by rw [c_9]; decide) (by rw [c_9]; decide) (by decide) (law_c9 S hlt hgp hX hbl hin hl hce hsl2 hW hG kk)
      by_cases c_10 : v = 10
      · exact lv_tableIn (off := 471) (tgt := 504) hx hb dL_law_33 (by rw [c_10]; decide) (by rw [c_10]; decide) (by rw [c_10]; decide) (by decide) (law_c10 S hlt hgp hX hbl hin hl hce hsl2 hW hG kk)
      by_cases c_11 : v = 11
      · exact lv_tableIn (off := 484) (tgt := 517) hx hb dL_law_33 (by rw [c_11]; decide) (by rw [c_11]; decide) (by rw [c_11]; decide) (by decide) (law_c11 S hlt hgp hX hbl hin hl hce hsl2 hW hG kk)
      by_cases c_12 : v = 12
      · exact lv_tableIn (off := 497) (tgt := 530) hx hb dL_law_33 (by rw [c_12]; decide) (by rw [c_12]; decide) (by rw [c_12]; decide) (by decide) (law_c12 S hlt hgp hX hbl hin hl hce hsl2 hW hG kk)
      by_cases c_13 : v = 13
      · exact lv_tableIn (off := 510) (tgt := 543) hx hb dL_law_33 (by rw [c_13]; decide) (by rw [c_13]; decide) (by rw [c_13]; decide) (by decide) (law_c13 S hlt hgp hX hbl hin hl hce hsl2 hW hG kk)
      by_cases c_14 : v = 14
      · exact lv_tableIn (off := 533) (tgt := 566) hx hb dL_law_33 (by rw [c_14]; decide) (by rw [c_14]; decide) (by rw [c_14]; decide) (by decide) (law_c14 S hlt hgp hX hbl hin hl hce hsl2 hW hG kk)
      by_cases c_15 : v = 15
      · exact lv_tableIn (off := 546) (tgt := 579) hx hb dL_law_33 (by rw [c_15]; decide) (by rw [c_15]; decide) (by rw [c_15]; decide) (by decide) (law_c15 S hlt hgp hX hbl hin hl hce hsl2 hW hG kk)
      by_cases c_16 : v = 16
      · exact lv_tableIn (off := 579) (tgt := 612) hx hb dL_law_33 (by rw [c_16]; decide) (by rw [c_16]; decide) (by rw [c_16]; decide) (by decide) (law_c16 S hlt hgp hX hbl hin hl hce hsl2 hW hG kk)
      by_cases c_17 : v = 17
      · exact lv_tableIn (off := 602) (tgt := 635) hx hb dL_law_33 (by rw [c_17]; decide) (by rw [c_17]; decide) (by rw [c_17]; decide) (by decide) (law_c17 S hlt hgp hX hbl hin hl hce hsl2 hW hG kk)
      by_cases c_18 : v = 18
      · exact lv_tableIn (off := 615) (tgt := 648) hx hb dL_law_33 (by rw [c_18]; decide) (by rw [c_18]; decide) (by rw [c_18]; decide) (by decide) (law_c18 S hlt hgp hX hbl hin hl hce hsl2 hW hG kk)
      by_cases c_19 : v = 19
      · exact lv_tableIn (off := 638) (tgt := 671) hx hb dL_law_33 (by rw [c_19]; decide) (by rw [c_19]; decide) (by rw [c_19]; decide) (by decide) (law_c19 S hlt hgp hX hbl hin hl hce hsl2 hW hG kk)
      by_cases c_20 : v = 20
      · exact lv_tableIn (off := 651) (tgt := 684) hx hb dL_law_33 (by rw [c_20]; decide) (by rw [c_20]; decide) (by rw [c_20]; decide) (by decide) (law_c20 S hlt hgp hX hbl hin hl hce hsl2 hW hG kk)
      by_cases c_21 : v = 21
      · exact lv_tableIn (off := 684) (tgt := 717) hx hb dL_law_33 (by rw [c_21]; decide) (by rw [c_21]; decide) (by rw [c_21]; decide) (by decide) (law_c21 S hlt hgp hX hbl hin hl hce hsl2 hW hG kk)
      by_cases c_22 : v = 22
      · exact lv_tableIn (off := 697) (tgt := 730) hx hb dL_law_33 (by rw [c_22]; decide) (by rw [c_22]; decide) (by rw [c_22]; decide) (by decide) (law_c22 S hlt hgp hX hbl hin hl hce hsl2 hW hG kk)
      by_cases c_23 : v = 23
      · exact lv_tableIn (off := 710) (tgt := 743) hx hb dL_law_33 (by rw [c_23]; decide) (by rw [c_23]; decide) (by rw [c_23]; decide) (by decide) (law_c23 S hlt hgp hX hbl hin hl hce hsl2 hW hG kk)
      by_cases c_24 : v = 24
      · exact lv_tableIn (off := 743) (tgt := 776) hx hb dL_law_33 (by rw [c_24]; decide) (by rw [c_24]; decide) (by rw [c_24]; decide) (by decide) (law_c24 S hlt hgp hX hbl hin hl hce hsl2 hW hG kk)
      by_cases c_25 : v = 25
      · exact lv_tableIn (off := 756) (tgt := 789) hx hb dL_law_33 (by rw [c_25]; decide) (by rw [c_25]; decide) (by rw [c_25]; decide) (by decide) (law_c25 S hlt hgp hX hbl hin hl hce hsl2 hW hG kk)
      by_cases c_26 : v = 26
      · exact lv_tableIn (off := 809) (tgt := 842) hx hb dL_law_33 (by rw [c_26]; decide) (by rw [c_26]; decide) (by rw [c_26]; decide) (by decide) (law_c26 S hlt hgp hX hbl hin hl hce hsl2 hW hG kk)
      by_cases c_27 : v = 27
      · exact lv_tableIn (off := 832) (tgt := 865) hx hb dL_law_33 (by rw [c_27]; decide) (by rw [c_27]; decide) (by rw [c_27]; decide) (by decide) (law_c27 S hlt hgp hX hbl hin hl hce hsl2 hW hG kk)
      by_cases c_28 : v = 28
      · exact lv_tableIn (off := 855) (tgt := 888) hx hb dL_law_33 (by rw [c_28]; decide) (by rw [c_28]; decide) (by rw [c_28]; decide) (by decide) (law_c28 S hlt hgp hX hbl hin hl hce hsl2 hW hG kk)
      by_cases c_29 : v = 29
      · exact lv_tableIn (off := 878) (tgt := 911) hx hb dL_law_33 (by rw [c_29]; decide) (by rw [c_29]; decide) (by rw [c_29]; decide) (by decide) (law_c29 S hlt hgp hX hbl hin hl hce hsl2 hW hG kk)
      by_cases c_30 : v = 30
      · exact lv_tableIn (off := 901) (tgt := 934) hx hb dL_law_33 (by rw [c_30]; decide) (by rw [c_30]; decide) (by rw [c_30]; decide) (by decide) (law_c30 S hlt hgp hX hbl hin hl hce hsl2 hW hG kk)
      by_cases c_31 : v = 31
      · exact lv_tableIn (off := 924) (tgt := 957) hx hb dL_law_33 (by rw [c_31]; decide) (by rw [c_31]; decide) (by rw [c_31]; decide) (by decide) (law_c31 S hlt hgp hX hbl hin hl hce hsl2 hW hG kk)
      by_cases c_32 : v = 32
      · exact lv_tableIn (off := 947) (tgt := 980) hx hb dL_law_33 (by rw [c_32]; decide) (by rw [c_32]; decide) (by rw [c_32]; decide) (by decide) (law_c32 S hlt hgp hX hbl hin hl hce hsl2 hW hG kk)
      by_cases c_33 : v = 33
      · exact lv_tableIn (off := 990) (tgt := 1023) hx hb dL_law_33 (by rw [c_33]; decide) (by rw [c_33]; decide) (by rw [c_33]; decide) (by decide) (law_c33 S hlt hgp hX hbl hin hl hce hsl2 hW hG kk)
      by_cases c_34 : v = 34
      · exact lv_tableIn (off := 1063) (tgt := 1096) hx hb dL_law_33 (by rw [c_34]; decide) (by rw [c_34]; decide) (by rw [c_34]; decide) (by decide) (law_c34 S hlt hgp hX hbl hin hl hce hsl2 hW hG kk)
      have c_0 := lv_neT (a := 0) c_0 (by decide)
      have c_1 := lv_neT (a := 1) c_1 (by decide)
      have c_2 := lv_neT (a := 2) c_2 (by decide)
      have c_3 := lv_neT (a := 3) c_3 (by decide)
      have c_4 := lv_neT (a := 4) c_4 (by decide)
      have c_5 := lv_neT (a := 5) c_5 (by decide)
      have c_6 := lv_neT (a := 6) c_6 (by decide)
      have c_7 := lv_neT (a := 7) c_7 (by decide)
      have c_8 := lv_neT (a := 8) c_8 (by decide)
      have c_9 := lv_neT (a := 9) c_9 (by decide)
      have c_10 := lv_neT (a := 10) c_10 (by decide)
      have c_11 := lv_neT (a := 11) c_11 (by decide)
      have c_12 := lv_neT (a := 12) c_12 (by decide)
      have c_13 := lv_neT (a := 13) c_13 (by decide)
      have c_14 := lv_neT (a := 14) c_14 (by decide)
      have c_15 := lv_neT (a := 15) c_15 (by decide)
      have c_16 := lv_neT (a := 16) c_16 (by decide)
      have c_17 := lv_neT (a := 17) c_17 (by decide)
      have c_18 := lv_neT (a := 18) c_18 (by decide)
      have c_19 := lv_neT (a := 19) c_19 (by decide)
      have c_20 := lv_neT (a := 20) c_20 (by decide)
      have c_21 := lv_neT (a := 21) c_21 (by decide)
      have c_22 := lv_neT (a := 22) c_22 (by decide)
      have c_23 := lv_neT (a := 23) c_23 (by decide)
      have c_24 := lv_neT (a := 24) c_24 (by decide)
      have c_25 := lv_neT (a := 25) c_25 (by decide)
      have c_26 := lv_neT (a := 26) c_26 (by decide)
      have c_27 := lv_neT (a := 27) c_27 (by decide)
      have c_28 := lv_neT (a := 28) c_28 (by decide)
      have c_29 := lv_neT (a := 29) c_29 (by decide)
      have c_30 := lv_neT (a := 30) c_30 (by decide)
      have c_31 := lv_neT (a := 31) c_31 (by decide)
      have c_32 := lv_neT (a := 32) c_32 (by decide)
      have c_33 := lv_neT (a := 33) c_33 (by decide)
      have c_34 := lv_neT (a := 34) c_34 (by decide)
      refine lv_tableOut (tgt := 1159) hx hb dL_law_33 (by omega) (by decide) ?_
      exact W.widen (by omega) (by omega) (kk _ _ _ _ _ hW hG)
