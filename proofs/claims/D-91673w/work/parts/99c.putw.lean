/-! slots: putWider -/
set_option maxRecDepth 100000
def npeN : String := "java/lang/NullPointerException"
def zQo (D : va_G) (K : Nat → ClassId) (A : Nat → Prop) (o : c_P) : Array Value → State → Outcome → State → Prop := match o with
  | .inl Z' => z_Q (.returned none) D K A Z'
  | .inr q => fun ar st oo t => z_Q (.threw q.2.1) D K A q.2.2 ar st oo t ∧ zCe t t.heap q.2.1 (if q.1 = true then npeN else idxN2)
section ZLV
variable {p : Program} {l : Launch} {e : Env} {R : Room} {s : State} {m : MethodId} {args : Array Value} {below : List Frame} {meth : Method} {c : Code} {H : Heap} {locs : List Loc} {cells slots : Nat}
variable {gp : Nat → Nat} {own : String} {cc : ByteArray} {pc nL : Nat} {ls : Array Slot} {st0 : List Value} {D : va_G} {K : Nat → ClassId} {A : Nat → Prop} {Z : c_S} {x : Nat}
theorem zCe.at {C : String} {t : State} (h : zCe s H x C) (ht : t.heap = H) (hw : s.WarmedH t.vm) : zCe t t.heap x C := by
  obtain ⟨ce, h1, h2, h3⟩ := h
  exact ⟨ce, by rw [ht]; exact h1, h2, by rw [hw.alike.findClass]; exact h3⟩
theorem zQo_thrown {b : Bool} (hW : z_W gp D K A s Z H locs) (hce : zCe s H x (if b = true then npeN else idxN2)) : ∀ t : State, t.heap = H → s.WarmedH t.vm → zQo D K A (.inr (b, x, Z)) args s (.threw x) t :=
  fun t ht hw => ⟨⟨⟨rfl, hW.Rr ht hw, hW.1.2.2.1⟩, hW.1.2.2.2.1.F ht⟩, hce.at ht hw⟩
/-- it goes out: the table's one row covers and does not catch -/
theorem zout1 {C E : String} {b : Bool} {a0 b0 hp0 ct0 mc ms : Nat} {z0 : ExceptionTableEntry} (hlocks : meth.locks = false) (hsplit : c.exceptionTable.toList = [z0]) (hf0 : (z0.startPc, z0.endPc, z0.handlerPc, z0.catchType) = (a0, b0, hp0, ct0)) (hcov : a0 ≤ pc ∧ pc < b0) (hct : ct0 ≠ 0) (S : CallFix p m c cc nL s args lw_all own) (hlink : Cond.classLink own ct0 E ∈ lw_all) (hC : C = if b = true then npeN else idxN2) (hnc : va_Nc C E s) (hW : z_W gp D K A s Z H locs) (hce : zCe s H x C) (h1 : cells ≤ mc) (h2 : slots ≤ ms) :
    WT p l e R s m args below meth c H locs cells slots (MQT below (zQo D K A (.inr (b, x, Z))) args s mc ms A) (F0 m pc ls st0) x := by
  injection hf0 with f1 hf0
  injection hf0 with f2 hf0
  injection hf0 with f3 f4
  subst f1; subst f2; subst f3; subst f4
  have hce' := hce
  obtain ⟨cell, g1, g2, g3⟩ := hce'
  refine WT.widen h1 h2 (WT.leave1 (C := C) (E := E) hlocks S.2.2.2.1 hsplit (by simp [covers, hcov.1, hcov.2]) hct (S.2.2.2.2 _ hlink) g1 (fun q h => by rw [h] at g2; cases g2) g3 hnc (zQo_thrown hW (by rw [← hC]; exact hce)) hW.1.2.2.2.1.2.2)
/-- it goes out: no row covers -/
theorem zout0 {C : String} {b : Bool} {mc ms : Nat} (hlocks : meth.locks = false) (hout : ∀ z ∈ c.exceptionTable.toList, covers z pc = false) (hC : C = if b = true then npeN else idxN2) (hW : z_W gp D K A s Z H locs) (hce : zCe s H x C) (h1 : cells ≤ mc) (h2 : slots ≤ ms) :
    WT p l e R s m args below meth c H locs cells slots (MQT below (zQo D K A (.inr (b, x, Z))) args s mc ms A) (F0 m pc ls st0) x :=
  WT.widen h1 h2 (WT.leave hlocks hout (zQo_thrown hW (by rw [← hC]; exact hce)) hW.1.2.2.2.1.2.2)
end ZLV
theorem zCa_int {Z : c_S} {b N t : Nat} {ρ : Type} {k : Option ρ} (h : Z.Sh b = some (d_int t N)) (ht : t = 0 ∨ t = 1 ∨ t = 3) : zCa Z (some b) t k = k := by
  show (if zTy Z b = some t then k else none) = k
  unfold zTy
  rw [h]
  show (if (if t = 0 ∨ t = 1 ∨ t = 3 then some t else none) = some t then k else none) = k
  rw [if_pos ht, if_pos rfl]
theorem zCa_lng {Z : c_S} {b N : Nat} {ρ : Type} {k : Option ρ} (h : Z.Sh b = some (d_lng 4 N)) : zCa Z (some b) 4 k = k := by
  show (if zTy Z b = some 4 then k else none) = k
  unfold zTy
  rw [h]
  rfl
theorem zsI_int {Z : c_S} {b N t : Nat} {i x : Int32} {ρ : Type} {k : c_S → Option ρ} (h : Z.Sh b = some (d_int t N)) (hi : ¬ (i < 0 ∨ N ≤ i.toNatClampNeg)) : zsI Z t b i x k = k ⟨Z.Sh, upd2 Z.V b i.toNatClampNeg x, Z.L, Z.n⟩ := by
  unfold zsI csI
  rw [h]
  show (if t = t then wrI Z.V b N i x _ else none) = _
  rw [if_pos rfl]
  unfold wrI
  rw [if_neg hi]
theorem zsL_lng {Z : c_S} {b N t : Nat} {i : Int32} {x : Int64} {ρ : Type} {k : c_S → Option ρ} (h : Z.Sh b = some (d_lng t N)) (hi : ¬ (i < 0 ∨ N ≤ i.toNatClampNeg)) : zsL Z t b i x k = k ⟨Z.Sh, Z.V, updL2 Z.L b i.toNatClampNeg x, Z.n⟩ := by
  unfold zsL csL
  rw [h]
  show (if t = t then wrL Z.L b N i x _ else none) = _
  rw [if_pos rfl]
  unfold wrL
  rw [if_neg hi]
abbrev rmX7_putWider : Room := rmD 8 10256 6 500
set_option maxHeartbeats 4000000 in
theorem metX7_putWider {l : Launch} (hlt : l.stackTraces = false) {gp : Nat → Nat} {D : va_G} {K : Nat → ClassId} {Z0 : c_S} {a0 : Nat} {a1 : Int32} {a2 : Int64} {o : c_P} (h : cm_X7_putWider Z0 a0 a1 a2 = some o) : MetT l yX7_putWider (wsW_ yX7_putWider cX7_putWider 6 none [(0, 15, 18, 36)]) rmX7_putWider (z_Pc gp [.ref a0, .int a1, .long a2] D K Z0) (zQo D K (z_A Z0) o) 6 500 (z_A Z0) := by
  refine d_metH rfl (Nat.le_of_ble_eq_true rfl) ?_
  intro p e s m below meth c ls S hr hlk ht_ hl hW hsz
  obtain ⟨z0, zr, htab, hf0⟩ := ztab ht_
  have hzr : zr = [] := by
    rw [htab] at ht_
    simp only [List.map_cons, List.cons.injEq] at ht_
    exact List.map_eq_nil_iff.mp ht_.2
  subst hzr
  have S : CallFix p m c cX7_putWider 6 s ([.ref a0, .int a1, .long a2] : List Value).toArray lw_all RX7 := S
  have hx := S.1
  have hb := S.2.1
  have hl : lv_has ls 6 [(0, .ref a0), (1, .int a1), (2, .long a2)] := hl
  have hpl := zPl_of hW hsz
  have nc1 : va_Nc npeN cceN s := hW.1.2.2.2.2.1.2.2.2.2.2.2.2.1 (npeN, cceN) (by simp [ncW, npeN, cceN])
  have nc2 : va_Nc idxN2 cceN s := hW.1.2.2.2.2.1.2.2.2.2.2.2.2.1 (idxN2, cceN) (by simp [ncW, idxN2, cceN])
  unfold cm_X7_putWider at h
  refine lv_aload_n hx hb dX7_putWider_0 rfl (lv_at hl 0 rfl) ?_
  obtain ⟨rf0, o_1, hs0, hn0, h⟩ := cR_some h
  refine d_getv S hW hs0 zC_X7.1 zC_X7.2.1 0 (by decide) (Or.inl q749) (fun _ h => h) (d_fv hn0) dX7_putWider_1 ?_
  cases o_1 with
  | none =>
    cases h
    refine lv_castN S.1 S.2.1 dX7_putWider_4 ?_
    refine lv_astoreN (lv' := [(4, .null), (0, .ref a0), (1, .int a1), (2, .long a2)]) hx hb dX7_putWider_7 hl (by decide) rfl (fun ls hl => ?_)
    refine lv_aloadN hx hb dX7_putWider_9 (lv_at hl 0 rfl) ?_
    refine lv_iload_n hx hb dX7_putWider_11 rfl (lv_at hl 2 rfl) ?_
    refine lv_lload_n hx hb dX7_putWider_12 rfl (lv_at hl 3 rfl) ?_
    refine lv_l2i (v := a2.toInt32) hx hb dX7_putWider_13 rfl ?_
    refine zx_iastN S dX7_putWider_14 (zx_nul S hW hpl hlt hl.1 (Nat.le_of_ble_eq_true rfl) (Nat.le_of_ble_eq_true rfl) (Nat.le_of_ble_eq_true rfl) (Nat.le_of_ble_eq_true rfl) (Nat.le_of_ble_eq_true rfl) (fun H1 locs1 hW1 hce => ?_))
    exact zout1 (b := true) hlk htab hf0 (by decide) (by decide) S q310 rfl nc1 hW1 hce (Nat.le_of_ble_eq_true rfl) (Nat.le_of_ble_eq_true rfl)
  | some b =>
    dsimp only at h
    split at h
    · rename_i q hq
      obtain ⟨t, N⟩ := q
      dsimp only at h
      split at h
      · cases h
      rename_i h60
      split at h
      · rename_i ht
        subst ht
        have hq : Z0.Sh b = some (d_int 0 N) := hq
        refine zw_castA (o := some b) (t := 0) (k := some ()) (r := ()) S hW q324 dX7_putWider_4 (zCa_int hq (by omega)) (fun _ => ?_)
        refine lv_astore (lv' := [(4, .ref b), (0, .ref a0), (1, .int a1), (2, .long a2)]) hx hb dX7_putWider_7 hl (by decide) rfl (fun ls hl => ?_)
        refine lv_aload hx hb dX7_putWider_9 (lv_at hl 0 rfl) ?_
        refine lv_iload_n hx hb dX7_putWider_11 rfl (lv_at hl 2 rfl) ?_
        refine lv_lload_n hx hb dX7_putWider_12 rfl (lv_at hl 3 rfl) ?_
        refine lv_l2i (v := a2.toInt32) hx hb dX7_putWider_13 rfl ?_
        split at h
        · rename_i hi
          cases h
          refine zx_iastO S hW hq hi dX7_putWider_14 (zx_idx S hW hpl hlt (by omega) hl.1 (Nat.le_of_ble_eq_true rfl) (Nat.le_of_ble_eq_true rfl) (Nat.le_of_ble_eq_true rfl) (Nat.le_of_ble_eq_true rfl) (Nat.le_of_ble_eq_true rfl) (fun H1 locs1 hW1 hce => ?_))
          exact zout1 (b := false) hlk htab hf0 (by decide) (by decide) S q310 rfl nc2 hW1 hce (Nat.le_of_ble_eq_true rfl) (Nat.le_of_ble_eq_true rfl)
        · rename_i hi
          cases h
          refine zw_iast (k := fun Z' => some Z') S hW dX7_putWider_14 (zsI_int hq hi) (fun Z_4 h H locs hW => ?_)
          cases h
          refine lv_goto (tgt := 34) hx hb dX7_putWider_15 (by decide) ?_
          exact W.toT (d_vret S hr hlk hW (Nat.le_of_ble_eq_true rfl) (Nat.le_of_ble_eq_true rfl) dX7_putWider_34)
      · cases h
    · rename_i q hq
      obtain ⟨t, N⟩ := q
      dsimp only at h
      split at h
      · cases h
      rename_i h60
      split at h
      · rename_i ht
        subst ht
        have hq : Z0.Sh b = some (d_lng 4 N) := hq
        refine zx_castF (rest := []) S hW hq q324 dX7_putWider_4 (fun text ht => zx_cce ht S hW hpl hlt hl.1 (Nat.le_of_ble_eq_true rfl) (Nat.le_of_ble_eq_true rfl) (Nat.le_of_ble_eq_true rfl) (Nat.le_of_ble_eq_true rfl) (Nat.le_of_ble_eq_true rfl) (fun H1 locs1 hW1 hce => ?_))
        refine zcatchE htab hf0 (by decide) (by decide) S q310 hce (fun c0 c1 h0 h1 => z_fits h0 h1) ?_
        refine lv_astore (lv' := [(4, .ref (Z0.n + 2)), (0, .ref a0), (1, .int a1), (2, .long a2)]) hx hb dX7_putWider_18 hl (by decide) rfl (fun ls hl => ?_)
        refine lv_aload_n hx hb dX7_putWider_20 rfl (lv_at hl 1 rfl) ?_
        refine d_getv S hW1 (show (zGrow Z0 3).Sh a0 = some (d_obj 7 1 rf0) from hs0) zC_X7.1 zC_X7.2.1 0 (by decide) (Or.inl q749) (fun _ h => h) (d_fv hn0) dX7_putWider_21 ?_
        have hq1 : (zGrow Z0 3).Sh b = some (d_lng 4 N) := hq
        refine zw_castA (o := some b) (t := 4) (k := some ()) (r := ()) S hW1 q325 dX7_putWider_24 (zCa_lng hq1) (fun _ => ?_)
        refine lv_astore (lv' := [(5, .ref b), (4, .ref (Z0.n + 2)), (0, .ref a0), (1, .int a1), (2, .long a2)]) hx hb dX7_putWider_27 hl (by decide) rfl (fun ls hl => ?_)
        refine lv_aload hx hb dX7_putWider_29 (lv_at hl 0 rfl) ?_
        refine lv_iload_n hx hb dX7_putWider_31 rfl (lv_at hl 3 rfl) ?_
        refine lv_lload_n hx hb dX7_putWider_32 rfl (lv_at hl 4 rfl) ?_
        split at h
        · rename_i hi
          cases h
          refine zx_lastO S hW1 hq1 hi dX7_putWider_33 (zx_idx S hW1 hpl hlt (by omega) hl.1 (Nat.le_of_ble_eq_true rfl) (Nat.le_of_ble_eq_true rfl) (Nat.le_of_ble_eq_true rfl) (Nat.le_of_ble_eq_true rfl) (Nat.le_of_ble_eq_true rfl) (fun H2 locs2 hW2 hce2 => ?_))
          refine zout0 (Z := zGrow Z0 6) (b := false) hlk (fun z hz => ?_) rfl hW2 hce2 (Nat.le_of_ble_eq_true rfl) (Nat.le_of_ble_eq_true rfl)
          rw [htab] at hz
          rw [List.mem_singleton.mp hz]
          injection hf0 with f1 hf0
          injection hf0 with f2 hf0
          simp [covers, f1, f2]
        · rename_i hi
          cases h
          refine zw_last (k := fun Z' => some Z') S hW1 dX7_putWider_33 (zsL_lng hq1 hi) (fun Z_4 h H locs hW => ?_)
          cases h
          exact W.toT (d_vret S hr hlk hW (Nat.le_of_ble_eq_true rfl) (Nat.le_of_ble_eq_true rfl) dX7_putWider_34)
      · cases h
    · cases h
