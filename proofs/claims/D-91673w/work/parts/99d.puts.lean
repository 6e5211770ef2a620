/-! slots: put, puts -/
set_option maxRecDepth 100000
section ZBO
variable {p : Program} {l : Launch} {e : Env} {R : Room} {s : State} {m : MethodId} {args : Array Value} {below : List Frame} {meth : Method} {c : Code} {H : Heap} {locs : List Loc} {cells slots : Nat} {Q : State → Prop}
variable {gp : Nat → Nat} {own : String} {cc : ByteArray} {pc nL : Nat} {ls : Array Slot} {rest st0 : List Value} {D : va_G} {K : Nat → ClassId} {A : Nat → Prop} {Z : c_S} {a : Nat}
variable {y : MethodName} {bytes : ByteArray} {maxL n index mc ms : Nat} {ret : Option FieldType} {ws : List Cond} {rm : Room} {C : String} {As : List Value} {ci N : Nat} {rf : Nat → Option (Option Nat)} {T : u_T} {hh : List (Nat × Nat × Nat × Nat)} {o : c_P}
theorem z_backO {o' : Outcome} {st t B : State} {Lc : List Loc} {ar : Array Value} {c1 s1 : Nat} (hW : z_W gp D K A s Z H locs) (h0 : st.heap = H) (hL : ∀ q ∈ Lc, z_A Z q.base) (e1 : B.heap = t.heap) (e2 : B.vm = t.vm) (X' : Stand p l e R s m args below meth c B (locs ++ Lc) c1 s1) (hq : zQo D K (z_A Z) o ar st o' t) :
    (∃ Z', o = .inl Z' ∧ o' = .returned none ∧ z_W gp D K A s Z' B.heap (locs ++ Lc)) ∨ ∃ b x Z', o = .inr (b, x, Z') ∧ o' = .threw x ∧ z_W gp D K A s Z' B.heap (locs ++ Lc) ∧ zCe s B.heap x (if b = true then npeN else idxN2) := by
  rcases o with Z' | ⟨b, x, Z'⟩
  · obtain ⟨h1, h2⟩ := d_after (ar := ar) hW h0 hL e1 hq
    exact Or.inl ⟨Z', rfl, h1, h2⟩
  · obtain ⟨hq1, ce, c1, c2, c3⟩ := hq
    obtain ⟨h1, h2⟩ := d_after (ar := ar) hW h0 hL e1 hq1
    refine Or.inr ⟨b, x, Z', rfl, h1, h2, ce, by rw [e1]; exact c1, c2, ?_⟩
    rw [← e2, X'.warmed.alike.findClass] at c3
    exact c3
/-- a call of a putting, of a method with handlers -/
theorem z_callOW (S : CallFix p m c cc nL s args lw_all own) (hW : z_W gp D K A s Z H locs) (hM : MetT l y ws rm (z_Pc gp (.ref a :: As) D K Z) (zQo D K (z_A Z) o) mc ms (z_A Z)) (cw : zCallW R s args own C index y bytes maxL ret hh ws rm mc ms n) (hs : Z.Sh a = some (d_obj ci N rf)) (hc : cmCl[ci]? = some (C, T, N))
    (hn : As.length = n) (hsize : ls.size = nL) (hst : st0 = As.reverse ++ .ref a :: rest) (hro : (rest.map fun v => v.category).sum ≤ 8) (hdg : decode cc pc = .ok (.invokevirtual index, 3)) (hf : cells + mc ≤ R.cells ∧ slots + ms ≤ R.slots)
    (kr : ∀ Z', o = .inl Z' → ∀ (H1 : Heap) (locs1 : List Loc), z_W gp D K A s Z' H1 locs1 → W p l e R s m args below meth c H1 locs1 (cells + mc) (slots + ms) Q (F0 m (pc + 3) ls rest))
    (kt : ∀ b x Z', o = .inr (b, x, Z') → ∀ (H1 : Heap) (locs1 : List Loc), z_W gp D K A s Z' H1 locs1 → zCe s H1 x (if b = true then npeN else idxN2) → WT p l e R s m args below meth c H1 locs1 (cells + mc) (slots + ms) Q (F0 m pc ls rest) x) : W p l e R s m args below meth c H locs cells slots Q (F0 m pc ls st0) := by
  subst hst
  intro T0 hT X
  obtain ⟨o', st, t, B, Lc, h0, X', hL, e1, e2, hq, hgo⟩ := runVTW S hM cw ⟨d_blind, d_recv hW hs hc, fun U hU hw => ⟨rfl, d_pre hW hU hw⟩⟩ hn hsize hro hdg hf hT X
  rcases z_backO hW h0 hL e1 e2 X' hq with ⟨Z', q1, rfl, q3⟩ | ⟨b, x, Z', q1, rfl, q3, q4⟩
  · obtain ⟨t2, a1, b1⟩ := kr Z' q1 _ _ q3 B rfl X'
    exact ⟨t2, hgo t2 a1, b1⟩
  · obtain ⟨t2, a1, b1⟩ := kt b x Z' q1 _ _ q3 q4 B rfl X'
    exact ⟨t2, hgo t2 a1, b1⟩
/-- a call of a putting, of a method without handlers -/
theorem z_callO (S : CallFix p m c cc nL s args lw_all own) (hW : z_W gp D K A s Z H locs) (hM : MetT l y ws rm (z_Pc gp (.ref a :: As) D K Z) (zQo D K (z_A Z) o) mc ms (z_A Z)) (cw : CallW R s args own C index y bytes maxL ret ws rm mc ms n) (hs : Z.Sh a = some (d_obj ci N rf)) (hc : cmCl[ci]? = some (C, T, N))
    (hn : As.length = n) (hsize : ls.size = nL) (hst : st0 = As.reverse ++ .ref a :: rest) (hro : (rest.map fun v => v.category).sum ≤ 8) (hdg : decode cc pc = .ok (.invokevirtual index, 3)) (hf : cells + mc ≤ R.cells ∧ slots + ms ≤ R.slots)
    (kr : ∀ Z', o = .inl Z' → ∀ (H1 : Heap) (locs1 : List Loc), z_W gp D K A s Z' H1 locs1 → W p l e R s m args below meth c H1 locs1 (cells + mc) (slots + ms) Q (F0 m (pc + 3) ls rest))
    (kt : ∀ b x Z', o = .inr (b, x, Z') → ∀ (H1 : Heap) (locs1 : List Loc), z_W gp D K A s Z' H1 locs1 → zCe s H1 x (if b = true then npeN else idxN2) → WT p l e R s m args below meth c H1 locs1 (cells + mc) (slots + ms) Q (F0 m pc ls rest) x) : W p l e R s m args below meth c H locs cells slots Q (F0 m pc ls st0) := by
  subst hst
  intro T0 hT X
  obtain ⟨o', st, t, B, Lc, h0, X', hL, e1, e2, hq, hgo⟩ := runVT S hM cw ⟨d_blind, d_recv hW hs hc, fun U hU hw => ⟨rfl, d_pre hW hU hw⟩⟩ hn hsize hro hdg hf hT X
  rcases z_backO hW h0 hL e1 e2 X' hq with ⟨Z', q1, rfl, q3⟩ | ⟨b, x, Z', q1, rfl, q3, q4⟩
  · obtain ⟨t2, a1, b1⟩ := kr Z' q1 _ _ q3 B rfl X'
    exact ⟨t2, hgo t2 a1, b1⟩
  · obtain ⟨t2, a1, b1⟩ := kt b x Z' q1 _ _ q3 q4 B rfl X'
    exact ⟨t2, hgo t2 a1, b1⟩
end ZBO
theorem zIs_int {Z : c_S} {b N t u : Nat} {ρ : Type} {k : Int32 → Option ρ} (h : Z.Sh b = some (d_int u N)) (hu : u = 0 ∨ u = 1 ∨ u = 3) : zIs Z (some b) t k = if u = t then k 1 else k 0 := by
  have e : zTy Z b = some u := by
    unfold zTy
    rw [h]
    show (if u = 0 ∨ u = 1 ∨ u = 3 then some u else none) = some u
    rw [if_pos hu]
  show (match zTy Z b with | some t' => if t' = t then k 1 else k 0 | none => none) = _
  rw [e]
theorem zIs_lng {Z : c_S} {b N t : Nat} {ρ : Type} {k : Int32 → Option ρ} (h : Z.Sh b = some (d_lng 4 N)) : zIs Z (some b) t k = if 4 = t then k 1 else k 0 := by
  have e : zTy Z b = some 4 := by
    unfold zTy
    rw [h]
    rfl
  show (match zTy Z b with | some t' => if t' = t then k 1 else k 0 | none => none) = _
  rw [e]
abbrev rmX7_put : Room := rmD 9 10300 6 500
theorem cwX7_putWider {own : String} {R : Room} {s : State} {args : Array Value} {index : Nat} (hts : ∀ w ∈ lw_all, w.before args s = true) (hl : Cond.methodLink own index yX7_putWider ∈ lw_all) (hR : rmX7_putWider.frames + 1 ≤ R.frames ∧ 8 + (6 + 11) + rmX7_putWider.locals ≤ R.locals) : zCallW R s args own RX7 index yX7_putWider cX7_putWider 6 none [(0, 15, 18, 36)] (wsW_ yX7_putWider cX7_putWider 6 none [(0, 15, 18, 36)]) rmX7_putWider 6 500 2 := zcwVW 2 hts hl q308 qs3 q121 q309 rfl rfl ⟨by decide, by decide, by decide +kernel⟩ hR
set_option maxHeartbeats 4000000 in
theorem metX7_put {l : Launch} (hlt : l.stackTraces = false) {gp : Nat → Nat} {D : va_G} {K : Nat → ClassId} {Z0 : c_S} {a0 : Nat} {a1 : Int32} {a2 : Int64} {o : c_P} (h : cm_X7_put Z0 a0 a1 a2 = some o) : MetT l yX7_put (ws_ yX7_put cX7_put 5 none) rmX7_put (z_Pc gp [.ref a0, .int a1, .long a2] D K Z0) (zQo D K (z_A Z0) o) 6 500 (z_A Z0) := by
  refine d_metT rfl (Nat.le_of_ble_eq_true rfl) ?_
  intro p e s m below meth c ls S hr hlk hnm hne hl hW hsz
  have S : CallFix p m c cX7_put 5 s ([.ref a0, .int a1, .long a2] : List Value).toArray lw_all RX7 := S
  have hx := S.1
  have hb := S.2.1
  have hl : lv_has ls 5 [(0, .ref a0), (1, .int a1), (2, .long a2)] := hl
  have hpl := zPl_of hW hsz
  have hout : ∀ pc, ∀ z ∈ c.exceptionTable.toList, covers z pc = false := fun pc z hz => by simp [Array.isEmpty] at hne; simp [hne] at hz
  unfold cm_X7_put at h
  refine lv_aload_n hx hb dX7_put_0 rfl (lv_at hl 0 rfl) ?_
  obtain ⟨rf0, o_1, hs0, hn0, h⟩ := cR_some h
  refine d_getv S hW hs0 zC_X7.1 zC_X7.2.1 0 (by decide) (Or.inl q749) (fun _ h => h) (d_fv hn0) dX7_put_1 ?_
  -- the wider ones
  have wider : cm_X7_putWider Z0 a0 a1 a2 = some o → W p l e rmX7_put s m ([.ref a0, .int a1, .long a2] : List Value).toArray below meth c s.heap [] 0 0 (MQT below (zQo D K (z_A Z0) o) ([.ref a0, .int a1, .long a2] : List Value).toArray s 6 500 (z_A Z0)) (F0 m 58 ls []) := by
    intro hw
    refine lv_aload_n hx hb dX7_put_58 rfl (lv_at hl 0 rfl) ?_
    refine lv_iload_n hx hb dX7_put_59 rfl (lv_at hl 1 rfl) ?_
    refine lv_lload_n hx hb dX7_put_60 rfl (lv_at hl 2 rfl) ?_
    refine z_callOW (As := [.int a1, .long a2]) (rest := []) S hW (metX7_putWider hlt hw) (cwX7_putWider S.2.2.2.2 q306 ⟨Nat.le_of_ble_eq_true rfl, Nat.le_of_ble_eq_true rfl⟩) hs0 rfl rfl hl.1 rfl (Nat.le_of_ble_eq_true rfl) dX7_put_61 ⟨Nat.le_of_ble_eq_true rfl, Nat.le_of_ble_eq_true rfl⟩ (fun Z' ho H1 locs1 hW1 => ?_) (fun b x Z' ho H1 locs1 hW1 hce => ?_)
    · subst ho
      exact W.toT (d_vret S hr hlk hW1 (Nat.le_of_ble_eq_true rfl) (Nat.le_of_ble_eq_true rfl) dX7_put_64)
    · subst ho
      exact zout0 hlk (hout 61) rfl hW1 hce (Nat.le_of_ble_eq_true rfl) (Nat.le_of_ble_eq_true rfl)
  -- neither of bytes nor of shorts
  have far : (zIs Z0 o_1 1 (fun x => some x) = some 0) → (zIs Z0 o_1 3 (fun x => some x) = some 0) → cm_X7_putWider Z0 a0 a1 a2 = some o → W p l e rmX7_put s m ([.ref a0, .int a1, .long a2] : List Value).toArray below meth c s.heap [] 0 0 (MQT below (zQo D K (z_A Z0) o) ([.ref a0, .int a1, .long a2] : List Value).toArray s 6 500 (z_A Z0)) (F0 m 4 ls [va_rf o_1]) := by
    intro i1 i3 hw
    refine zw_inst (o := o_1) (t := 1) S hW (by decide) q304 dX7_put_4 i1 (fun x_2 h => ?_)
    cases h
    refine lv_if_eq (tgt := 29) hx hb dX7_put_7 (by decide) (fun c_3 => ?_) (fun c_3 => absurd rfl c_3)
    refine lv_aload_n hx hb dX7_put_29 rfl (lv_at hl 0 rfl) ?_
    refine d_getv S hW hs0 zC_X7.1 zC_X7.2.1 0 (by decide) (Or.inl q749) (fun _ h => h) (d_fv hn0) dX7_put_30 ?_
    refine zw_inst (o := o_1) (t := 3) S hW (by decide) q305 dX7_put_33 i3 (fun x_2 h => ?_)
    cases h
    exact lv_if_eq (tgt := 58) hx hb dX7_put_36 (by decide) (fun c_3 => wider hw) (fun c_3 => absurd rfl c_3)
  cases o_1 with
  | none => exact far rfl rfl h
  | some b =>
    dsimp only at h
    split at h
    · rename_i q hq
      obtain ⟨t, N⟩ := q
      dsimp only at h
      split at h
      · cases h
      rename_i h60
      split at h
      · rename_i ht
        subst ht
        have hq : Z0.Sh b = some (d_int 1 N) := hq
        refine zw_inst (o := some b) (t := 1) (k := fun x => some x) (r := 1) S hW (by decide) q304 dX7_put_4 (zIs_int hq (by omega)) (fun x_2 h9 => ?_)
        cases h9
        refine lv_if_eq (tgt := 29) hx hb dX7_put_7 (by decide) (fun c_3 => absurd c_3 (by decide)) (fun c_3 => ?_)
        refine lv_aload_n hx hb dX7_put_10 rfl (lv_at hl 0 rfl) ?_
        refine d_getv S hW hs0 zC_X7.1 zC_X7.2.1 0 (by decide) (Or.inl q749) (fun _ h => h) (d_fv hn0) dX7_put_11 ?_
        refine zw_castA (o := some b) (t := 1) (k := some ()) (r := ()) S hW q304 dX7_put_14 (zCa_int hq (by omega)) (fun _ => ?_)
        refine lv_astore (lv' := [(4, .ref b), (0, .ref a0), (1, .int a1), (2, .long a2)]) hx hb dX7_put_17 hl (by decide) rfl (fun ls hl => ?_)
        refine lv_aload hx hb dX7_put_19 (lv_at hl 0 rfl) ?_
        refine lv_iload_n hx hb dX7_put_21 rfl (lv_at hl 2 rfl) ?_
        refine lv_lload_n hx hb dX7_put_22 rfl (lv_at hl 3 rfl) ?_
        refine lv_l2i (v := a2.toInt32) hx hb dX7_put_23 rfl ?_
        refine lv_i2b (v := a2.toInt32.toInt8.toInt32) hx hb dX7_put_24 rfl ?_
        split at h
        · rename_i hi
          cases h
          refine zx_bastO S hW hq hi dX7_put_25 (zx_idx S hW hpl hlt (by omega) hl.1 (Nat.le_of_ble_eq_true rfl) (Nat.le_of_ble_eq_true rfl) (Nat.le_of_ble_eq_true rfl) (Nat.le_of_ble_eq_true rfl) (Nat.le_of_ble_eq_true rfl) (fun H1 locs1 hW1 hce => ?_))
          exact zout0 (b := false) hlk (hout 25) rfl hW1 hce (Nat.le_of_ble_eq_true rfl) (Nat.le_of_ble_eq_true rfl)
        · rename_i hi
          cases h
          refine zw_bast (k := fun Z' => some Z') S hW (pk_vb _) dX7_put_25 (zsI_int hq hi) (fun Z_4 h H locs hW => ?_)
          cases h
          refine lv_goto (tgt := 64) hx hb dX7_put_26 (by decide) ?_
          exact W.toT (d_vret S hr hlk hW (Nat.le_of_ble_eq_true rfl) (Nat.le_of_ble_eq_true rfl) dX7_put_64)
      rename_i h1
      split at h
      · rename_i ht
        subst ht
        have hq : Z0.Sh b = some (d_int 3 N) := hq
        refine zw_inst (o := some b) (t := 1) (k := fun x => some x) (r := 0) S hW (by decide) q304 dX7_put_4 (zIs_int hq (by omega)) (fun x_2 h9 => ?_)
        cases h9
        refine lv_if_eq (tgt := 29) hx hb dX7_put_7 (by decide) (fun c_3 => ?_) (fun c_3 => absurd rfl c_3)
        refine lv_aload_n hx hb dX7_put_29 rfl (lv_at hl 0 rfl) ?_
        refine d_getv S hW hs0 zC_X7.1 zC_X7.2.1 0 (by decide) (Or.inl q749) (fun _ h => h) (d_fv hn0) dX7_put_30 ?_
        refine zw_inst (o := some b) (t := 3) (k := fun x => some x) (r := 1) S hW (by decide) q305 dX7_put_33 (zIs_int hq (by omega)) (fun x_2 h9 => ?_)
        cases h9
        refine lv_if_eq (tgt := 58) hx hb dX7_put_36 (by decide) (fun c_3 => absurd c_3 (by decide)) (fun c_3 => ?_)
        refine lv_aload_n hx hb dX7_put_39 rfl (lv_at hl 0 rfl) ?_
        refine d_getv S hW hs0 zC_X7.1 zC_X7.2.1 0 (by decide) (Or.inl q749) (fun _ h => h) (d_fv hn0) dX7_put_40 ?_
        refine zw_castA (o := some b) (t := 3) (k := some ()) (r := ()) S hW q305 dX7_put_43 (zCa_int hq (by omega)) (fun _ => ?_)
        refine lv_astore (lv' := [(4, .ref b), (0, .ref a0), (1, .int a1), (2, .long a2)]) hx hb dX7_put_46 hl (by decide) rfl (fun ls hl => ?_)
        refine lv_aload hx hb dX7_put_48 (lv_at hl 0 rfl) ?_
        refine lv_iload_n hx hb dX7_put_50 rfl (lv_at hl 2 rfl) ?_
        refine lv_lload_n hx hb dX7_put_51 rfl (lv_at hl 3 rfl) ?_
        refine lv_l2i (v := a2.toInt32) hx hb dX7_put_52 rfl ?_
        refine lv_i2s (v := a2.toInt32.toInt16.toInt32) hx hb dX7_put_53 rfl ?_
        split at h
        · rename_i hi
          cases h
          refine zx_sastO S hW hq hi dX7_put_54 (zx_idx S hW hpl hlt (by omega) hl.1 (Nat.le_of_ble_eq_true rfl) (Nat.le_of_ble_eq_true rfl) (Nat.le_of_ble_eq_true rfl) (Nat.le_of_ble_eq_true rfl) (Nat.le_of_ble_eq_true rfl) (fun H1 locs1 hW1 hce => ?_))
          exact zout0 (b := false) hlk (hout 54) rfl hW1 hce (Nat.le_of_ble_eq_true rfl) (Nat.le_of_ble_eq_true rfl)
        · rename_i hi
          cases h
          refine zw_sast (k := fun Z' => some Z') S hW (pk_vs _) dX7_put_54 (zsI_int hq hi) (fun Z_4 h H locs hW => ?_)
          cases h
          refine lv_goto (tgt := 64) hx hb dX7_put_55 (by decide) ?_
          exact W.toT (d_vret S hr hlk hW (Nat.le_of_ble_eq_true rfl) (Nat.le_of_ble_eq_true rfl) dX7_put_64)
      · rename_i h3
        have ht : t = 0 := by
          unfold cm_X7_putWider at h
          obtain ⟨rf9, o9, g1, g2, g3⟩ := cR_some h
          have e9 : o9 = some b := by
            rw [hs0] at g1
            injection g1 with g1; injection g1 with g1; injection g1 with g1; injection g1 with g1; injection g1 with _ g1; injection g1 with _ g1
            rw [← g1, hn0] at g2
            exact (Option.some.inj g2).symm
          subst e9
          dsimp only at g3
          rw [hq] at g3
          dsimp only at g3
          split at g3
          · cases g3
          · split at g3
            · assumption
            · cases g3
        subst ht
        have hq : Z0.Sh b = some (d_int 0 N) := hq
        exact far (zIs_int hq (by omega)) (zIs_int hq (by omega)) h
    · rename_i hne1
      have hl4 : ∃ N, Z0.Sh b = some (d_lng 4 N) := by
        unfold cm_X7_putWider at h
        obtain ⟨rf9, o9, g1, g2, g3⟩ := cR_some h
        have e9 : o9 = some b := by
          rw [hs0] at g1
          injection g1 with g1; injection g1 with g1; injection g1 with g1; injection g1 with g1; injection g1 with _ g1; injection g1 with _ g1
          rw [← g1, hn0] at g2
          exact (Option.some.inj g2).symm
        subst e9
        dsimp only at g3
        split at g3
        · rename_i q hq
          exact absurd hq (hne1 q)
        · rename_i q hq
          obtain ⟨t, N⟩ := q
          dsimp only at g3
          split at g3
          · cases g3
          · split at g3
            · rename_i ht
              subst ht
              exact ⟨N, hq⟩
            · cases g3
        · cases g3
      obtain ⟨N, hq⟩ := hl4
      exact far (zIs_lng hq) (zIs_lng hq) h
abbrev rmX7_puts : Room := rmD 10 10350 6 500
theorem cwX7_put {own : String} {R : Room} {s : State} {args : Array Value} {index : Nat} (hts : ∀ w ∈ lw_all, w.before args s = true) (hl : Cond.methodLink own index yX7_put ∈ lw_all) (hR : rmX7_put.frames + 1 ≤ R.frames ∧ 8 + (5 + 11) + rmX7_put.locals ≤ R.locals) : CallW R s args own RX7 index yX7_put cX7_put 5 none (ws_ yX7_put cX7_put 5 none) rmX7_put 6 500 2 := cwV 2 hts (lw_V hl q301 qs2 q121 q303) rfl rfl rfl (by decide +kernel) hR
set_option maxHeartbeats 4000000 in
theorem metX7_puts {l : Launch} (hlt : l.stackTraces = false) {gp : Nat → Nat} {D : va_G} {K : Nat → ClassId} {Z0 : c_S} {a0 : Nat} {a1 : Int32} {a2 : Int64} {r : Int32} {Z' : c_S} (hk : ∃ rf, Z0.Sh a0 = some (d_obj 7 1 rf)) (h : cm_X7_puts Z0 a0 a1 a2 = some (r, Z')) : MetT l yX7_puts (wsW_ yX7_puts cX7_puts 5 (some .int) [(0, 6, 9, 29), (0, 6, 14, 31)]) rmX7_puts (z_Pc gp [.ref a0, .int a1, .long a2] D K Z0) (z_Q (.returned (some (.int r))) D K (z_A Z0) Z') 6 500 (z_A Z0) := by
  refine d_metH rfl (Nat.le_of_ble_eq_true rfl) ?_
  intro p e s m below meth c ls S hr hlk ht_ hl hW hsz
  obtain ⟨z0, zr, htab, hf0⟩ := ztab ht_
  have ht2 : zr.map (fun h => (h.startPc, h.endPc, h.handlerPc, h.catchType)) = [(0, 6, 14, 31)] := by
    rw [htab] at ht_
    simp only [List.map_cons, List.cons.injEq] at ht_
    exact ht_.2
  obtain ⟨z1, zr1, htab1, hf1⟩ := ztab ht2
  subst htab1
  have S : CallFix p m c cX7_puts 5 s ([.ref a0, .int a1, .long a2] : List Value).toArray lw_all RX7 := S
  have hx := S.1
  have hb := S.2.1
  have hl : lv_has ls 5 [(0, .ref a0), (1, .int a1), (2, .long a2)] := hl
  have nc3 : va_Nc idxN2 npeN s := hW.1.2.2.2.2.1.2.2.2.2.2.2.2.1 (idxN2, npeN) (by simp [ncW, idxN2, npeN])
  obtain ⟨rf0, hs0⟩ := hk
  unfold cm_X7_puts at h
  obtain ⟨o, ho, h⟩ := bnd_some h
  refine lv_aload_n hx hb dX7_puts_0 rfl (lv_at hl 0 rfl) ?_
  refine lv_iload_n hx hb dX7_puts_1 rfl (lv_at hl 1 rfl) ?_
  refine lv_lload_n hx hb dX7_puts_2 rfl (lv_at hl 2 rfl) ?_
  refine z_callO (As := [.int a1, .long a2]) (rest := []) S hW (metX7_put hlt ho) (cwX7_put S.2.2.2.2 q299 ⟨Nat.le_of_ble_eq_true rfl, Nat.le_of_ble_eq_true rfl⟩) hs0 rfl rfl hl.1 rfl (Nat.le_of_ble_eq_true rfl) dX7_puts_3 ⟨Nat.le_of_ble_eq_true rfl, Nat.le_of_ble_eq_true rfl⟩ (fun Z1 ho H1 locs1 hW1 => ?_) (fun b x Z1 ho H1 locs1 hW1 hce => ?_)
  · subst ho
    cases h
    refine lv_goto (tgt := 19) hx hb dX7_puts_6 (by decide) ?_
    refine lv_iconst (v := 0) hx hb dX7_puts_19 (by decide) ?_
    exact W.toT (d_iret S hr hlk hW1 (Nat.le_of_ble_eq_true rfl) (Nat.le_of_ble_eq_true rfl) dX7_puts_20)
  · subst ho
    cases b with
    | true =>
      cases h
      refine zcatchE (C := npeN) (E := npeN) htab hf0 (by decide) (by decide) S q255 hce (fun c0 c1 h0 h1 => z_fits h0 h1) ?_
      refine lv_astore (lv' := [(4, .ref x), (0, .ref a0), (1, .int a1), (2, .long a2)]) hx hb dX7_puts_9 hl (by decide) rfl (fun ls hl => ?_)
      refine lv_bipush (v := (-6)) hx hb dX7_puts_11 (by decide) ?_
      exact W.toT (d_iret S hr hlk hW1 (Nat.le_of_ble_eq_true rfl) (Nat.le_of_ble_eq_true rfl) dX7_puts_13)
    | false =>
      cases h
      refine zcatchE2 (C := idxN2) (E0 := npeN) (E := idxN2) htab hf0 hf1 (by decide) (by decide) (by decide) (by decide) S q255 q280 nc3 hce (fun c0 c1 h0 h1 => z_fits h0 h1) ?_
      refine lv_astore (lv' := [(4, .ref x), (0, .ref a0), (1, .int a1), (2, .long a2)]) hx hb dX7_puts_14 hl (by decide) rfl (fun ls hl => ?_)
      refine lv_bipush (v := (-7)) hx hb dX7_puts_16 (by decide) ?_
      exact W.toT (d_iret S hr hlk hW1 (Nat.le_of_ble_eq_true rfl) (Nat.le_of_ble_eq_true rfl) dX7_puts_18)
