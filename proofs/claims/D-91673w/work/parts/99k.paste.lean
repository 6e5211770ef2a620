/-! slots: pastes, paste -/
set_option maxRecDepth 100000
theorem fits_b {x : Int32} (h : x.toInt8.toInt32 = x) : fits .byte (.int x) = true := by
  have := pk_fb x
  rwa [h] at this
theorem fits_s {x : Int32} (h : x.toInt16.toInt32 = x) : fits .short (.int x) = true := by
  have := pk_fs x
  rwa [h] at this
section DCL
variable {p : Program} {l : Launch} {e : Env} {R : Room} {s : State} {m : MethodId} {args : Array Value} {below : List Frame} {meth : Method} {c : Code} {H : Heap} {locs : List Loc} {cells slots : Nat} {Q : State → Prop}
variable {gp : Nat → Nat} {own : String} {cc : ByteArray} {pc nL : Nat} {ls : Array Slot} {rest : List Value} {D : va_G} {K : Nat → ClassId} {A : Nat → Prop} {Z : c_S} {a a0 : Nat}
theorem z_copyl {n0 n1 index : Nat} {sp dp n : Int32} (S : CallFix p m c cc nL s args lw_all own) (hW : z_W gp D K A s Z H locs) (hs0 : Z.Sh a0 = some (d_lng 4 n0)) (hs1 : Z.Sh a = some (d_lng 4 n1)) (hlink : Cond.methodLink own index arraycopyName ∈ lw_all)
    (h1 : ¬ sp < 0) (h2 : ¬ dp < 0) (h3 : ¬ n < 0) (h4 : sp.toNatClampNeg + n.toNatClampNeg ≤ n0) (h5 : dp.toNatClampNeg + n.toNatClampNeg ≤ n1)
    (hsize : ls.size = nL) (hframes : 1 ≤ R.frames) (hlocals : (rest.map fun v => v.category).sum + (nativeFrameWords "java/lang/System" "arraycopy" 5 + 11) ≤ R.locals) (hdg : decode cc pc = .ok (.invokestatic index, 3))
    (kk : ∀ (H1 : Heap) (locs1 : List Loc), z_W gp D K A s ⟨Z.Sh, Z.V, rowL Z.L a (cpyL (Z.L a0) (Z.L a) sp.toNatClampNeg dp.toNatClampNeg n.toNatClampNeg), Z.n⟩ H1 locs1 → W p l e R s m args below meth c H1 locs1 cells slots Q (F0 m (pc + 3) ls rest)) : W p l e R s m args below meth c H locs cells slots Q (F0 m pc ls (.int n :: .int dp :: .ref a :: .int sp :: .ref a0 :: rest)) := by
  obtain ⟨hexec, hb, hml, hown, hts⟩ := S
  intro T hT X
  have hc0 : H[a0]? = some (vp_cell (K 4) (n0, .inr (.inl (Z.L a0)))) := hW.1.2.1.1 a0 _ hs0
  have hc1 : H[a]? = some (vp_cell (K 4) (n1, .inr (.inl (Z.L a)))) := hW.1.2.1.1 a _ hs1
  obtain ⟨-, k0, hk0, cm0, hkk0⟩ := (hW.1.1.2 4 _ (g_T_at (F := cmF) rfl)).1 n0 (fun j => .long (Z.L a0 j))
  obtain ⟨-, k1, hk1, cm1, hkk1⟩ := (hW.1.1.2 4 _ (g_T_at (F := cmF) rfl)).1 n1 (fun j => .long (Z.L a j))
  obtain ⟨g, hg⟩ : ∃ g, g = cpyL (Z.L a0) (Z.L a) sp.toNatClampNeg dp.toNatClampNeg n.toNatClampNeg := ⟨_, rfl⟩
  obtain ⟨vm', X', step⟩ := X.arraycopy hexec hown (hts _ hlink) (hts _ q341) (hts _ q340) (hts _ q119) (src := a0) (dst := a) (cs := vp_cell (K 4) (n0, .inr (.inl (Z.L a0)))) (cd := vp_cell (K 4) (n1, .inr (.inl (Z.L a)))) (srcPos := sp) (destPos := dp) (n := n) (by rw [hT]; exact hc0) (by rw [hT]; exact hc1)
    (fun _ h => by cases h) (fun _ h => by cases h) (fun h => by cases h) (fun h => by cases h) hk0 hk1 hkk0 hkk1 rfl h1 h2 h3
    (by rw [z_nat h1, z_nat h3]; show ¬ _ > ((arrV (K 4) n0 (fun j => .long (Z.L a0 j))).slots.size : Int); rw [arrV_size]; omega)
    (by rw [z_nat h2, z_nat h3]; show ¬ _ > ((arrV (K 4) n1 (fun j => .long (Z.L a j))).slots.size : Int); rw [arrV_size]; omega)
    (fun vm₁ _ i hi => by
      have e : (vp_cell (K 4) (n0, .inr (.inl (Z.L a0)))).slots.getD (sp.toNatClampNeg + i) .null = .long (Z.L a0 (sp.toNatClampNeg + i)) := by
        show (arrV (K 4) n0 (fun j => .long (Z.L a0 j))).slots.getD _ _ = _
        rw [Array.getD_eq_getD_getElem?, arrV_read _ _ (by omega)]
        rfl
      rw [e]
      exact ⟨rfl, trivial⟩)
    (g := F0 m pc ls (.int n :: .int dp :: .ref a :: .int sp :: .ref a0 :: rest)) rfl (by rw [hml, ← hsize]) (rest := rest) rfl (by rw [hb]; exact hdg) hframes (by show 2 * 0 + _ + _ ≤ _; omega)
  have e1 : copied (vp_cell (K 4) (n0, .inr (.inl (Z.L a0)))) (vp_cell (K 4) (n1, .inr (.inl (Z.L a)))) sp dp n = vp_cell (K 4) (n1, .inr (.inl g)) := by rw [hg]; exact va_copied (fun z => .long z) (K 4) (K 4) (Z.L a0) (Z.L a) h4
  rw [e1] at X' step
  have hheap : ((T.setVm vm').setCell a (vp_cell (K 4) (n1, .inr (.inl g)))).heap = H.setIfInBounds a (vp_cell (K 4) (n1, .inr (.inl g))) := by rw [← hT]; rfl
  have hW1 : ∀ Lx : List Loc, (∀ q ∈ Lx, q.base = a) → z_W gp D K A s ⟨Z.Sh, Z.V, rowL Z.L a g, Z.n⟩ (H.setIfInBounds a (vp_cell (K 4) (n1, .inr (.inl g)))) (locs ++ Lx) := by
    intro Lx hLx
    have h9 := d_set (cell := vp_cell (K 4) (n1, .inr (.inl g))) (d := d_lng 4 n1) (V' := Z.V) (L' := rowL Z.L a g) hW hs1 (fun _ _ => rfl) (fun j hj => by simp [rowL, hj]) (fun H1 h => by
      show H1[a]? = some (vp_cell (K 4) (n1, .inr (.inl (rowL Z.L a g a))))
      rw [h]; simp [rowL]) hLx
    rw [← updS_self hs1] at h9
    exact h9
  rw [← hg] at kk
  obtain ⟨t, a1, b1⟩ := kk _ _ (hW1 _ (fun q hq => by
    obtain ⟨z, -, hz⟩ := List.mem_map.mp hq
    rw [← hz])) _ hheap X'
  exact ⟨t, step t a1, b1⟩
end DCL
theorem cwX7_width {own : String} {R : Room} {s : State} {args : Array Value} {index : Nat} (hts : ∀ w ∈ lw_all, w.before args s = true) (hl : Cond.methodLink own index yX7_width ∈ lw_all) (hR : rmX7_width.frames + 1 ≤ R.frames ∧ 8 + (1 + 11) + rmX7_width.locals ≤ R.locals) : CallW R s args own RX7 index yX7_width cX7_width 1 (some .int) (ws_ yX7_width cX7_width 1 (some .int)) rmX7_width 0 0 0 := cwV 0 hts (lw_V hl q337 qs4 q121 q338) rfl rfl rfl (by decide +kernel) hR
theorem idx_cast {gp : Nat → Nat} {D : va_G} {K : Nat → ClassId} {A : Nat → Prop} {Z : c_S} {s : State} {H : Heap} {locs : List Loc} (hW : z_W gp D K A s Z H locs) : ∀ c0 c1, s.vm.findClass idxN2 = some c0 → s.vm.findClass "java/lang/IndexOutOfBoundsException" = some c1 → s.vm.assignable c0 c1 = true := by
  intro c0 c1 h0 h1
  have hin : (Cond.castable idxN2 "java/lang/IndexOutOfBoundsException") ∈ lw_tbl := by decide +kernel
  have hb : (Cond.castable idxN2 "java/lang/IndexOutOfBoundsException").before #[] s = true := va_Nw.use rfl (hW.1.2.2.2.2.1.2.2.2.2.1 _ (nestW_in hin rfl))
  unfold Cond.before Cond.holds at hb
  simpa [Cond.value, h0, h1] using hb
abbrev rmX7_pastes : Room := rmD 9 10310 3 420
set_option maxHeartbeats 4000000 in
theorem metX7_pastes {l : Launch} (hlt : l.stackTraces = false) {gp : Nat → Nat} {D : va_G} {K : Nat → ClassId} {Z0 : c_S} {a0 a2 : Nat} {a1 a3 a4 r : Int32} {Z' : c_S} (h : cm_X7_pastes Z0 a0 a1 a2 a3 a4 = some (r, Z')) (hk2 : ∃ rf, Z0.Sh a2 = some (d_obj 7 1 rf)) : MetT l yX7_pastes (wsW_ yX7_pastes cX7_pastes 6 (some .int) [(31, 46, 49, 48)]) rmX7_pastes (z_Pc gp [.ref a0, .int a1, .ref a2, .int a3, .int a4] D K Z0) (z_Q (.returned (some (.int r))) D K (z_A Z0) Z') 3 420 (z_A Z0) := by
  refine d_metH rfl (Nat.le_of_ble_eq_true rfl) ?_
  intro p e s m below meth c ls S hr hlk ht_ hl hW hsz
  obtain ⟨z0, zr, htab, hf0⟩ := ztab ht_
  have S : CallFix p m c cX7_pastes 6 s ([.ref a0, .int a1, .ref a2, .int a3, .int a4] : List Value).toArray lw_all RX7 := S
  have hx := S.1
  have hb := S.2.1
  have hl : lv_has ls 6 [(0, .ref a0), (1, .int a1), (2, .ref a2), (3, .int a3), (4, .int a4)] := hl
  have hpl := zPl_of hW hsz
  have J14 : ∀ (H : Heap) (locs : List Loc), z_W gp D K (z_A Z0) s Z0 H locs → (some (-6, Z0) : Option (Int32 × c_S)) = some (r, Z') → W p l e rmX7_pastes s m ([.ref a0, .int a1, .ref a2, .int a3, .int a4] : List Value).toArray below meth c H locs 0 0 (MQT below (z_Q (.returned (some (.int r))) D K (z_A Z0) Z') ([.ref a0, .int a1, .ref a2, .int a3, .int a4] : List Value).toArray s 3 420 (z_A Z0)) (F0 m 14 ls []) := by
    intro H locs hW h
    cases h
    refine lv_bipush (v := (-6)) hx hb dX7_pastes_14 (by decide) ?_
    exact W.toT (d_iret S hr hlk hW (Nat.le_of_ble_eq_true rfl) (Nat.le_of_ble_eq_true rfl) dX7_pastes_16)
  unfold cm_X7_pastes at h
  refine lv_aload_n hx hb dX7_pastes_0 rfl (lv_at hl 0 rfl) ?_
  obtain ⟨rf0, o_1, hs0, hn0, h⟩ := cR_some h
  refine d_getv S hW hs0 zC_X7.1 zC_X7.2.1 0 (by decide) (Or.inl q749) (fun _ h => h) (d_fv hn0) dX7_pastes_1 ?_
  cases o_1 with
  | none => exact lv_ifnullN (tgt := 14) hx hb dX7_pastes_4 (by decide) (J14 _ _ hW h)
  | some b1 =>
    have h : (cR Z0.Sh a2 7 1 0 fun o_2 => zNl o_2 (some (-6, Z0)) (fun b_2 => bnd (cm_X7_width Z0 a0) fun x_3 => bnd (cm_X7_width Z0 a2) fun x_4 => if x_3 = x_4 then cm_X7_copy Z0 b1 a1 b_2 a3 a4 else some (-8, Z0))) = some (r, Z') := h
    refine lv_ifnull hx hb dX7_pastes_4 ?_
    refine lv_aload_n hx hb dX7_pastes_7 rfl (lv_at hl 2 rfl) ?_
    obtain ⟨rf2, o_2, hs2, hn2, h⟩ := cR_some h
    refine d_getv S hW hs2 zC_X7.1 zC_X7.2.1 0 (by decide) (Or.inl q749) (fun _ h => h) (d_fv hn2) dX7_pastes_8 ?_
    cases o_2 with
    | none => exact lv_ifnonnullN hx hb dX7_pastes_11 (J14 _ _ hW h)
    | some b2 =>
      have h : (bnd (cm_X7_width Z0 a0) fun x_3 => bnd (cm_X7_width Z0 a2) fun x_4 => if x_3 = x_4 then cm_X7_copy Z0 b1 a1 b2 a3 a4 else some (-8, Z0)) = some (r, Z') := h
      refine lv_ifnonnull (tgt := 17) hx hb dX7_pastes_11 (by decide) ?_
      refine lv_aload_n hx hb dX7_pastes_17 rfl (lv_at hl 0 rfl) ?_
      obtain ⟨x_3, h_3, h⟩ := bnd_some h
      refine d_callV (As := []) (rest := []) S hW (metX7_width h_3) (cwX7_width S.2.2.2.2 q335 ⟨Nat.le_of_ble_eq_true rfl, Nat.le_of_ble_eq_true rfl⟩) hs0 rfl rfl hl.1 rfl (Nat.le_of_ble_eq_true rfl) dX7_pastes_18 ⟨(Nat.le_of_ble_eq_true rfl), (Nat.le_of_ble_eq_true rfl)⟩ rfl (fun H locs hW => ?_)
      refine lv_aload_n hx hb dX7_pastes_21 rfl (lv_at hl 2 rfl) ?_
      obtain ⟨x_4, h_4, h⟩ := bnd_some h
      refine d_callV (As := []) (rest := [.int x_3]) S hW (metX7_width h_4) (cwX7_width S.2.2.2.2 q335 ⟨Nat.le_of_ble_eq_true rfl, Nat.le_of_ble_eq_true rfl⟩) hs2 rfl rfl hl.1 rfl (Nat.le_of_ble_eq_true rfl) dX7_pastes_22 ⟨(Nat.le_of_ble_eq_true rfl), (Nat.le_of_ble_eq_true rfl)⟩ rfl (fun H locs hW => ?_)
      refine lv_icmp_eq (tgt := 31) hx hb dX7_pastes_25 (by decide) (fun c_5 => ?_) (fun c_5 => ?_)
      · have h := if_t h c_5
        refine lv_aload_n hx hb dX7_pastes_31 rfl (lv_at hl 0 rfl) ?_
        refine d_getv S hW hs0 zC_X7.1 zC_X7.2.1 0 (by decide) (Or.inl q749) (fun _ h => h) (d_fv hn0) dX7_pastes_32 ?_
        refine lv_iload_n hx hb dX7_pastes_35 rfl (lv_at hl 1 rfl) ?_
        refine lv_aload_n hx hb dX7_pastes_36 rfl (lv_at hl 2 rfl) ?_
        refine d_getv S hW hs2 zC_X7.1 zC_X7.2.1 0 (by decide) (Or.inl q749) (fun _ h => h) (d_fv hn2) dX7_pastes_37 ?_
        refine lv_iload_n hx hb dX7_pastes_40 rfl (lv_at hl 3 rfl) ?_
        refine lv_iload hx hb dX7_pastes_41 (lv_at hl 4 rfl) ?_
        -- it caught
        have caught : ∀ (H1 : Heap) (locs1 : List Loc), (some (-7, zGrow Z0 3) : Option (Int32 × c_S)) = some (r, Z') → z_W gp D K (z_A Z0) s (zGrow Z0 3) H1 locs1 → zCe s H1 (Z0.n + 2) idxN2 → WT p l e rmX7_pastes s m ([.ref a0, .int a1, .ref a2, .int a3, .int a4] : List Value).toArray below meth c H1 locs1 (0 + 0 + 0 + 3) (0 + 0 + 0 + 414) (MQT below (z_Q (.returned (some (.int r))) D K (z_A Z0) Z') ([.ref a0, .int a1, .ref a2, .int a3, .int a4] : List Value).toArray s 3 420 (z_A Z0)) (F0 m 43 ls []) (Z0.n + 2) := by
          intro H1 locs1 h hW1 hce
          cases h
          refine zcatchE htab hf0 (by decide) (by decide) S q334 hce (idx_cast hW1) ?_
          refine lv_astore (lv' := [(5, .ref (Z0.n + 2)), (0, .ref a0), (1, .int a1), (2, .ref a2), (3, .int a3), (4, .int a4)]) hx hb dX7_pastes_49 hl (by decide) rfl (fun ls hl => ?_)
          refine lv_bipush (v := (-7)) hx hb dX7_pastes_51 (by decide) ?_
          exact W.toT (d_iret S hr hlk hW1 (Nat.le_of_ble_eq_true rfl) (Nat.le_of_ble_eq_true rfl) dX7_pastes_53)
        unfold cm_X7_copy at h
        split at h
        · rename_i q0 q1 hq0 hq1
          obtain ⟨t0, N0⟩ := q0
          obtain ⟨t1, N1⟩ := q1
          split at h
          · rename_i hc
            obtain ⟨e1, e2, e3, e4, e5⟩ := hc
            dsimp only at e1 e2 e3 e4 e5 h
            subst e1
            have hq0 : Z0.Sh b1 = some (d_int t0 N0) := hq0
            have hq1 : Z0.Sh b2 = some (d_int t0 N1) := hq1
            obtain ⟨ty, hty, hpr, hkn, hfit⟩ : ∃ ty, cmF[t0]? = some ty ∧ refKind ty = false ∧ (Native.java_lang_System.arraycopy.kindName ty).toList.length ≤ 12 ∧ ∀ x, okC t0 x = true → fits ty (.int x) = true := by
              rcases e2 with rfl | rfl | rfl
              · exact ⟨.int, rfl, rfl, by decide, fun _ _ => rfl⟩
              · refine ⟨.byte, rfl, rfl, by decide, fun x hx => ?_⟩
                have hx := of_decide_eq_true hx
                rcases hx with hx | ⟨-, hx⟩ | ⟨hx, -⟩
                · cases hx
                · exact fits_b hx
                · cases hx
              · refine ⟨.short, rfl, rfl, by decide, fun x hx => ?_⟩
                have hx := of_decide_eq_true hx
                rcases hx with hx | ⟨hx, -⟩ | ⟨-, hx⟩
                · cases hx
                · cases hx
                · exact fits_s hx
            split at h
            · rename_i ho
              have hc0 : H[b1]? = some (vp_cell (K t0) (N0, .inl (Z0.V b1))) := hW.1.2.1.1 b1 _ hq0
              have hc1 : H[b2]? = some (vp_cell (K t0) (N1, .inl (Z0.V b2))) := hW.1.2.1.1 b2 _ hq1
              obtain ⟨-, k0, hk0, cm0, hkk0⟩ := (hW.1.1.2 t0 _ (g_T_at hty)).1 N0 (fun j => .int (Z0.V b1 j))
              obtain ⟨-, k1, hk1, cm1, hkk1⟩ := (hW.1.1.2 t0 _ (g_T_at hty)).1 N1 (fun j => .int (Z0.V b2 j))
              exact zx_copyO (t := t0) (N0 := N0) (N1 := N1) S hW hpl hlt hc0 hc1 rfl rfl (arrV_size _ _ _) (arrV_size _ _ _) hk0 hk1 hkk0 hkk1 hpr e3 e4 hkn ho q339 hl.1 (Nat.le_of_ble_eq_true rfl) (Nat.le_of_ble_eq_true rfl) (Nat.le_of_ble_eq_true rfl) (Nat.le_of_ble_eq_true rfl) (Nat.le_of_ble_eq_true rfl) dX7_pastes_43 (fun H1 locs1 hW1 hce => caught H1 locs1 h hW1 hce)
            · rename_i ho
              have ho : ¬ (a1 < 0 ∨ a3 < 0 ∨ a4 < 0 ∨ N0 < a1.toNatClampNeg + a4.toNatClampNeg ∨ N1 < a3.toNatClampNeg + a4.toNatClampNeg) := fun z => ho (decide_eq_true z)
              refine d_copyi S hW hq0 hq1 hty hpr q339 (fun z => ho (Or.inl z)) (fun z => ho (Or.inr (Or.inl z))) (fun z => ho (Or.inr (Or.inr (Or.inl z)))) (by omega) (by omega) (fun i hi => hfit _ (List.all_eq_true.mp e5 _ (List.mem_range.mpr (by omega)))) hl.1 (Nat.le_of_ble_eq_true rfl) (by decide +kernel) dX7_pastes_43 rfl (fun H1 locs1 hW1 => ?_)
              refine lv_goto (tgt := 54) hx hb dX7_pastes_46 (by decide) ?_
              refine lv_iconst (v := 0) hx hb dX7_pastes_54 (by decide) ?_
              cases h
              exact W.toT (d_iret S hr hlk hW1 (Nat.le_of_ble_eq_true rfl) (Nat.le_of_ble_eq_true rfl) dX7_pastes_55)
          · cases h
        · rename_i q0 q1 hq0 hq1
          obtain ⟨t0, N0⟩ := q0
          obtain ⟨t1, N1⟩ := q1
          split at h
          · rename_i hc
            obtain ⟨e1, e2, e3, e4⟩ := hc
            dsimp only at e1 e2 e3 e4 h
            subst e1
            subst e2
            have hq0 : Z0.Sh b1 = some (d_lng 4 N0) := hq0
            have hq1 : Z0.Sh b2 = some (d_lng 4 N1) := hq1
            split at h
            · rename_i ho
              have hc0 : H[b1]? = some (vp_cell (K 4) (N0, .inr (.inl (Z0.L b1)))) := hW.1.2.1.1 b1 _ hq0
              have hc1 : H[b2]? = some (vp_cell (K 4) (N1, .inr (.inl (Z0.L b2)))) := hW.1.2.1.1 b2 _ hq1
              obtain ⟨-, k0, hk0, cm0, hkk0⟩ := (hW.1.1.2 4 _ (g_T_at (F := cmF) rfl)).1 N0 (fun j => .long (Z0.L b1 j))
              obtain ⟨-, k1, hk1, cm1, hkk1⟩ := (hW.1.1.2 4 _ (g_T_at (F := cmF) rfl)).1 N1 (fun j => .long (Z0.L b2 j))
              exact zx_copyO (t := 4) (N0 := N0) (N1 := N1) S hW hpl hlt hc0 hc1 rfl rfl (arrV_size _ _ _) (arrV_size _ _ _) hk0 hk1 hkk0 hkk1 rfl e3 e4 (show (Native.java_lang_System.arraycopy.kindName .long).toList.length ≤ 12 by decide) ho q339 hl.1 (Nat.le_of_ble_eq_true rfl) (Nat.le_of_ble_eq_true rfl) (Nat.le_of_ble_eq_true rfl) (Nat.le_of_ble_eq_true rfl) (Nat.le_of_ble_eq_true rfl) dX7_pastes_43 (fun H1 locs1 hW1 hce => caught H1 locs1 h hW1 hce)
            · rename_i ho
              have ho : ¬ (a1 < 0 ∨ a3 < 0 ∨ a4 < 0 ∨ N0 < a1.toNatClampNeg + a4.toNatClampNeg ∨ N1 < a3.toNatClampNeg + a4.toNatClampNeg) := fun z => ho (decide_eq_true z)
              refine z_copyl S hW hq0 hq1 q339 (fun z => ho (Or.inl z)) (fun z => ho (Or.inr (Or.inl z))) (fun z => ho (Or.inr (Or.inr (Or.inl z)))) (by omega) (by omega) hl.1 (Nat.le_of_ble_eq_true rfl) (by decide +kernel) dX7_pastes_43 (fun H1 locs1 hW1 => ?_)
              refine lv_goto (tgt := 54) hx hb dX7_pastes_46 (by decide) ?_
              refine lv_iconst (v := 0) hx hb dX7_pastes_54 (by decide) ?_
              cases h
              exact W.toT (d_iret S hr hlk hW1 (Nat.le_of_ble_eq_true rfl) (Nat.le_of_ble_eq_true rfl) dX7_pastes_55)
          · cases h
        · cases h
      · have h := if_f h c_5
        cases h
        refine lv_bipush (v := (-8)) hx hb dX7_pastes_28 (by decide) ?_
        exact W.toT (d_iret S hr hlk hW (Nat.le_of_ble_eq_true rfl) (Nat.le_of_ble_eq_true rfl) dX7_pastes_30)
theorem cwX7_pastes {own : String} {R : Room} {s : State} {args : Array Value} {index : Nat} (hts : ∀ w ∈ lw_all, w.before args s = true) (hl : Cond.methodLink own index yX7_pastes ∈ lw_all) (hR : rmX7_pastes.frames + 1 ≤ R.frames ∧ 8 + (6 + 11) + rmX7_pastes.locals ≤ R.locals) : zCallW R s args own RX7 index yX7_pastes cX7_pastes 6 (some .int) [(31, 46, 49, 48)] (wsW_ yX7_pastes cX7_pastes 6 (some .int) [(31, 46, 49, 48)]) rmX7_pastes 3 420 4 := zcwVW 4 hts hl q331 q332 q121 q333 rfl rfl ⟨by decide, by decide, by decide +kernel⟩ hR
abbrev rmX0_paste : Room := rmD 11 10400 3 420
set_option maxHeartbeats 4000000 in
theorem metX0_paste {l : Launch} (hlt : l.stackTraces = false) {gp : Nat → Nat} {D : va_G} {K : Nat → ClassId} {Z0 : c_S} {a0 : Nat} {a1 a2 a3 a4 a5 r : Int32} {Z' : c_S} (h : cm_X0_paste Z0 a0 a1 a2 a3 a4 a5 = some (r, Z')) : MetT l yX0_paste (ws_ yX0_paste cX0_paste 6 (some .int)) rmX0_paste (z_Pc gp [.ref a0, .int a1, .int a2, .int a3, .int a4, .int a5] D K Z0) (z_Q (.returned (some (.int r))) D K (z_A Z0) Z') 3 420 (z_A Z0) := by
  refine d_metT rfl (Nat.le_of_ble_eq_true rfl) ?_
  intro p e s m below meth c ls S hr hlk hnm hne hl hW hsz
  have S : CallFix p m c cX0_paste 6 s ([.ref a0, .int a1, .int a2, .int a3, .int a4, .int a5] : List Value).toArray lw_all RX0 := S
  have hx := S.1
  have hb := S.2.1
  have hl : lv_has ls 6 [(0, .ref a0), (1, .int a1), (2, .int a2), (3, .int a3), (4, .int a4), (5, .int a5)] := hl
  unfold cm_X0_paste at h
  have J37 : ∀ (H : Heap) (locs : List Loc), z_W gp D K (z_A Z0) s Z0 H locs → (some (-2, Z0) : Option (Int32 × c_S)) = some (r, Z') → W p l e rmX0_paste s m ([.ref a0, .int a1, .int a2, .int a3, .int a4, .int a5] : List Value).toArray below meth c H locs 0 0 (MQT below (z_Q (.returned (some (.int r))) D K (z_A Z0) Z') ([.ref a0, .int a1, .int a2, .int a3, .int a4, .int a5] : List Value).toArray s 3 420 (z_A Z0)) (F0 m 37 ls []) := by
    intro H locs hW h
    cases h
    refine lv_bipush (v := (-2)) hx hb dX0_paste_37 (by decide) ?_
    exact W.toT (d_iret S hr hlk hW (Nat.le_of_ble_eq_true rfl) (Nat.le_of_ble_eq_true rfl) dX0_paste_39)
  refine lv_iload_n hx hb dX0_paste_0 rfl (lv_at hl 1 rfl) ?_
  obtain ⟨x_1, h_1, h⟩ := bnd_some h
  refine d_callS (As := [.int a1]) (rest := []) S hW (metX0_isSlot h_1) (cwX0_isSlot_S S.2.2.2.2 q145 ⟨Nat.le_of_ble_eq_true rfl, Nat.le_of_ble_eq_true rfl⟩) rfl hl.1 rfl (Nat.le_of_ble_eq_true rfl) dX0_paste_1 ⟨(Nat.le_of_ble_eq_true rfl), (Nat.le_of_ble_eq_true rfl)⟩ rfl (fun H locs hW => ?_)
  refine lv_if_eq (tgt := 37) hx hb dX0_paste_4 (by decide) (fun c_1 => J37 H locs hW (if_t h c_1)) (fun c_1 => ?_)
  have h := if_f h c_1
  refine lv_iload_n hx hb dX0_paste_7 rfl (lv_at hl 3 rfl) ?_
  obtain ⟨x_2, h_2, h⟩ := bnd_some h
  refine d_callS (As := [.int a3]) (rest := []) S hW (metX0_isSlot h_2) (cwX0_isSlot_S S.2.2.2.2 q145 ⟨Nat.le_of_ble_eq_true rfl, Nat.le_of_ble_eq_true rfl⟩) rfl hl.1 rfl (Nat.le_of_ble_eq_true rfl) dX0_paste_8 ⟨(Nat.le_of_ble_eq_true rfl), (Nat.le_of_ble_eq_true rfl)⟩ rfl (fun H locs hW => ?_)
  refine lv_if_eq (tgt := 37) hx hb dX0_paste_11 (by decide) (fun c_2 => J37 H locs hW (if_t h c_2)) (fun c_2 => ?_)
  have h := if_f h c_2
  refine lv_aload_n hx hb dX0_paste_14 rfl (lv_at hl 0 rfl) ?_
  obtain ⟨rf0, a_3, hs0, hn0, h⟩ := cA_some h
  refine d_getv S hW hs0 zC_X0.1 zC_X0.2.1 0 (by decide) (Or.inl q754) (fun _ h => h) (d_fv hn0) dX0_paste_15 ?_
  refine lv_iload_n hx hb dX0_paste_18 rfl (lv_at hl 1 rfl) ?_
  refine zw_aald (t := 7) S hW rfl dX0_paste_19 h (fun o_4 h => ?_)
  have h9 := nn_some h
  clear h
  obtain ⟨a_5, rfl, h⟩ := h9
  refine lv_iload_n hx hb dX0_paste_20 rfl (lv_at hl 2 rfl) ?_
  refine lv_aload_n hx hb dX0_paste_21 rfl (lv_at hl 0 rfl) ?_
  refine d_getv S hW hs0 zC_X0.1 zC_X0.2.1 0 (by decide) (Or.inl q754) (fun _ h => h) (d_fv hn0) dX0_paste_22 ?_
  refine lv_iload_n hx hb dX0_paste_25 rfl (lv_at hl 3 rfl) ?_
  refine zw_aald (t := 7) S hW rfl dX0_paste_26 h (fun o_6 h => ?_)
  have h9 := nn_some h
  clear h
  obtain ⟨a_7, rfl, h⟩ := h9
  obtain ⟨⟨_, k_5⟩, h⟩ := zK_some h
  obtain ⟨k7, h⟩ := zK_some h
  refine lv_iload hx hb dX0_paste_27 (lv_at hl 4 rfl) ?_
  refine lv_iload hx hb dX0_paste_29 (lv_at hl 5 rfl) ?_
  obtain ⟨x_8, Z_9, h_8, h⟩ := bnd2_some h
  refine d_callVTWr (As := [.int a2, .ref a_7, .int a4, .int a5]) (rest := []) S hW (metX7_pastes hlt h_8 k7) (cwX7_pastes S.2.2.2.2 q330 ⟨Nat.le_of_ble_eq_true rfl, Nat.le_of_ble_eq_true rfl⟩) k_5 rfl rfl hl.1 rfl (Nat.le_of_ble_eq_true rfl) dX0_paste_31 ⟨(Nat.le_of_ble_eq_true rfl), (Nat.le_of_ble_eq_true rfl)⟩ rfl (fun H locs hW => ?_)
  refine lv_goto (tgt := 39) hx hb dX0_paste_34 (by decide) ?_
  cases h
  exact W.toT (d_iret S hr hlk hW (Nat.le_of_ble_eq_true rfl) (Nat.le_of_ble_eq_true rfl) dX0_paste_39)
