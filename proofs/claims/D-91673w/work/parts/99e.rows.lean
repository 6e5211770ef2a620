/-! slots: row, write -/
set_option maxRecDepth 100000
theorem cwX7_begins {own : String} {R : Room} {s : State} {args : Array Value} {index : Nat} (hts : ∀ w ∈ lw_all, w.before args s = true) (hl : Cond.methodLink own index yX7_begins ∈ lw_all) (hR : rmX7_begins.frames + 1 ≤ R.frames ∧ 8 + (4 + 11) + rmX7_begins.locals ≤ R.locals) : zCallW R s args own RX7 index yX7_begins cX7_begins 4 (some .boolean) [(0, 65, 68, 15)] (wsW_ yX7_begins cX7_begins 4 (some .boolean) [(0, 65, 68, 15)]) rmX7_begins 3 60 2 := zcwVW 2 hts hl q153 q154 q121 q155 rfl rfl ⟨by decide, by decide, by decide +kernel⟩ hR
theorem cwX7_puts {own : String} {R : Room} {s : State} {args : Array Value} {index : Nat} (hts : ∀ w ∈ lw_all, w.before args s = true) (hl : Cond.methodLink own index yX7_puts ∈ lw_all) (hR : rmX7_puts.frames + 1 ≤ R.frames ∧ 8 + (5 + 11) + rmX7_puts.locals ≤ R.locals) : zCallW R s args own RX7 index yX7_puts cX7_puts 5 (some .int) [(0, 6, 9, 29), (0, 6, 14, 31)] (wsW_ yX7_puts cX7_puts 5 (some .int) [(0, 6, 9, 29), (0, 6, 14, 31)]) rmX7_puts 6 500 2 := zcwVW 2 hts hl q252 q253 q121 q254 rfl rfl ⟨by decide, by decide, by decide +kernel⟩ hR
abbrev rmX0_row : Room := rmD 11 10400 3 60
set_option maxHeartbeats 4000000 in
theorem metX0_row {l : Launch} (hlt : l.stackTraces = false) {gp : Nat → Nat} {D : va_G} {K : Nat → ClassId} {Z0 : c_S} {a0 : Nat} {a1 a2 a3 r : Int32} {Z' : c_S} (h : cm_X0_row Z0 a0 a1 a2 a3 = some (r, Z')) : MetT l yX0_row (ws_ yX0_row cX0_row 4 (some .int)) rmX0_row (z_Pc gp [.ref a0, .int a1, .int a2, .int a3] D K Z0) (z_Q (.returned (some (.int r))) D K (z_A Z0) Z') 3 60 (z_A Z0) := by
  refine d_metT rfl (Nat.le_of_ble_eq_true rfl) ?_
  intro p e s m below meth c ls S hr hlk hnm hne hl hW hsz
  have S : CallFix p m c cX0_row 4 s ([.ref a0, .int a1, .int a2, .int a3] : List Value).toArray lw_all RX0 := S
  have hx := S.1
  have hb := S.2.1
  have hl : lv_has ls 4 [(0, .ref a0), (1, .int a1), (2, .int a2), (3, .int a3)] := hl
  unfold cm_X0_row at h
  refine lv_iload_n hx hb dX0_row_0 rfl (lv_at hl 1 rfl) ?_
  obtain ⟨x_1, h_1, h⟩ := bnd_some h
  refine d_callS (As := [.int a1]) (rest := []) S hW (metX0_isSlot h_1) (cwX0_isSlot_S S.2.2.2.2 q145 ⟨Nat.le_of_ble_eq_true rfl, Nat.le_of_ble_eq_true rfl⟩) rfl hl.1 rfl (Nat.le_of_ble_eq_true rfl) dX0_row_1 ⟨(Nat.le_of_ble_eq_true rfl), (Nat.le_of_ble_eq_true rfl)⟩ rfl (fun H locs hW => ?_)
  have J25 : ∀ (H : Heap) (locs : List Loc), z_W gp D K (z_A Z0) s Z0 H locs → (some (-2, Z0) : Option (Int32 × c_S)) = some (r, Z') → W p l e rmX0_row s m ([.ref a0, .int a1, .int a2, .int a3] : List Value).toArray below meth c H locs 0 0 (MQT below (z_Q (.returned (some (.int r))) D K (z_A Z0) Z') ([.ref a0, .int a1, .int a2, .int a3] : List Value).toArray s 3 60 (z_A Z0)) (F0 m 25 ls []) := by
    intro H locs hW h
    cases h
    refine lv_bipush (v := (-2)) hx hb dX0_row_25 (by decide) ?_
    exact W.toT (d_iret S hr hlk hW (Nat.le_of_ble_eq_true rfl) (Nat.le_of_ble_eq_true rfl) dX0_row_27)
  refine lv_if_eq (tgt := 25) hx hb dX0_row_4 (by decide) (fun c_1 => ?_) (fun c_1 => ?_)
  · have h := if_t h c_1
    exact J25 H locs hW h
  have h := if_f h c_1
  refine lv_iload_n hx hb dX0_row_7 rfl (lv_at hl 2 rfl) ?_
  refine lv_i2l (v := a2.toInt64) hx hb dX0_row_8 rfl ?_
  refine lv_lconst (v := 0) hx hb dX0_row_9 (by decide) ?_
  refine lv_ldc2 (v := 3) hx hb S.2.2.2.1 (S.2.2.2.2 _ q148) dX0_row_10 ?_
  obtain ⟨x_2, h_2, h⟩ := bnd_some h
  refine d_callS (As := [.long a2.toInt64, .long 0, .long 3]) (rest := []) S hW (metX0_in h_2) (cwX0_in_S S.2.2.2.2 q149 ⟨Nat.le_of_ble_eq_true rfl, Nat.le_of_ble_eq_true rfl⟩) rfl hl.1 rfl (Nat.le_of_ble_eq_true rfl) dX0_row_13 ⟨(Nat.le_of_ble_eq_true rfl), (Nat.le_of_ble_eq_true rfl)⟩ rfl (fun H locs hW => ?_)
  refine lv_if_eq (tgt := 25) hx hb dX0_row_16 (by decide) (fun c_2 => ?_) (fun c_2 => ?_)
  · have h := if_t h c_2
    exact J25 H locs hW h
  have h := if_f h c_2
  refine lv_iload_n hx hb dX0_row_19 rfl (lv_at hl 3 rfl) ?_
  refine lv_bipush (v := 60) hx hb dX0_row_20 (by decide) ?_
  refine lv_icmp_le (tgt := 28) hx hb dX0_row_22 (by decide) (fun c_3 => ?_) (fun c_3 => ?_)
  · have h := if_t h c_3
    refine lv_aload_n hx hb dX0_row_28 rfl (lv_at hl 0 rfl) ?_
    refine zw_getA S hW zC_X0 (i := 0) (by decide) (Or.inl q754) (fun _ h => h) dX0_row_29 h (fun a_3 h => ?_)
    refine lv_iload_n hx hb dX0_row_32 rfl (lv_at hl 1 rfl) ?_
    refine zw_aald (t := 7) S hW rfl dX0_row_33 h (fun o_4 h => ?_)
    have h9 := nn_some h
    clear h
    obtain ⟨a_5, rfl, h⟩ := h9
    obtain ⟨⟨_, k_5⟩, h⟩ := zK_some h
    refine lv_iload_n hx hb dX0_row_34 rfl (lv_at hl 2 rfl) ?_
    refine lv_iload_n hx hb dX0_row_35 rfl (lv_at hl 3 rfl) ?_
    obtain ⟨x_6, Z_7, h_6, h⟩ := bnd2_some h
    refine d_callVTWr (As := [.int a2, .int a3]) (rest := []) S hW (metX7_begins hlt h_6) (cwX7_begins S.2.2.2.2 q152 ⟨Nat.le_of_ble_eq_true rfl, Nat.le_of_ble_eq_true rfl⟩) k_5 rfl rfl hl.1 rfl (Nat.le_of_ble_eq_true rfl) dX0_row_36 ⟨(Nat.le_of_ble_eq_true rfl), (Nat.le_of_ble_eq_true rfl)⟩ rfl (fun H locs hW => ?_)
    refine lv_if_eq (tgt := 46) hx hb dX0_row_39 (by decide) (fun c_4 => ?_) (fun c_4 => ?_)
    · have h := if_t h c_4
      cases h
      refine lv_bipush (v := (-3)) hx hb dX0_row_46 (by decide) ?_
      exact W.toT (d_iret S hr hlk hW (Nat.le_of_ble_eq_true rfl) (Nat.le_of_ble_eq_true rfl) dX0_row_48)
    · have h := if_f h c_4
      cases h
      refine lv_iconst (v := 0) hx hb dX0_row_42 (by decide) ?_
      refine lv_goto (tgt := 48) hx hb dX0_row_43 (by decide) ?_
      exact W.toT (d_iret S hr hlk hW (Nat.le_of_ble_eq_true rfl) (Nat.le_of_ble_eq_true rfl) dX0_row_48)
  · have h := if_f h c_3
    exact J25 H locs hW h
abbrev rmX0_write : Room := rmD 12 10450 6 500
set_option maxHeartbeats 4000000 in
theorem metX0_write {l : Launch} (hlt : l.stackTraces = false) {gp : Nat → Nat} {D : va_G} {K : Nat → ClassId} {Z0 : c_S} {a0 : Nat} {a1 a2 r : Int32} {a3 : Int64} {Z' : c_S} (h : cm_X0_write Z0 a0 a1 a2 a3 = some (r, Z')) : MetT l yX0_write (ws_ yX0_write cX0_write 5 (some .int)) rmX0_write (z_Pc gp [.ref a0, .int a1, .int a2, .long a3] D K Z0) (z_Q (.returned (some (.int r))) D K (z_A Z0) Z') 6 500 (z_A Z0) := by
  refine d_metT rfl (Nat.le_of_ble_eq_true rfl) ?_
  intro p e s m below meth c ls S hr hlk hnm hne hl hW hsz
  have S : CallFix p m c cX0_write 5 s ([.ref a0, .int a1, .int a2, .long a3] : List Value).toArray lw_all RX0 := S
  have hx := S.1
  have hb := S.2.1
  have hl : lv_has ls 5 [(0, .ref a0), (1, .int a1), (2, .int a2), (3, .long a3)] := hl
  unfold cm_X0_write at h
  refine lv_iload_n hx hb dX0_write_0 rfl (lv_at hl 1 rfl) ?_
  obtain ⟨x_1, h_1, h⟩ := bnd_some h
  refine d_callS (As := [.int a1]) (rest := []) S hW (metX0_isSlot h_1) (cwX0_isSlot_S S.2.2.2.2 q145 ⟨Nat.le_of_ble_eq_true rfl, Nat.le_of_ble_eq_true rfl⟩) rfl hl.1 rfl (Nat.le_of_ble_eq_true rfl) dX0_write_1 ⟨(Nat.le_of_ble_eq_true rfl), (Nat.le_of_ble_eq_true rfl)⟩ rfl (fun H locs hW => ?_)
  refine lv_if_eq (tgt := 21) hx hb dX0_write_4 (by decide) (fun c_1 => ?_) (fun c_1 => ?_)
  · have h := if_t h c_1
    cases h
    refine lv_bipush (v := (-2)) hx hb dX0_write_21 (by decide) ?_
    exact W.toT (d_iret S hr hlk hW (Nat.le_of_ble_eq_true rfl) (Nat.le_of_ble_eq_true rfl) dX0_write_23)
  have h := if_f h c_1
  refine lv_aload_n hx hb dX0_write_7 rfl (lv_at hl 0 rfl) ?_
  refine zw_getA S hW zC_X0 (i := 0) (by decide) (Or.inl q754) (fun _ h => h) dX0_write_8 h (fun a_3 h => ?_)
  refine lv_iload_n hx hb dX0_write_11 rfl (lv_at hl 1 rfl) ?_
  refine zw_aald (t := 7) S hW rfl dX0_write_12 h (fun o_4 h => ?_)
  have h9 := nn_some h
  clear h
  obtain ⟨a_5, rfl, h⟩ := h9
  obtain ⟨k5, h⟩ := zK_some h
  have k5' := k5
  obtain ⟨_, k_5⟩ := k5'
  refine lv_iload_n hx hb dX0_write_13 rfl (lv_at hl 2 rfl) ?_
  refine lv_lload_n hx hb dX0_write_14 rfl (lv_at hl 3 rfl) ?_
  obtain ⟨x_6, Z_7, h_6, h⟩ := bnd2_some h
  refine d_callVTWr (As := [.int a2, .long a3]) (rest := []) S hW (metX7_puts hlt k5 h_6) (cwX7_puts S.2.2.2.2 q251 ⟨Nat.le_of_ble_eq_true rfl, Nat.le_of_ble_eq_true rfl⟩) k_5 rfl rfl hl.1 rfl (Nat.le_of_ble_eq_true rfl) dX0_write_15 ⟨(Nat.le_of_ble_eq_true rfl), (Nat.le_of_ble_eq_true rfl)⟩ rfl (fun H locs hW => ?_)
  refine lv_goto (tgt := 23) hx hb dX0_write_18 (by decide) ?_
  cases h
  exact W.toT (d_iret S hr hlk hW (Nat.le_of_ble_eq_true rfl) (Nat.le_of_ble_eq_true rfl) dX0_write_23)
