/-! the reference's constructor: its contract -/
set_option maxRecDepth 100000
def Q8 (D : va_G) (K : Nat → ClassId) (A : Nat → Prop) (a0 n0 : Nat) : Array Value → State → Outcome → State → Prop := fun _ st oc t => (oc = .returned none ∧ ∃ V2 L2, g_R (n0 + 22) (D8 D) twCl twF (K8 K) (al8 a0 n0) twSh V2 L2 t ∧ St0 V2) ∧ va_F A st t
theorem st0_of {V V1 V2 : g_V} {a0 n0 : Nat} {Z : c_S} (h : InI a0 n0 fld8 (upd (fun _ => 0) 14 (-1)) Z) (hV : V = fun k => Z.V (al8 a0 n0 k)) (h1 : V1 = rowV V 1 (fun i => if i < 810 then plR i else V 1 i)) (h2 : V2 = rowV V1 1 (pBeg (V1 1))) : St0 V2 := by
  obtain ⟨h0, -, -, h4, h5⟩ := h
  have e0 : V 0 = upd (fun _ => 0) 14 (-1) := by rw [hV]; exact h5
  have ek : ∀ k ∈ fld8, k ≠ 38 → k ≠ 39 → V k = vv8 k := fun k hk e1 e2 => by
    rw [hV]
    show Z.V (al8 a0 n0 k) = _
    unfold al8
    rw [if_neg (fld8_40 k hk).2]
    exact (h4 k hk).2.2 e1 e2
  have ne : ∀ k, k ≠ 1 → V2 k = V k := fun k hk => by rw [h2, rowV_ne hk, h1, rowV_ne hk]
  refine ⟨fun j hj => ?_, fun k hk => ?_, fun i hi => ?_, fun s hs => ?_, ?_, ?_, ?_, ?_, ?_⟩
  · rw [h2, rowV_eq, h1, rowV_eq]
    unfold pBeg
    dsimp only
    rw [if_pos (show 5 < 810 by omega), if_pos hj]
  · rw [ne 4 (by omega), ek 4 (by decide) (by omega) (by omega)]
    rfl
  · rw [ne 5 (by omega), ek 5 (by decide) (by omega) (by omega)]
    rfl
  · rw [ne 36 (by omega), ek 36 (by decide) (by omega) (by omega)]
    unfold vv8
    rw [if_pos rfl, if_pos hs]
  · rw [ne 0 (by omega), e0, upd_ne (by omega)]
  · rw [ne 0 (by omega), e0, upd_ne (by omega)]
  · rw [ne 0 (by omega), e0, upd_eq]
  · rw [ne 0 (by omega), e0, upd_ne (by omega)]
  · rw [ne 0 (by omega), e0, upd_ne (by omega)]
set_option maxHeartbeats 4000000 in
theorem metX8_init {l : Launch} {gp : Nat → Nat} {D : va_G} {K : Nat → ClassId} {Z0 : c_S} {a0 : Nat} (h1 : Z0.Sh a0 = some (d_obj 8 40 (zrf tyX8))) (hv : Z0.V a0 = fun _ => 0) (ha : a0 < Z0.n) : Met l yX8_init (ws_ yX8_init cX8_init 1 (none)) rmX8_init (z_Pc gp [.ref a0] D K Z0) (Q8 D K (z_A Z0) a0 Z0.n) 22 7782 (z_A Z0) := by
  obtain ⟨Z', e8, hI⟩ := init8_eq h1 hv ha
  refine d_met rfl (Nat.le_of_ble_eq_true rfl) ?_
  intro p e s m below meth c ls S hr hlk hnm hl hW hsz
  have S : CallFix p m c cX8_init 1 s ([.ref a0] : List Value).toArray lw_all RX8 := S
  have hx := S.1
  have hb := S.2.1
  have hl : lv_has ls 1 [(0, .ref a0)] := hl
  have hnm : meth.name = "<init>" := hnm
  refine wkX8_init e8 S hnm hl hW (fun H locs hW => ?_)
  have hG := tw_world hW hI
  have hn : Z'.n = Z0.n + 22 := hI.2.2.1
  rw [hn] at hG
  generalize hV : (fun k => Z'.V (al8 a0 Z0.n k)) = V at hG
  generalize (fun k => Z'.L (al8 a0 Z0.n k)) = L at hG
  refine lv_aload_n hx hb dX8_init_210 rfl (lv_at hl 0 rfl) ?_
  refine tw_ref (rest := []) S hG 1 1 (by decide) rfl q1500 rfl dX8_init_211 ?_
  refine g_callSv (As := [.ref (al8 a0 Z0.n 1)]) (rest := []) S hG (metX8_plain rfl tw_plain_eq) (cwX8_plain S.2.2.2.2 q1485 ⟨Nat.le_of_ble_eq_true rfl, Nat.le_of_ble_eq_true rfl⟩) rfl hl.1 rfl (Nat.le_of_ble_eq_true rfl) dX8_init_214 ⟨Nat.le_refl _, Nat.le_refl _⟩ (fun H locs hG => ?_)
  refine lv_aload_n hx hb dX8_init_217 rfl (lv_at hl 0 rfl) ?_
  refine g_callVv (As := []) (rest := []) (k := 0) S hG (metX8_begins tw_begins_eq) (cwX8_begins S.2.2.2.2 q1492 ⟨Nat.le_of_ble_eq_true rfl, Nat.le_of_ble_eq_true rfl⟩) rfl rfl rfl hl.1 rfl (Nat.le_of_ble_eq_true rfl) dX8_init_218 ⟨Nat.le_refl _, Nat.le_refl _⟩ (fun H locs hG => ?_)
  exact W.vret S.1 S.2.1 hr (fun t ht hw => ⟨⟨rfl, _, _, hG.Rr ht hw, st0_of hI hV.symm rfl rfl⟩, hG.2.2.2.1.F ht⟩) hG.2.2.2.1.2.2 dX8_init_221 hlk
