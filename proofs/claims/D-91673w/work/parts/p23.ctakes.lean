/-! PURE: the component: cells take heat; houses -/
set_option maxRecDepth 100000
section CT
variable {Sh : g_Sh} {V : g_V} {L : g_L} {n : Nat} {m u : Nat → Nat} {Fz : Nat → Prop} {np nh : Nat} {w h : Nat → Int32} {c p : Nat}
abbrev st12 (Sh : g_Sh) (V : g_V) (L : g_L) (n : Nat) (m : Nat → Nat) (a b : Nat → Int32) : c_S := (Sh, rowV (rowV V (m 1) a) (m 2) b, L, n)
theorem cm_takes_eq (hM : FM (Sh, V, L, n) m u Fz np nh w) (hc : c < 144) : cm_X1_takes (Sh, V, L, n) (m 0) (nI c) (h c) = some (st12 Sh V L n m (upd (V (m 1)) c (pDoW w h c)) (upd (V (m 2)) c (pDoI w h c))) := by
  obtain ⟨hR, hm, hz⟩ := hM
  obtain ⟨hF, hA, hT, hV, hk⟩ := hR
  simp only [zSh_T, zV_T, zL_T, zn_T] at hF hA hT hV
  have hT1 : ∀ f, TS Sh (rowV V (m 1) f) Fz u w := fun f => TS_mono hT (fun _ _ => rfl) (fun a ha => rowV_ne (fun e => hz 1 (by omega) (e ▸ ha)))
  have hof : cm_X2_of (Sh, V, L, n) (u 0) (nI c) = some (some (u (4 + pKd w c))) := cm_of_eq (Z := (Sh, V, L, n)) hT hk hc
  have hof1 : ∀ f, cm_X2_of (Sh, rowV V (m 1) f, L, n) (u 0) (nI c) = some (some (u (4 + pKd w c))) := fun f => cm_of_eq (Z := (Sh, rowV V (m 1) f, L, n)) (hT1 f) hk hc
  have hgr : ∀ {ρ : Type} {k : Int32 → Option ρ} {i : Nat}, i < 4 → cI Sh V (u (4 + pKd w c)) 4 4 i k = k (pGr w c i) := fun hi => cm_gr_eq (Z := (Sh, V, L, n)) hT hk hc hi
  have hgr1 : ∀ (f : Nat → Int32) {ρ : Type} {k : Int32 → Option ρ} {i : Nat}, i < 4 → cI Sh (rowV V (m 1) f) (u (4 + pKd w c)) 4 4 i k = k (pGr w c i) := fun f _ _ _ hi => cm_gr_eq (Z := (Sh, rowV V (m 1) f, L, n)) (hT1 f) hk hc hi
  unfold cm_X1_takes
  unfold pDoI pDoW
  simp (disch := omega) only [zSh_T, zV_T, zL_T, zn_T, f_t hF, t_KT hT, hof, bnd_S, nn_eq, hgr]
  by_cases h0 : 0 ≤ h c
  · simp only [h0, if_true]
    simp (disch := omega) only [zSh_T, zV_T, zL_T, zn_T, bnd_S, un2_S, un3_S, nmI_S, nmL_S, ptI_S, cs2_L, cs2_R, okI_b, okI_1, okI_0, rdI_in, wrI_in, rdI_L, wrI_L, rdL_in, wrL_in, if_true, if_false, f_A hF, caI_eq hA.1, caI_eq hA.2.1, zsI_T hA.1, zsI_T hA.2.1, upd2_row, rowV_eq, rowM_ne hm, upd_eq, (hV c hc).1, (hV c hc).2.1]
    simp (disch := omega) only [upd2_row, rowV_eq, rowM_ne hm, rowV_over, rowM_swap hm, upd_eq, upd_ne, upd_over, Nat.zero_add, r_rise]
    rfl
  · simp only [h0, if_false]
    simp (disch := omega) only [zSh_T, zV_T, zL_T, zn_T, bnd_S, un2_S, un3_S, nmI_S, nmL_S, ptI_S, cs2_L, cs2_R, okI_b, okI_1, okI_0, rdI_in, wrI_in, rdI_L, wrI_L, rdL_in, wrL_in, if_true, if_false, f_t hF, t_KT hT, f_A hF, caI_eq hA.1, caI_eq hA.2.1, zsI_T hA.1, zsI_T hA.2.1, upd2_row, rowV_eq, rowM_ne hm, upd_eq, (hV c hc).1, (hV c hc).2.1, hof1, nn_eq, hgr1]
    simp (disch := omega) only [upd2_row, rowV_eq, rowM_ne hm, rowV_over, rowM_swap hm, upd_eq, upd_ne, upd_over, Nat.zero_add, r_fall, r_neg]
    rfl
theorem pDoesI_wat {i : Nat} (hc : c < i) (hi : i ≤ 144) : pDoesI w h i (192 + c) = if pDug w c = true then w (192 + c) else pDoW w h c := by
  unfold pDoesI
  rw [if_pos (by omega), show 192 + c - 192 = c by omega]
theorem pDoesI_iat {i : Nat} (hc : c < i) (hi : i ≤ 144) : pDoesI w h i (336 + c) = if pDug w c = true then w (336 + c) else pDoI w h c := by
  unfold pDoesI
  rw [if_neg (by omega), if_pos (by omega), show 336 + c - 336 = c by omega]
/-- warmth and ice after the first i cells -/
def dW (V : g_V) (m : Nat → Nat) (w h : Nat → Int32) (c : Nat) : Int32 := if pDug w c = true then V (m 1) c else pDoW w h c
def dI (V : g_V) (m : Nat → Nat) (w h : Nat → Int32) (c : Nat) : Int32 := if pDug w c = true then V (m 2) c else pDoI w h c
theorem FM_does {i : Nat} (hM : FM (Sh, V, L, n) m u Fz np nh w) (hi : i ≤ 144) : FM (st12 Sh V L n m (fun c => if c < i then dW V m w h c else V (m 1) c) (fun c => if c < i then dI V m w h c else V (m 2) c)) m u Fz np nh (pDoesI w h i) := by
  obtain ⟨hR, hm, hz⟩ := hM
  obtain ⟨hF, hA, hT, hV, hk⟩ := hR
  simp only [zSh_T, zV_T, zL_T, zn_T] at hF hA hT hV
  have hag := pDoesI_ag (w := w) (h := h) hi
  refine ⟨⟨hF, hA, TS_w (TS_mono hT (fun _ _ => rfl) (fun a ha => ?_)) (fun j hj => hag j (by omega)), fun c hc => ?_, hag.kok hk⟩, hm, hz⟩
  · show rowV (rowV V (m 1) _) (m 2) _ a = V a
    have n2 : a ≠ m 2 := fun e => hz 2 (by omega) (e ▸ ha)
    have n1 : a ≠ m 1 := fun e => hz 1 (by omega) (e ▸ ha)
    rw [rowV_ne n2, rowV_ne n1]
  · show rowV (rowV V (m 1) _) (m 2) _ (m 1) c = _ ∧ rowV (rowV V (m 1) _) (m 2) _ (m 2) c = _ ∧ rowV (rowV V (m 1) _) (m 2) _ (m 4) c = _ ∧ _
    simp (disch := omega) only [rowV_eq, rowM_ne hm]
    obtain ⟨v1, v2, v4, v5⟩ := hV c hc
    refine ⟨?_, ?_, ?_, ?_⟩
    · unfold dW
      by_cases hci : c < i
      · rw [if_pos hci, pDoesI_wat hci hi, v1]
      · rw [if_neg hci, pDoesI_w (by omega) hc, v1]
    · unfold dI
      by_cases hci : c < i
      · rw [if_pos hci, pDoesI_iat hci hi, v2]
      · rw [if_neg hci, pDoesI_i (by omega) hc, v2]
    · rw [hag _ (by omega), v4]
    · rw [hag _ (by omega)]; exact v5
theorem cm_does_eq (hM : FM (Sh, V, L, n) m u Fz np nh w) (hh : V (m 3) = h) : cm_X1_ticks_L50 (m 0) 1000 0 (Sh, V, L, n) = some (st12 Sh V L n m (fun c => if c < 144 then dW V m w h c else V (m 1) c) (fun c => if c < 144 then dI V m w h c else V (m 2) c)) := by
  have hr := lp_run (F := cm_X1_ticks_F50 (m 0)) (N := 144) (st := fun i => (nI i, st12 Sh V L n m (fun c => if c < i then dW V m w h c else V (m 1) c) (fun c => if c < i then dI V m w h c else V (m 2) c))) (out := st12 Sh V L n m (fun c => if c < 144 then dW V m w h c else V (m 1) c) (fun c => if c < 144 then dI V m w h c else V (m 2) c)) ?_ ?_ 1000 0 (by omega) (by omega)
  · have e : st12 Sh V L n m (fun c => if c < 0 then dW V m w h c else V (m 1) c) (fun c => if c < 0 then dI V m w h c else V (m 2) c) = (Sh, V, L, n) := by
      simp only [Nat.not_lt_zero, if_false]
      unfold st12
      rw [rowV_self, rowV_self]
    simp only [e, nI_0] at hr
    exact hr
  · intro rec i hi
    have hMi := FM_does (h := h) (i := i) hM (by omega)
    have htk := cm_takes_eq (h := h) hMi hi
    have hm := hM.2.1
    have hag := pDoesI_ag (w := w) (h := h) (show i ≤ 144 by omega)
    have hF : FS0 Sh m (u 0) := hM.1.1
    have hA : FSa Sh m := hM.1.2.1
    have hk := hM.1.2.2.2.2
    have hV : VA V m w := hM.1.2.2.2.1
    have hdu : V (m 4) i = b2i (pDug w i) := VA_dug (Z := (Sh, V, L, n)) hV hi
    rw [pDoW_at hk hi, pDoI_at hk hi] at htk
    unfold cm_X1_ticks_F50
    simp (disch := omega) only [cm_X1_ticks_B50, zSh_T, zV_T, zL_T, zn_T, L_add, L_addR, L_mul, L_mulR, L_div, N_div, N_rem, L_sub, L_subN, nI_add, nI_mul, L_le, L_leR, L_lt, L_ltR, L_eq, N_leT, N_leF, N_ltT, N_ltF, N_eqT, N_eqF, N_m1, bnd_S, un2_S, un3_S, nmI_S, nmL_S, ptI_S, cs2_L, cs2_R, okI_b, okI_1, okI_0, rdI_in, wrI_in, rdI_L, wrI_L, rdL_in, wrL_in, if_true, if_false, f_A hF, caI_eq hA.2.2.2.1, caI_eq hA.2.2.1, rowM_ne hm, hdu, b2iF, f_KT hF, hh, htk]
    cases hd : pDug w i
    · simp only [if_true]
      have e1 : upd (fun c => if c < i then dW V m w h c else V (m 1) c) i (pDoW w h i) = fun c => if c < i + 1 then dW V m w h c else V (m 1) c := upd_pre (by unfold dW; rw [hd]; simp)
      have e2 : upd (fun c => if c < i then dI V m w h c else V (m 2) c) i (pDoI w h i) = fun c => if c < i + 1 then dI V m w h c else V (m 2) c := upd_pre (by unfold dI; rw [hd]; simp)
      simp (disch := omega) only [st12, upd2_row, rowV_eq, rowM_ne hm, rowV_over, rowM_swap hm, upd_eq, upd_ne, upd_over, Nat.zero_add, e1, e2]
    · simp only [Bool.true_eq_false, if_false]
      have e1 : (fun c => if c < i then dW V m w h c else V (m 1) c) = fun c => if c < i + 1 then dW V m w h c else V (m 1) c := by
        have h9 := upd_pre (f := dW V m w h) (g := V (m 1)) (i := i) (x := V (m 1) i) (by unfold dW; rw [hd]; simp)
        rw [← h9]
        exact (upd_self' (by simp)).symm
      have e2 : (fun c => if c < i then dI V m w h c else V (m 2) c) = fun c => if c < i + 1 then dI V m w h c else V (m 2) c := by
        have h9 := upd_pre (f := dI V m w h) (g := V (m 2)) (i := i) (x := V (m 2) i) (by unfold dI; rw [hd]; simp)
        rw [← h9]
        exact (upd_self' (by simp)).symm
      rw [e1, e2]
  · intro rec
    unfold cm_X1_ticks_F50
    simp (disch := omega) only [cm_X1_ticks_B50, L_add, L_addR, L_mul, L_mulR, L_div, N_div, N_rem, L_sub, L_subN, nI_add, nI_mul, L_le, L_leR, L_lt, L_ltR, L_eq, N_leT, N_leF, N_ltT, N_ltF, N_eqT, N_eqF, N_m1, bnd_S, un2_S, un3_S, nmI_S, nmL_S, ptI_S, cs2_L, cs2_R, okI_b, okI_1, okI_0, rdI_in, wrI_in, rdI_L, wrI_L, rdL_in, wrL_in, if_true, if_false]
end CT
