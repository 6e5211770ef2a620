/-! the reference's constructor: its value; a dynamic world as the reference's own -/
set_option maxRecDepth 100000
def pos8 : Nat → Nat := fun k => match k with
  | 1 => 0 | 2 => 1 | 3 => 2 | 4 => 3 | 5 => 4 | 7 => 5 | 15 => 6 | 16 => 7 | 17 => 8 | 24 => 9 | 25 => 10 | 26 => 11 | 27 => 12 | 28 => 13 | 29 => 14 | 30 => 15 | 32 => 16 | 33 => 17 | 36 => 18 | 37 => 19 | 38 => 20 | 39 => 21
  | _ => 100
def fld8 : List Nat := [1, 2, 3, 4, 5, 7, 15, 16, 17, 24, 25, 26, 27, 28, 29, 30, 32, 33, 36, 37, 38, 39]
def dd8 : Nat → g_D := fun k => match k with
  | 38 => d_lng 4 240
  | 39 => d_lng 4 60
  | k => match twArr k with
    | some q => d_int q.1 q.2
    | none => d_int 0 0
def vv8 : Nat → Nat → Int32 := fun k => if k = 36 then fun j => if j < 4 then -1 else 0 else fun _ => 0
def al8 (a0 n0 : Nat) : Nat → Nat := fun k => if k = 0 then a0 else n0 + pos8 k
/-- where the constructor stands -/
def InI (a0 n0 : Nat) (fs : List Nat) (vf : Nat → Int32) (Z : c_S) : Prop := a0 < n0 ∧ (∃ rf, Z.Sh a0 = some (d_obj 8 40 rf) ∧ ∀ i, rf i = if i ∈ fs then some (some (n0 + pos8 i)) else zrf tyX8 i) ∧ Z.n = n0 + fs.length ∧ (∀ i ∈ fs, pos8 i < fs.length ∧ Z.Sh (n0 + pos8 i) = some (dd8 i) ∧ (i ≠ 38 → i ≠ 39 → Z.V (n0 + pos8 i) = vv8 i)) ∧ Z.V a0 = vf
section II
variable {a0 n0 i : Nat} {fs : List Nat} {vf : Nat → Int32} {Sh : g_Sh} {V : g_V} {L : g_L} {n : Nat} {P : c_S → Prop}
theorem in_step {V' : g_V} {L' : g_L} {d : g_D} (h : InI a0 n0 fs vf (Sh, V, L, n)) (hp : pos8 i = fs.length) (hi : i ∉ fs) (hd : dd8 i = d) (hr : zRef (tyX8 i) = true) (hv : ∀ b, b ≠ n → V' b = V b) (hv2 : i ≠ 38 → i ≠ 39 → V' n = vv8 i) {K : c_S → Option c_S} (kk : ∀ Z2, InI a0 n0 (fs ++ [i]) vf Z2 → ∃ Z', K Z2 = some Z' ∧ P Z') : ∃ Z', zPR (updS Sh n d, V', L', n + 1) a0 8 40 i (some n) K = some Z' ∧ P Z' := by
  obtain ⟨h0, ⟨rf, h1, h2⟩, h3, h4, h5⟩ := h
  simp only [zSh_T, zV_T, zn_T] at h1 h3 h4 h5
  have hne : a0 ≠ n := by omega
  have hri : (rf i).isSome = true := by
    rw [h2 i, if_neg hi]
    unfold zrf
    rw [if_pos hr]
    rfl
  rw [zPR_T (rf := rf) (by rw [updS_ne hne]; exact h1) hri]
  refine kk _ ⟨h0, ⟨updR rf i (some n), updS_eq, fun j => ?_⟩, ?_, fun j hj => ?_, ?_⟩
  · unfold updR
    by_cases hj : j = i
    · rw [if_pos hj, if_pos (by rw [hj]; simp), hj, hp, h3]
    · rw [if_neg hj, h2 j]
      by_cases hf : j ∈ fs
      · rw [if_pos hf, if_pos (List.mem_append_left _ hf)]
      · rw [if_neg hf, if_neg (fun z => (List.mem_append.mp z).elim hf (fun y => hj (List.mem_singleton.mp y)))]
  · show n + 1 = n0 + (fs ++ [i]).length
    rw [List.length_append, List.length_singleton]
    omega
  · rw [List.length_append, List.length_singleton]
    rcases List.mem_append.mp hj with hj | hj
    · obtain ⟨k1, k2, k3⟩ := h4 j hj
      have n1 : n0 + pos8 j ≠ a0 := by omega
      have n2 : n0 + pos8 j ≠ n := by omega
      refine ⟨by omega, ?_, fun e1 e2 => ?_⟩
      · show updS _ _ _ _ = _
        rw [updS_ne n1, updS_ne n2]; exact k2
      · show V' _ = _
        rw [hv _ n2]; exact k3 e1 e2
    · have hj : j = i := List.mem_singleton.mp hj
      subst hj
      have e : n0 + pos8 j = n := by omega
      rw [e]
      refine ⟨by omega, ?_, hv2⟩
      show updS _ _ _ _ = _
      rw [updS_ne (by omega), updS_eq, hd]
  · show V' a0 = _
    rw [hv a0 hne]; exact h5
theorem in_newI {t N : Nat} (Z : c_S) (h : InI a0 n0 fs vf Z) (hp : pos8 i = fs.length) (hi : i ∉ fs) (hd : dd8 i = d_int t N) (hr : zRef (tyX8 i) = true) (h36 : i ≠ 36) {K : c_S → Option c_S} (kk : ∀ Z2, InI a0 n0 (fs ++ [i]) vf Z2 → ∃ Z', K Z2 = some Z' ∧ P Z') : ∃ Z', (zNewI Z t N fun Z_1 a => zPR Z_1 a0 8 40 i (some a) K) = some Z' ∧ P Z' := by
  obtain ⟨Sh, V, L, n⟩ := Z
  exact in_step h hp hi hd hr (fun b hb => rowV_ne hb) (fun _ _ => by rw [rowV_eq]; unfold vv8; rw [if_neg h36]) kk
theorem in_newL {N : Nat} (Z : c_S) (h : InI a0 n0 fs vf Z) (hp : pos8 i = fs.length) (hi : i ∉ fs) (hd : dd8 i = d_lng 4 N) (hr : zRef (tyX8 i) = true) (h38 : i = 38 ∨ i = 39) {K : c_S → Option c_S} (kk : ∀ Z2, InI a0 n0 (fs ++ [i]) vf Z2 → ∃ Z', K Z2 = some Z' ∧ P Z') : ∃ Z', (zNewL Z 4 N fun Z_1 a => zPR Z_1 a0 8 40 i (some a) K) = some Z' ∧ P Z' := by
  obtain ⟨Sh, V, L, n⟩ := Z
  exact in_step h hp hi hd hr (fun b hb => rfl) (fun e1 e2 => by omega) kk
theorem in_many (Z : c_S) (h : InI a0 n0 fs vf Z) (hp : pos8 36 = fs.length) (hi : 36 ∉ fs) {K : c_S → Option c_S} (kk : ∀ Z2, InI a0 n0 (fs ++ [36]) vf Z2 → ∃ Z', K Z2 = some Z' ∧ P Z') : ∃ Z', (zNewI Z 0 4 fun Z_56 a_57 => zsI Z_56 0 a_57 0 (-1) fun Z_58 => zsI Z_58 0 a_57 1 (-1) fun Z_59 => zsI Z_59 0 a_57 2 (-1) fun Z_60 => zsI Z_60 0 a_57 3 (-1) fun Z_61 => zPR Z_61 a0 8 40 36 (some a_57) K) = some Z' ∧ P Z' := by
  obtain ⟨Sh, V, L, n⟩ := Z
  unfold zNewI
  simp only [zSh_T, zV_T, zn_T, zL_T]
  have e : updS Sh n (d_int 0 4) n = some (d_int 0 4) := updS_eq
  show ∃ Z', (zsI (updS Sh n (d_int 0 4), rowV V n (fun _ => 0), L, n + 1) 0 n (nI 0) (-1) fun Z_58 => zsI Z_58 0 n (nI 1) (-1) fun Z_59 => zsI Z_59 0 n (nI 2) (-1) fun Z_60 => zsI Z_60 0 n (nI 3) (-1) fun Z_61 => zPR Z_61 a0 8 40 36 (some n) K) = some Z' ∧ P Z'
  rw [zsI_T e (by omega) (by omega), zsI_T e (by omega) (by omega), zsI_T e (by omega) (by omega), zsI_T e (by omega) (by omega)]
  refine in_step h hp hi rfl rfl (fun b hb => ?_) (fun _ _ => ?_) kk
  · rw [upd2_ne _ hb, upd2_ne _ hb, upd2_ne _ hb, upd2_ne _ hb, rowV_ne hb]
  · rw [upd2_eq, upd2_eq, upd2_eq, upd2_eq, rowV_eq]
    unfold vv8
    rw [if_pos rfl]
    funext j
    by_cases h3 : j = 3
    · subst h3; rw [upd_eq, if_pos (by omega)]
    · rw [upd_ne h3]
      by_cases h2 : j = 2
      · subst h2; rw [upd_eq, if_pos (by omega)]
      · rw [upd_ne h2]
        by_cases h1 : j = 1
        · subst h1; rw [upd_eq, if_pos (by omega)]
        · rw [upd_ne h1]
          by_cases h0 : j = 0
          · subst h0; rw [upd_eq, if_pos (by omega)]
          · rw [upd_ne h0, if_neg (by omega)]
theorem in_fault (Z : c_S) (h : InI a0 n0 fs vf Z) (hi : 14 ∉ fs) {K : c_S → Option c_S} (kk : ∀ Z2, InI a0 n0 fs (upd vf 14 (-1)) Z2 → ∃ Z', K Z2 = some Z' ∧ P Z') : ∃ Z', zPI Z a0 8 40 14 (-1) K = some Z' ∧ P Z' := by
  obtain ⟨Sh, V, L, n⟩ := Z
  obtain ⟨h0, ⟨rf, h1, h2⟩, h3, h4, h5⟩ := h
  have hr : rf 14 = none := by rw [h2, if_neg hi]; decide
  rw [zPI_T h1 hr]
  refine kk _ ⟨h0, ⟨rf, h1, h2⟩, h3, fun j hj => ⟨(h4 j hj).1, (h4 j hj).2.1, fun e1 e2 => ?_⟩, ?_⟩
  · show upd2 V a0 14 (-1) _ = _
    rw [upd2_ne _ (by omega)]; exact (h4 j hj).2.2 e1 e2
  · show upd2 V a0 14 (-1) _ = _
    rw [upd2_eq]
    have : V a0 = vf := h5
    rw [this]
theorem init8_eq {Z0 : c_S} (h1 : Z0.Sh a0 = some (d_obj 8 40 (zrf tyX8))) (hv : Z0.V a0 = fun _ => 0) (ha : a0 < Z0.n) : ∃ Z', cm_X8_init Z0 a0 = some Z' ∧ InI a0 Z0.n fld8 (upd (fun _ => 0) 14 (-1)) Z' := by
  have h : InI a0 Z0.n [] (fun _ => 0) Z0 := ⟨ha, ⟨_, h1, fun i => by rw [if_neg (by simp)]⟩, rfl, fun i hi => absurd hi List.not_mem_nil, hv⟩
  unfold cm_X8_init
  refine in_newI _ h rfl (by decide) rfl rfl (by decide) (fun Z h => ?_)
  refine in_newI _ h rfl (by decide) rfl rfl (by decide) (fun Z h => ?_)
  refine in_newI _ h rfl (by decide) rfl rfl (by decide) (fun Z h => ?_)
  refine in_newI _ h rfl (by decide) rfl rfl (by decide) (fun Z h => ?_)
  refine in_newI _ h rfl (by decide) rfl rfl (by decide) (fun Z h => ?_)
  refine in_newI _ h rfl (by decide) rfl rfl (by decide) (fun Z h => ?_)
  refine in_fault _ h (by decide) (fun Z h => ?_)
  refine in_newI _ h rfl (by decide) rfl rfl (by decide) (fun Z h => ?_)
  refine in_newI _ h rfl (by decide) rfl rfl (by decide) (fun Z h => ?_)
  refine in_newI _ h rfl (by decide) rfl rfl (by decide) (fun Z h => ?_)
  refine in_newI _ h rfl (by decide) rfl rfl (by decide) (fun Z h => ?_)
  refine in_newI _ h rfl (by decide) rfl rfl (by decide) (fun Z h => ?_)
  refine in_newI _ h rfl (by decide) rfl rfl (by decide) (fun Z h => ?_)
  refine in_newI _ h rfl (by decide) rfl rfl (by decide) (fun Z h => ?_)
  refine in_newI _ h rfl (by decide) rfl rfl (by decide) (fun Z h => ?_)
  refine in_newI _ h rfl (by decide) rfl rfl (by decide) (fun Z h => ?_)
  refine in_newI _ h rfl (by decide) rfl rfl (by decide) (fun Z h => ?_)
  refine in_newI _ h rfl (by decide) rfl rfl (by decide) (fun Z h => ?_)
  refine in_newI _ h rfl (by decide) rfl rfl (by decide) (fun Z h => ?_)
  refine in_many _ h rfl (by decide) (fun Z h => ?_)
  refine in_newI _ h rfl (by decide) rfl rfl (by decide) (fun Z h => ?_)
  refine in_newL _ h rfl (by decide) rfl rfl (by decide) (fun Z h => ?_)
  refine in_newL _ h rfl (by decide) rfl rfl (by decide) (fun Z h => ?_)
  exact ⟨Z, rfl, h⟩
end II
def D8 (D : va_G) : va_G := (fun c => D.1 (c + 8), fun c => D.2 (c + 8))
def K8 (K : Nat → ClassId) : Nat → ClassId := fun t => if t = 3 then K 4 else K t
theorem dom8 : ∀ k d, twSh k = some d → k = 0 ∨ k ∈ fld8 := by
  intro k d h
  unfold twSh at h
  split at h
  · exact Or.inl rfl
  · right; decide
  · right; decide
  · right
    unfold twArr at h
    split at h <;> first | decide | cases h
theorem fld8_40 : ∀ k ∈ fld8, k < 40 ∧ k ≠ 0 := by decide
theorem pos8_inj : ∀ j ∈ fld8, ∀ k ∈ fld8, pos8 j = pos8 k → j = k := by decide
theorem twR_fld : ∀ i, i < 40 → (i ∈ fld8 ∧ twR i = some (some i)) ∨ (i ∉ fld8 ∧ twR i = none ∧ zRef (tyX8 i) = false) := by decide
theorem tw_K8 {D : va_G} {K : Nat → ClassId} {s : State} (h : va_K D cmCl (g_T cmF K) s) : va_K (D8 D) twCl (g_T twF (K8 K)) s := by
  refine ⟨fun c q hq => ?_, fun k q hk => ?_⟩
  · match c, hq with
    | 0, hq =>
      cases hq
      exact h.1 8 (RX8, TX8, 40) rfl
  · have hs : k < 4 := by
      have := (List.getElem?_eq_some_iff.mp hk).1
      simpa [g_T] using this
    have e : k = 0 ∨ k = 1 ∨ k = 2 ∨ k = 3 := by omega
    rcases e with rfl | rfl | rfl | rfl
    · cases hk; exact h.2 0 _ (g_T_at (F := cmF) rfl)
    · cases hk; exact h.2 1 _ (g_T_at (F := cmF) rfl)
    · cases hk; exact h.2 2 _ (g_T_at (F := cmF) rfl)
    · cases hk; exact h.2 4 _ (g_T_at (F := cmF) rfl)
theorem tw_dd8 {k : Nat} {d : g_D} (hk : k ∈ fld8) (h : twSh k = some d) : (∃ t N, d = .inl (t, N) ∧ dd8 k = d_int t N ∧ t < 3) ∨ ∃ N, d = .inr (.inl (3, N)) ∧ dd8 k = d_lng 4 N := by
  have : ∀ k ∈ fld8, (∃ q : Nat × Nat, twSh k = some (.inl q) ∧ dd8 k = d_int q.1 q.2 ∧ q.1 < 3) ∨ (k = 38 ∨ k = 39) := by
    intro k hk
    simp only [fld8, List.mem_cons, List.not_mem_nil, or_false] at hk
    rcases hk with rfl | rfl | rfl | rfl | rfl | rfl | rfl | rfl | rfl | rfl | rfl | rfl | rfl | rfl | rfl | rfl | rfl | rfl | rfl | rfl | rfl | rfl
    all_goals first | exact Or.inl ⟨_, rfl, rfl, by decide⟩ | exact Or.inr (by decide)
  rcases this k hk with ⟨q, h1, h2, h3⟩ | h1
  · rw [h1] at h; cases h
    exact Or.inl ⟨q.1, q.2, rfl, h2, h3⟩
  · rcases h1 with rfl | rfl
    · cases h; exact Or.inr ⟨240, rfl, rfl⟩
    · cases h; exact Or.inr ⟨60, rfl, rfl⟩
/-- the reference's own world -/
theorem tw_world {gp : Nat → Nat} {D : va_G} {K : Nat → ClassId} {A : Nat → Prop} {s : State} {Z : c_S} {H : Heap} {locs : List Loc} {a0 n0 : Nat} {vf : Nat → Int32} (hW : z_W gp D K A s Z H locs) (h : InI a0 n0 fld8 vf Z) : g_W gp Z.n (D8 D) twCl twF (K8 K) (al8 a0 n0) twSh A s s.heap (fun k => Z.V (al8 a0 n0 k)) (fun k => Z.L (al8 a0 n0 k)) H locs := by
  obtain ⟨h0, ⟨rf, h1, h2⟩, h3, h4, h5⟩ := h
  obtain ⟨⟨w1, w2, w3, w4, w5, w6, w7⟩, -⟩ := hW
  have sh : ∀ k ∈ fld8, Z.Sh (al8 a0 n0 k) = some (dd8 k) := fun k hk => by
    unfold al8
    rw [if_neg (fld8_40 k hk).2]
    exact (h4 k hk).2.1
  refine ⟨tw_K8 w1, ⟨fun k d hk => ?_, fun j k d e hj hk he => ?_⟩, fun k d hk => ?_, w4, w5, rfl, w7⟩
  · rcases dom8 k d hk with rfl | hf
    · have a := w2.1 a0 _ h1
      cases hk
      obtain ⟨r, r1, r2⟩ := a
      refine ⟨(RX8, TX8, 40), rfl, ?_⟩
      cases r1
      show t_OB (al8 a0 n0 0) _ _ _ H (vp_V ((List.range 40).map (g_fv (al8 a0 n0) twR _)))
      have e : (List.range 40).map (g_fv (al8 a0 n0) twR (Z.V (al8 a0 n0 0))) = (List.range 40).map (g_fv idn rf (Z.V a0)) := by
        apply List.map_congr_left
        intro i hi
        have hi := List.mem_range.mp hi
        unfold g_fv
        rw [h2 i]
        rcases twR_fld i hi with ⟨f1, f2⟩ | ⟨f1, f2, f3⟩
        · rw [f2, if_pos f1]
          show Value.ref (al8 a0 n0 i) = Value.ref (n0 + pos8 i)
          unfold al8
          rw [if_neg (fld8_40 i f1).2]
        · rw [f2, if_neg f1]
          unfold zrf
          rw [f3]
          rfl
      rw [e]
      exact r2
    · have a := w2.1 _ _ (sh k hf)
      rcases tw_dd8 hf hk with ⟨t, N, rfl, e, ht⟩ | ⟨N, rfl, e⟩
      · rw [e] at a
        show H[al8 a0 n0 k]? = some (vp_cell (K8 K t) (N, _))
        unfold K8
        rw [if_neg (by omega)]
        exact a
      · rw [e] at a
        exact a
  · have ne : ∀ k ∈ fld8, al8 a0 n0 k ≠ a0 := fun k hk => by
      unfold al8
      rw [if_neg (fld8_40 k hk).2]; omega
    rcases dom8 j d hj with rfl | hj'
    · rcases dom8 k e hk with rfl | hk'
      · rfl
      · exact absurd he.symm (ne k hk')
    · rcases dom8 k e hk with rfl | hk'
      · exact absurd he (ne j hj')
      · apply pos8_inj j hj' k hk'
        unfold al8 at he
        rw [if_neg (fld8_40 j hj').2, if_neg (fld8_40 k hk').2] at he
        omega
  · rcases dom8 k d hk with rfl | hf
    · exact w3 a0 _ h1
    · exact w3 _ _ (sh k hf)
