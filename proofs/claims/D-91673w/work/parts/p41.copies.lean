/-! PURE: copies of pipes and houses, list to list -/
set_option maxRecDepth 100000
def CpOk (cp : c_S → Nat → Option (Option Nat × c_S)) (ci N : Nat) (rc : Nat → Option (Option Nat)) (okV : (Nat → Int32) → Prop) : Prop := (∀ i, i < N → rc i = none) ∧ ∀ (Sh : g_Sh) (V : g_V) (L : g_L) (n a : Nat) (rf : Nat → Option (Option Nat)), Sh a = some (d_obj ci N rf) → (∀ i, i < N → rf i = none) → okV (V a) → a < n → ∃ V', cp (Sh, V, L, n) a = some (some n, (updS Sh n (d_obj ci N rc), V', L, n + 1)) ∧ (∀ i, i < N → V' n i = V a i) ∧ ∀ b, b ≠ n → V' b = V b
theorem cp_X5 : CpOk cm_X5_copy 5 6 (zrf tyX5) (fun r => isB (r 3) = true) := by
  have hrc : ∀ i, i < 6 → zrf tyX5 i = none := by decide
  refine ⟨hrc, fun Sh V L n a rf h1 h2 hB han => ?_⟩
  have hne : a ≠ n := by omega
  have s1 : updS Sh n (d_obj 5 6 (zrf tyX5)) a = some (d_obj 5 6 rf) := by rw [updS_ne hne]; exact h1
  have s2 : updS Sh n (d_obj 5 6 (zrf tyX5)) n = some (d_obj 5 6 (zrf tyX5)) := updS_eq
  have ra : ∀ f, rowV V n f a = V a := fun f => rowV_ne hne
  refine ⟨rowV V n (upd (upd (upd (upd (upd (upd (upd (fun _ => 0) 3 1) 0 (V a 0)) 1 (V a 1)) 2 (V a 2)) 3 (V a 3)) 4 (V a 4)) 5 (V a 5)), ?_, fun i hi => ?_, fun b hb => rowV_ne hb⟩
  · unfold cm_X5_copy zNew cm_X5_init
    simp (disch := decide) only [zSh_T, zV_T, zL_T, zn_T, cI_eq s1 (h2 _ _), zPI_T s2 (hrc _ _), bnd_S, upd2_row, rowV_eq, rowV_over, ra, okI, hB, if_true]
  · rw [rowV_eq]
    have h6 : i = 0 ∨ i = 1 ∨ i = 2 ∨ i = 3 ∨ i = 4 ∨ i = 5 := by omega
    rcases h6 with rfl | rfl | rfl | rfl | rfl | rfl <;> simp (disch := omega) only [upd_eq, upd_ne]
theorem cp_X6 : CpOk cm_X6_copy 6 3 (zrf tyX6) (fun _ => True) := by
  have hrc : ∀ i, i < 3 → zrf tyX6 i = none := by decide
  refine ⟨hrc, fun Sh V L n a rf h1 h2 hB han => ?_⟩
  have hne : a ≠ n := by omega
  have s1 : updS Sh n (d_obj 6 3 (zrf tyX6)) a = some (d_obj 6 3 rf) := by rw [updS_ne hne]; exact h1
  have s2 : updS Sh n (d_obj 6 3 (zrf tyX6)) n = some (d_obj 6 3 (zrf tyX6)) := updS_eq
  have ra : ∀ f, rowV V n f a = V a := fun f => rowV_ne hne
  refine ⟨rowV V n (upd (upd (upd (upd (fun _ => 0) 2 (-1)) 0 (V a 0)) 1 (V a 1)) 2 (V a 2)), ?_, fun i hi => ?_, fun b hb => rowV_ne hb⟩
  · unfold cm_X6_copy zNew cm_X6_init
    simp (disch := decide) only [zSh_T, zV_T, zL_T, zn_T, cI_eq s1 (h2 _ _), zPI_T s2 (hrc _ _), bnd_S, upd2_row, rowV_eq, rowV_over, ra]
  · rw [rowV_eq]
    have h6 : i = 0 ∨ i = 1 ∨ i = 2 := by omega
    rcases h6 with rfl | rfl | rfl <;> simp (disch := omega) only [upd_eq, upd_ne]
/-- one turn: an element is got, copied, added -/
def turnC {ρ : Type} (gp : Nat → Nat) (cp : c_S → Nat → Option (Option Nat × c_S)) (ci N ld ls i : Nat) (Z : c_S) (k : c_S → Option ρ) : Option ρ := bnd (cm_J2_get Z ls (nI i)) (fun o => zCk Z o ci N <| nn o fun a => zK Z a ci N <| bnd (cp Z a) (un2 fun o' Z' => nn o' fun a' => zK Z' ld 14 3 <| bnd (cm_J2_add gp Z' ld a') (un2 fun _ Z'' => k Z'')))
/-- what stands after i turns -/
def CLs (Sh0 : g_Sh) (V0 : g_V) (n0 ld ed : Nat) (gs : Nat → Nat) (ci N i : Nat) (Sh : g_Sh) (V : g_V) (n e' : Nat) (g' : Nat → Nat) : Prop :=
  LSt Sh ld e' i g' ∧ V ld 2 = nI i
  ∧ (∀ p, p < i → (∃ rf, Sh (g' p) = some (d_obj ci N rf) ∧ ∀ j, j < N → rf j = none) ∧ (∀ j, j < N → V (g' p) j = V0 (gs p) j) ∧ n0 ≤ g' p ∧ g' p < n)
  ∧ (∀ p p', p < i → p' < i → g' p = g' p' → p = p')
  ∧ (e' = ed ∨ (n0 ≤ e' ∧ e' < n)) ∧ n0 ≤ n
  ∧ (∀ a, a < n0 → a ≠ ld → a ≠ ed → Sh a = Sh0 a) ∧ ∀ a, a < n0 → a ≠ ld → V a = V0 a
section TC2
variable {ρ : Type} {gp : Nat → Nat} {cp : c_S → Nat → Option (Option Nat × c_S)} {ci N : Nat} {rc : Nat → Option (Option Nat)} {okV : (Nat → Int32) → Prop} {Sh0 : g_Sh} {V0 : g_V} {L : g_L} {n0 ld ed ls es q : Nat} {gs : Nat → Nat}
/-- the list that is copied stands apart -/
def SrcL (Sh0 : g_Sh) (V0 : g_V) (n0 ld ed ls es q ci N : Nat) (gs : Nat → Nat) (okV : (Nat → Int32) → Prop) : Prop := LSt Sh0 ls es q gs ∧ V0 ls 2 = nI q ∧ ls < n0 ∧ es < n0 ∧ ls ≠ ld ∧ es ≠ ed ∧ ∀ p, p < q → gs p < n0 ∧ (∃ rf, Sh0 (gs p) = some (d_obj ci N rf) ∧ ∀ j, j < N → rf j = none) ∧ okV (V0 (gs p))
theorem turn_step (hcp : CpOk cp ci N rc okV) (hci : ci = 5 ∧ N = 6 ∨ ci = 6 ∧ N = 3) (hld : ld < n0) (hed : ed < n0) (hlst : (∃ rf, Sh0 ld = some (d_obj 14 3 rf)) ∧ ∃ cap el, Sh0 ed = some (d_ref 5 cap el)) (hS : SrcL Sh0 V0 n0 ld ed ls es q ci N gs okV) {i n e' : Nat} {Sh : g_Sh} {V : g_V} {g' : Nat → Nat} (hi : i < q) (hq : q < 19) (h : CLs Sh0 V0 n0 ld ed gs ci N i Sh V n e' g') :
    ∃ Sh' V' n' e'' g'', (∀ {ρ : Type} (k : c_S → Option ρ), turnC gp cp ci N ld ls i (Sh, V, L, n) k = k (Sh', V', L, n')) ∧ CLs Sh0 V0 n0 ld ed gs ci N (i + 1) Sh' V' n' e'' g'' := by
  obtain ⟨s1, s2, s3, s4, s5, s6, s7⟩ := hS
  obtain ⟨c1, c2, c3, c4, c5, c6, c7, c8⟩ := h
  obtain ⟨⟨rfd, hd1⟩, capd, eld, hd2⟩ := hlst
  -- the source is as it was
  have hes : es ≠ ld := by
    obtain ⟨-, cap, el, h4, -⟩ := s1
    intro z; rw [z, hd1] at h4; cases h4
  have hls : ls ≠ ed := by
    obtain ⟨⟨rf, h1, -⟩, -⟩ := s1
    intro z; rw [z, hd2] at h1; cases h1
  have hgl : ∀ p, p < q → gs p ≠ ld := by
    intro p hp z
    obtain ⟨-, ⟨rf, h1, -⟩, -⟩ := s7 p hp
    rw [z, hd1] at h1
    injection h1 with h1; injection h1 with h1; injection h1 with h1; injection h1 with h1; injection h1 with h1
    omega
  have hge : ∀ p, p < q → gs p ≠ ed := by
    intro p hp z
    obtain ⟨-, ⟨rf, h1, -⟩, -⟩ := s7 p hp
    rw [z, hd2] at h1; cases h1
  have src : LSt Sh ls es q gs := by
    obtain ⟨⟨rf, h1, h2⟩, cap, el, h4, h5⟩ := s1
    exact ⟨⟨rf, by rw [c7 ls s3 s5 hls]; exact h1, h2⟩, cap, el, by rw [c7 es s4 hes s6]; exact h4, h5⟩
  have hget := l_get (V := V) (L := L) (n := n) src (by rw [c8 ls s3 s5]; exact s2) hi
  obtain ⟨g1, ⟨rf, g2, g3⟩, g4⟩ := s7 i hi
  have g2' : Sh (gs i) = some (d_obj ci N rf) := by rw [c7 _ g1 (hgl i hi) (hge i hi)]; exact g2
  have vg : V (gs i) = V0 (gs i) := c8 _ g1 (hgl i hi)
  obtain ⟨V1, p1, p2, p3⟩ := hcp.2 Sh V L n (gs i) rf g2' g3 (by rw [vg]; exact g4) (by omega)
  have hldn : ld ≠ n := by omega
  have he'n : e' < n := by rcases c5 with c5 | c5 <;> omega
  have c1' : LSt (updS Sh n (d_obj ci N rc)) ld e' i g' := by
    obtain ⟨⟨rf, h1, h2⟩, cap, el, h4, h5⟩ := c1
    exact ⟨⟨rf, by rw [updS_ne hldn]; exact h1, h2⟩, cap, el, by rw [updS_ne (by omega)]; exact h4, h5⟩
  have okx : okE (updS Sh n (d_obj ci N rc)) n := ⟨ci, N, rc, updS_eq, by omega⟩
  have okg : ∀ p, p < i → okE (updS Sh n (d_obj ci N rc)) (g' p) := by
    intro p hp
    obtain ⟨⟨rf, h1, -⟩, -, -, h2⟩ := c3 p hp
    exact ⟨ci, N, rf, by rw [updS_ne (by omega)]; exact h1, by omega⟩
  obtain ⟨e'', Sh2, V2, n2, a1, a2, a3, a4, a5, a6⟩ := l_add (gp := gp) (L := L) (V := V1) (x := n) (n := n + 1) c1' (by rw [p3 ld hldn]; exact c2) (by omega) okx okg (by omega) (by omega) (by omega) (fun p hp => by have := (c3 p hp).2.2.2; omega)
  have hK : ∀ {ρ : Type} (k : Option ρ), zK (updS Sh n (d_obj ci N rc), V1, L, n + 1) ld 14 3 k = k := fun k => l_K c1'
  refine ⟨Sh2, V2, n2, e'', fun p => if p = i then n else g' p, fun k => ?_, a2, a3, fun p hp => ?_, fun p p' hp hp' hpp => ?_, ?_, ?_, fun a ha b1 b2 => ?_, fun a ha b1 => ?_⟩
  · unfold turnC
    rw [hget, bnd_S]
    show zK (Sh, V, L, n) (gs i) ci N _ = _
    rw [zK_T g2', nn_eq, zK_T g2', p1, bnd_S, un2_S, nn_eq, hK, a1, bnd_S, un2_S]
  · by_cases hpi : p = i
    · subst hpi
      simp only [if_true]
      refine ⟨⟨rc, ?_, hcp.1⟩, fun j hj => ?_, by omega, by omega⟩
      · rw [a6 n (Ne.symm hldn) (by omega) (by omega), updS_eq]
      · rw [a5 n (Ne.symm hldn), p2 j hj, vg]
    · simp only [hpi, if_false]
      obtain ⟨⟨rf', h1, h2⟩, h3, h4, h5⟩ := c3 p (by omega)
      have n1 : g' p ≠ ld := by
        intro z
        have := c7 ld
        rw [z] at h4
        omega
      have n2' : g' p ≠ e' := by
        obtain ⟨-, cap, el, h6, -⟩ := c1
        intro z; rw [z, h6] at h1; cases h1
      refine ⟨⟨rf', ?_, h2⟩, fun j hj => ?_, h4, by omega⟩
      · rw [a6 _ n1 n2' (by omega), updS_ne (by omega)]; exact h1
      · rw [a5 _ n1, p3 _ (by omega)]; exact h3 j hj
  · simp only at hpp
    by_cases h1 : p = i
    · by_cases h2 : p' = i
      · omega
      · rw [if_pos h1, if_neg h2] at hpp
        have := (c3 p' (by omega)).2.2.2
        omega
    · by_cases h2 : p' = i
      · rw [if_neg h1, if_pos h2] at hpp
        have := (c3 p (by omega)).2.2.2
        omega
      · rw [if_neg h1, if_neg h2] at hpp
        exact c4 p p' (by omega) (by omega) hpp
  · rcases a4 with ⟨h1, h2⟩ | ⟨h1, h2⟩
    · rw [h1, h2]
      rcases c5 with c5 | c5
      · exact Or.inl c5
      · exact Or.inr (by omega)
    · right; omega
  · rcases a4 with ⟨h1, h2⟩ | ⟨h1, h2⟩ <;> omega
  · have n3 : a ≠ e' := by rcases c5 with c5 | c5 <;> omega
    rw [a6 a b1 n3 (by omega), updS_ne (by omega)]
    exact c7 a ha b1 b2
  · rw [a5 a b1, p3 a (by omega)]
    exact c8 a ha b1
theorem turn_loop {F : (Int32 × c_S → Option c_S) → Int32 × c_S → Option c_S} {fuel : Nat} {g0 : Nat → Nat} (hcp : CpOk cp ci N rc okV) (hci : ci = 5 ∧ N = 6 ∨ ci = 6 ∧ N = 3) (hld : ld < n0) (hed : ed < n0) (hlst : LSt Sh0 ld ed 0 g0) (hl0 : V0 ld 2 = nI 0) (hS : SrcL Sh0 V0 n0 ld ed ls es q ci N gs okV) (hq : q < 19) (hfu : q < fuel)
    (hF : ∀ rec i Sh V n e' g', i < q → CLs Sh0 V0 n0 ld ed gs ci N i Sh V n e' g' → F rec (nI i, (Sh, V, L, n)) = turnC gp cp ci N ld ls i (Sh, V, L, n) (fun Z => rec (nI (i + 1), Z)))
    (hE : ∀ rec Sh V n e' g', CLs Sh0 V0 n0 ld ed gs ci N q Sh V n e' g' → F rec (nI q, (Sh, V, L, n)) = some (Sh, V, L, n)) :
    ∃ Sh V n e' g', lp F fuel (0, (Sh0, V0, L, n0)) = some (Sh, V, L, n) ∧ CLs Sh0 V0 n0 ld ed gs ci N q Sh V n e' g' := by
  have hty : (∃ rf, Sh0 ld = some (d_obj 14 3 rf)) ∧ ∃ cap el, Sh0 ed = some (d_ref 5 cap el) := by
    obtain ⟨⟨rf, h1, -⟩, cap, el, h2, -⟩ := hlst
    exact ⟨⟨rf, h1⟩, cap, el, h2⟩
  have hr := lp_rel (F := F) (N := q) (P := fun out => ∃ Sh V n e' g', out = (Sh, V, L, n) ∧ CLs Sh0 V0 n0 ld ed gs ci N q Sh V n e' g') (fun i s => s.1 = nI i ∧ ∃ Sh V n e' g', s.2 = (Sh, V, L, n) ∧ CLs Sh0 V0 n0 ld ed gs ci N i Sh V n e' g') ?_ ?_ fuel 0 (0, (Sh0, V0, L, n0)) (by omega) (by omega) ⟨nI_0.symm, Sh0, V0, n0, ed, g0, rfl, hlst, hl0, fun p hp => by omega, fun p p' hp => by omega, Or.inl rfl, Nat.le_refl _, fun _ _ _ _ => rfl, fun _ _ _ => rfl⟩
  · obtain ⟨out, h1, Sh, V, n, e', g', rfl, h2⟩ := hr
    exact ⟨Sh, V, n, e', g', h1, h2⟩
  · intro i s hi hs
    obtain ⟨x, Z'⟩ := s
    obtain ⟨e1, Sh, V, n, e', g', e2, hC⟩ := hs
    simp only at e1 e2
    subst e1 e2
    obtain ⟨Sh', V', n', e'', g'', t1, t2⟩ := turn_step (gp := gp) (L := L) hcp hci hld hed hty hS hi hq hC
    refine ⟨(nI (i + 1), (Sh', V', L, n')), fun rec => ?_, rfl, Sh', V', n', e'', g'', rfl, t2⟩
    rw [hF rec i Sh V n e' g' hi hC, t1]
  · intro s hs
    obtain ⟨x, Z'⟩ := s
    obtain ⟨e1, Sh, V, n, e', g', e2, hC⟩ := hs
    simp only at e1 e2
    subst e1 e2
    exact ⟨_, fun rec => hE rec Sh V n e' g' hC, Sh, V, n, e', g', rfl, hC⟩
end TC2
