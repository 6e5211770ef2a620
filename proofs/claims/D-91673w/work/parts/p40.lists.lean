/-! PURE: lists (ArrayList): cleared, added to -/
set_option maxRecDepth 100000
section LS2
variable {ρ : Type} {Sh : g_Sh} {V : g_V} {L : g_L} {n l e q x : Nat} {g : Nat → Nat} {gp : Nat → Nat}
theorem updS_eq {Sh : g_Sh} {a : Nat} {d : g_D} : updS Sh a d a = some d := if_pos rfl
theorem updS_ne {Sh : g_Sh} {a b : Nat} {d : g_D} (h : b ≠ a) : updS Sh a d b = Sh b := if_neg h
/-- an object that lists hold -/
def okE (Sh : g_Sh) (x : Nat) : Prop := ∃ ci N rf, Sh x = some (d_obj ci N rf) ∧ (ci = 4 ∧ N = 4 ∨ ci = 5 ∧ N = 6 ∨ ci = 6 ∧ N = 3 ∨ ci = 10 ∧ N = 2)
theorem okE.good (h : okE Sh x) : zAl [4, 5, 6, 10] (Sh, V, L, n) x = true := by
  obtain ⟨ci, N, rf, h1, h2⟩ := h
  unfold zAl
  simp only [zSh_T, h1, d_obj]
  rcases h2 with ⟨rfl, rfl⟩ | ⟨rfl, rfl⟩ | ⟨rfl, rfl⟩ | ⟨rfl, rfl⟩ <;> decide
theorem okE.mono {Sh' : g_Sh} (h : okE Sh x) (he : Sh' x = Sh x) : okE Sh' x := by
  obtain ⟨ci, N, rf, h1, h2⟩ := h
  exact ⟨ci, N, rf, by rw [he]; exact h1, h2⟩
theorem zsR_some {a t k j v : Nat} {el : Nat → Option Nat} {al : List Nat} {K : c_S → Option ρ} (h : Sh a = some (d_ref t k el)) (hj : j < k) (hk : k < 2 ^ 31) (hv : zAl al (Sh, V, L, n) v = true) : zsR al (Sh, V, L, n) t a (nI j) (some v) K = K (updS Sh a (d_ref t k (va_up el j (some v))), V, L, n) := by
  unfold zsR csR okI
  simp only [hv, if_true, zSh_T, h, d_ref]
  rw [if_neg (nI_in hj hk), nI_clamp (by omega)]
theorem zsR_none {a t k j : Nat} {el : Nat → Option Nat} {al : List Nat} {K : c_S → Option ρ} (h : Sh a = some (d_ref t k el)) (hj : j < k) (hk : k < 2 ^ 31) : zsR al (Sh, V, L, n) t a (nI j) none K = K (updS Sh a (d_ref t k (va_up el j none)), V, L, n) := by
  unfold zsR csR
  simp only [zSh_T, h, d_ref, if_true]
  rw [if_neg (nI_in hj hk), nI_clamp (by omega)]
theorem zLen_ref {a t k : Nat} {el : Nat → Option Nat} {K : Int32 → Option ρ} (h : Sh a = some (d_ref t k el)) (ht : t < 12) : zLen (Sh, V, L, n) a K = K (nI k) := by
  unfold zLen
  simp only [zSh_T, h, d_ref, ht, if_true]
  rfl
theorem zPR_T {a ci N i : Nat} {o : Option Nat} {rf : Nat → Option (Option Nat)} {K : c_S → Option ρ} (h : Sh a = some (d_obj ci N rf)) (h2 : (rf i).isSome = true) : zPR (Sh, V, L, n) a ci N i o K = K (updS Sh a (d_obj ci N (updR rf i o)), V, L, n) := by
  unfold zPR cPR
  simp only [zSh_T, h, d_obj, and_self, if_true, h2]
theorem LSt.ne (h : LSt Sh l e q g) : l ≠ e := by
  obtain ⟨⟨rf, h1, -⟩, cap, el, h4, -⟩ := h
  intro z
  rw [z, h4] at h1
  cases h1
/-- one more is added -/
theorem l_add (h : LSt Sh l e q g) (hq : V l 2 = nI q) (hq19 : q < 19) (hx : okE Sh x) (hg : ∀ p, p < q → okE Sh (g p)) (hln : l < n) (hen : e < n) (hxn : x < n) (hgn : ∀ p, p < q → g p < n) :
    ∃ e' Sh' V' n', cm_J2_add gp (Sh, V, L, n) l x = some (1, (Sh', V', L, n')) ∧ LSt Sh' l e' (q + 1) (fun p => if p = q then x else g p) ∧ V' l 2 = nI (q + 1) ∧ ((e' = e ∧ n' = n) ∨ (e' = n ∧ n' = n + 1)) ∧ (∀ a, a ≠ l → V' a = V a) ∧ ∀ a, a ≠ l → a ≠ e → a ≠ n → Sh' a = Sh a := by
  have hne := h.ne
  obtain ⟨⟨rf, h1, h2, h3, h4⟩, cap, el, h5, h6, h7, h8⟩ := h
  have hlx : x ≠ l := by
    intro z
    obtain ⟨ci, N, rf', hx1, hx2⟩ := hx
    rw [z, h1] at hx1
    injection hx1 with hx1
    injection hx1 with hx1
    injection hx1 with hx1
    injection hx1 with hx1
    injection hx1 with hx1
    omega
  have hex : x ≠ e := by
    intro z
    obtain ⟨ci, N, rf', hx1, hx2⟩ := hx
    rw [z, h5] at hx1
    cases hx1
  have hge : ∀ p, p < q → g p ≠ e := by
    intro p hp z
    obtain ⟨ci, N, rf', hx1, hx2⟩ := hg p hp
    rw [z, h5] at hx1
    cases hx1
  have v2 : upd2 V l 0 (V l 0 + 1) l 2 = nI q := by
    rw [upd2_eq, upd_ne (by omega)]
    exact hq
  have vo : ∀ (y z : Int32) a, a ≠ l → upd2 (upd2 V l 0 y) l 2 z a = V a := by
    intro y z a ha
    rw [upd2_ne a ha, upd2_ne a ha]
  have v3 : ∀ y z, upd2 (upd2 V l 0 y) l 2 z l 2 = z := by
    intro y z
    rw [upd2_eq, upd_eq]
  by_cases hc : q = cap
  · subst hc
    -- a greater array
    have hcap : q = 4 ∨ q = 6 ∨ q = 9 ∨ q = 13 := by omega
    have hnew : ∃ cap', (cap' = 6 ∨ cap' = 9 ∨ cap' = 13 ∨ cap' = 19) ∧ q + 1 ≤ cap' ∧ cm_J5_newLength (nI q) (nI q + 1 - nI q) (nI q >>> (1 &&& 31)) = some (nI cap') := by
      rcases hcap with rfl | rfl | rfl | rfl
      · exact ⟨6, by omega, by omega, by decide⟩
      · exact ⟨9, by omega, by omega, by decide⟩
      · exact ⟨13, by omega, by omega, by decide⟩
      · exact ⟨19, by omega, by omega, by decide⟩
    obtain ⟨cap', hc1, hc2, hc3⟩ := hnew
    have hgr : cm_J2_grow gp (Sh, upd2 V l 0 (V l 0 + 1), L, n) l = some (some n, (updS (updS (updS Sh n (d_ref 5 cap' (fun _ => none))) n (d_ref 5 cap' (va_cpy el (fun _ => none) 0 0 q))) l (d_obj 14 3 (updR rf 1 (some n))), upd2 V l 0 (V l 0 + 1), L, n + 1)) := by
      have hen2 : e ≠ n := by omega
      have hln2 : l ≠ n := by omega
      have hz0 : ¬ (0 : Int32) < 0 := by decide
      have hc0 : (0 : Int32).toNatClampNeg = 0 := by decide
      have hall : (List.range q).all (fun i => match el (0 + i) with
          | none => true
          | some y => zAl [4, 5, 6, 10] (updS Sh n (d_ref 5 cap' (fun _ => none)), upd2 V l 0 (V l 0 + 1), L, n + 1) y) = true := by
        rw [List.all_eq_true]
        intro i hi
        have hi2 := List.mem_range.mp hi
        rw [Nat.zero_add, h8 i hi2]
        simp only
        exact ((hg i hi2).mono (updS_ne (by have := hgn i hi2; omega))).good
      unfold cm_J2_grow cm_J2_grow_2 cm_J7_copyOf cm_J7_copyOf_2 zGc
      simp only [zSh_T, zV_T, zL_T, zn_T]
      rw [cI_eq h1 h4, zK_T h1, cA_eq h1 h3, zLen_ref h5 (by omega), v2, if_pos (by rw [← nI_0]; exact nI_lt (by omega) (by omega)), hc3, bnd_S, cA_eq h1 h3]
      simp only [h5, d_ref, if_true, bnd_S]
      unfold zNewR
      rw [if_neg (by rw [nI_clamp (by omega)]; intro z; rcases z with z | z; exact nI_pos (by omega) z; omega), nI_clamp (by omega)]
      simp only [zSh_T, zV_T, zL_T, zn_T]
      rw [zLen_ref (el := el) (k := q) (by rw [updS_ne hen2]; exact h5) (by omega)]
      have hmin : (if nI cap' < nI q then nI cap' else nI q) = nI q := if_neg (nI_nlt (by omega) (by omega))
      rw [hmin]
      simp only [nmI_S]
      unfold zCpR
      simp only [zSh_T, zV_T, zL_T, zn_T]
      have s1 : updS Sh n (d_ref 5 cap' (fun _ => none)) e = some (.inr (.inr (.inl (5, q, el)))) := by rw [updS_ne hen2]; exact h5
      have s2 : updS Sh n (d_ref 5 cap' (fun _ => none)) n = some (.inr (.inr (.inl (5, cap', fun _ => none)))) := updS_eq
      rw [s1, s2]
      simp only [hz0, hc0, nI_clamp (show q < 2 ^ 31 by omega), Nat.zero_add]
      simp only [Nat.zero_add] at hall
      rw [if_pos ⟨trivial, trivial, by simp, by simp, nI_pos (by omega), Nat.le_refl _, by omega, hall⟩]
      simp only [bnd_S, un2_S]
      rw [zPR_T (rf := rf) (by rw [updS_ne hln2, updS_ne hln2]; exact h1) (by rw [h3]; rfl)]
      simp only [bnd_S, un2_S]
    have hne2 : n ≠ l := by omega
    refine ⟨n, updS (updS (updS (updS Sh n (d_ref 5 cap' (fun _ => none))) n (d_ref 5 cap' (va_cpy el (fun _ => none) 0 0 q))) l (d_obj 14 3 (updR rf 1 (some n)))) n (d_ref 5 cap' (va_up (va_cpy el (fun _ => none) 0 0 q) q (some x))), upd2 (upd2 V l 0 (V l 0 + 1)) l 2 (nI (q + 1)), n + 1, ?_, ⟨⟨updR rf 1 (some n), ?_, ?_, ?_, ?_⟩, cap', _, updS_eq, by omega, by omega, fun p hp => ?_⟩, v3 _ _, Or.inr ⟨rfl, rfl⟩, vo _ _, fun a a1 a2 a3 => ?_⟩
    · unfold cm_J2_add cm_J2_add_2
      simp only [zSh_T, zV_T, zL_T, zn_T]
      rw [cI_eq h1 h2, zPI_T h1 h2]
      simp only [zSh_T, zV_T, zL_T, zn_T]
      rw [cA_eq h1 h3, cI_eq h1 h4, zK_T h1, v2, zLen_ref h5 (by omega), if_pos rfl, zK_T h1, hgr, bnd_S, un2_S, nn_eq]
      have hxA : okE (updS (updS (updS Sh n (d_ref 5 cap' (fun _ => none))) n (d_ref 5 cap' (va_cpy el (fun _ => none) 0 0 q))) l (d_obj 14 3 (updR rf 1 (some n)))) x := hx.mono (by rw [updS_ne hlx, updS_ne (by omega), updS_ne (by omega)])
      rw [zsR_some (k := cap') (el := va_cpy el (fun _ => none) 0 0 q) (by rw [updS_ne hne2, updS_eq]) (by omega) (by omega) hxA.good]
      rw [zPI_T (rf := updR rf 1 (some n)) (by rw [updS_ne (Ne.symm hne2), updS_eq]) (by unfold updR; rw [if_neg (by omega)]; exact h4), bnd_S, nI_1]
    · rw [updS_ne (Ne.symm hne2), updS_eq]
    · unfold updR; rw [if_neg (by omega)]; exact h2
    · unfold updR; rw [if_pos rfl]
    · unfold updR; rw [if_neg (by omega)]; exact h4
    · show va_up (va_cpy el (fun _ => none) 0 0 q) q (some x) p = some (if p = q then x else g p)
      unfold va_up va_cpy
      by_cases hpq : p = q
      · rw [if_pos hpq, if_pos hpq]
      · rw [if_neg hpq, if_pos (by omega), if_neg hpq, show 0 + (p - 0) = p by omega]
        exact h8 p (by omega)
    · rw [updS_ne a3, updS_ne a1, updS_ne a3, updS_ne a3]
  · -- there is room
    refine ⟨e, updS Sh e (d_ref 5 cap (va_up el q (some x))), upd2 (upd2 V l 0 (V l 0 + 1)) l 2 (nI (q + 1)), n, ?_, ⟨⟨rf, ?_, h2, h3, h4⟩, cap, _, updS_eq, by omega, h7, fun p hp => ?_⟩, v3 _ _, Or.inl ⟨rfl, rfl⟩, vo _ _, fun a a1 a2 a3 => updS_ne a2⟩
    · have hne3 : ¬ nI q = nI cap := fun z => hc ((nI_eq (by omega) (by omega)).mp z)
      unfold cm_J2_add cm_J2_add_2
      simp only [zSh_T, zV_T, zL_T, zn_T]
      rw [cI_eq h1 h2, zPI_T h1 h2]
      simp only [zSh_T, zV_T, zL_T, zn_T]
      rw [cA_eq h1 h3, cI_eq h1 h4, zK_T h1, v2, zLen_ref h5 (by omega), if_neg hne3, zsR_some h5 (by omega) (by omega) hx.good, zPI_T (rf := rf) (by rw [updS_ne hne]; exact h1) h4, bnd_S, nI_1]
    · rw [updS_ne hne]; exact h1
    · show va_up el q (some x) p = some (if p = q then x else g p)
      unfold va_up
      by_cases hpq : p = q
      · rw [if_pos hpq, if_pos hpq]
      · rw [if_neg hpq, if_neg hpq]
        exact h8 p (by omega)
/-- all are taken away -/
theorem l_clear (h : LSt Sh l e q g) (hq : V l 2 = nI q) (hq19 : q < 100) : ∃ Sh' V', cm_J2_clear (Sh, V, L, n) l = some (Sh', V', L, n) ∧ (∀ g', LSt Sh' l e 0 g') ∧ V' l 2 = nI 0 ∧ (∀ a, a ≠ l → V' a = V a) ∧ ∀ a, a ≠ e → Sh' a = Sh a := by
  have hne := h.ne
  obtain ⟨⟨rf, h1, h2, h3, h4⟩, cap, el, h5, h6, h7, h8⟩ := h
  have hr := lp_rel (F := cm_J2_clear_F27 e (nI q)) (N := q) (P := fun out => ∃ el', out = (updS Sh e (d_ref 5 cap el'), upd2 (upd2 V l 0 (V l 0 + 1)) l 2 0, L, n)) (fun i s => s.1 = nI i ∧ ∃ Sh' el', s.2 = (Sh', upd2 (upd2 V l 0 (V l 0 + 1)) l 2 0, L, n) ∧ Sh' = updS Sh e (d_ref 5 cap el')) ?_ ?_ 1000 0 (0, (Sh, upd2 (upd2 V l 0 (V l 0 + 1)) l 2 0, L, n)) (by omega) (by omega) ⟨nI_0.symm, Sh, el, rfl, ?_⟩
  · obtain ⟨out, r1, el', rfl⟩ := hr
    refine ⟨updS Sh e (d_ref 5 cap el'), upd2 (upd2 V l 0 (V l 0 + 1)) l 2 0, ?_, fun g' => ⟨⟨rf, by rw [updS_ne hne]; exact h1, h2, h3, h4⟩, cap, el', updS_eq, by omega, h7, fun p hp => by omega⟩, by rw [upd2_eq, upd_eq, nI_0], fun a ha => by rw [upd2_ne a ha, upd2_ne a ha], fun a ha => updS_ne ha⟩
    unfold cm_J2_clear cm_J2_clear_L27
    simp only [zSh_T, zV_T, zL_T, zn_T]
    rw [cI_eq h1 h2, zPI_T h1 h2]
    simp only [zSh_T, zV_T, zL_T, zn_T]
    rw [cA_eq h1 h3, cI_eq h1 h4, zPI_T h1 h4, upd2_eq, upd_ne (by omega), hq]
    rw [r1, bnd_S]
  · intro i s hi hs
    obtain ⟨x, Z'⟩ := s
    obtain ⟨e1, Sh', el', e2, e3⟩ := hs
    simp only at e1 e2
    subst e1 e2 e3
    refine ⟨(nI (i + 1), (updS Sh e (d_ref 5 cap (va_up el' i none)), upd2 (upd2 V l 0 (V l 0 + 1)) l 2 0, L, n)), fun rec => ?_, rfl, _, va_up el' i none, rfl, rfl⟩
    unfold cm_J2_clear_F27
    have ov : ∀ d d', updS (updS Sh e d) e d' = updS Sh e d' := by
      intro d d'
      funext a
      unfold updS
      by_cases ha : a = e <;> simp [ha]
    simp (disch := omega) only [cm_J2_clear_B27, L_add, L_addR, L_mul, L_mulR, L_div, N_div, N_rem, L_sub, L_subN, nI_add, nI_mul, L_le, L_leR, L_lt, L_ltR, L_eq, N_leT, N_leF, N_ltT, N_ltF, N_eqT, N_eqF, N_m1, bnd_S, un2_S, un3_S, nmI_S, nmL_S, ptI_S, cs2_L, cs2_R, okI_b, okI_1, okI_0, rdI_in, wrI_in, rdI_L, wrI_L, rdL_in, wrL_in, if_true, if_false, zsR_none updS_eq, ov]
  · intro s hs
    obtain ⟨x, Z'⟩ := s
    obtain ⟨e1, Sh', el', e2, e3⟩ := hs
    simp only at e1 e2
    subst e1 e2 e3
    refine ⟨_, fun rec => ?_, el', rfl⟩
    unfold cm_J2_clear_F27
    simp (disch := omega) only [cm_J2_clear_B27, L_add, L_addR, L_mul, L_mulR, L_div, N_div, N_rem, L_sub, L_subN, nI_add, nI_mul, L_le, L_leR, L_lt, L_ltR, L_eq, N_leT, N_leF, N_ltT, N_ltF, N_eqT, N_eqF, N_m1, bnd_S, un2_S, un3_S, nmI_S, nmL_S, ptI_S, cs2_L, cs2_R, okI_b, okI_1, okI_0, rdI_in, wrI_in, rdI_L, wrI_L, rdL_in, wrL_in, if_true, if_false]
  · funext a
    unfold updS
    by_cases ha : a = e
    · rw [if_pos ha, ha, h5]
    · rw [if_neg ha]
end LS2
