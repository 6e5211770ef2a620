/-! PURE: slots: row, write, paste -/
set_option maxRecDepth 100000
/-- both answer alike; the reference's longs may change -/
def AnL (c : Option (Int32 × c_S)) (t : Option (Int32 × g_L)) (x : Nat) (V2 : g_V) : Prop := ∃ r Z' L', c = some (r, Z') ∧ t = some (r, L') ∧ G Z' x V2 L'
def AnR (c : Option (Int32 × c_S)) (t : Option (Int32 × g_V × g_L)) (x : Nat) : Prop := ∃ r Z' V' L', c = some (r, Z') ∧ t = some (r, V', L') ∧ G Z' x V' L'
theorem nn_nI {a : Int32} (h : ¬ a < 0) : ∃ k, k < 2 ^ 31 ∧ a = nI k := by
  have h0 : ¬ a.toInt < 0 := fun z => h (by rw [Int32.lt_iff_toInt_lt]; exact z)
  have h1 := Int32.toInt_lt a
  refine ⟨a.toInt.toNat, by omega, ?_⟩
  apply Int32.toInt_inj.mp
  rw [nI_toInt (by omega)]
  omega
theorem nI_n0 {k : Nat} (h : k < 2 ^ 31) : ¬ nI k < 0 := by rw [show (0 : Int32) = nI 0 from rfl, N_lt h (by omega)]; omega
theorem lg_cmp_pos (x y : Int64) : (0 < lg_cmp x y) = (y < x) := by
  unfold lg_cmp
  by_cases h : x > y
  · rw [if_pos h]; exact propext ⟨fun _ => h, fun _ => by decide⟩
  · rw [if_neg h]
    refine propext ⟨fun z => absurd z ?_, fun z => absurd z h⟩
    split <;> decide
theorem sumL {p k N : Nat} (hp : p < 2 ^ 31) (hk : k < 2 ^ 31) (hN : N < 2 ^ 31) : ((nI N).toInt64 < (nI p).toInt64 + (nI k).toInt64) = (N < p + k) := by
  rw [Int64.lt_iff_toInt_lt, Int64.toInt_add, Int32.toInt_toInt64, Int32.toInt_toInt64, Int32.toInt_toInt64, nI_toInt hp, nI_toInt hk, nI_toInt hN]
  rw [Int.bmod_eq_of_le (by omega) (by omega)]
  apply propext
  omega
section SQ
variable {Sh : g_Sh} {V : g_V} {L : g_L} {n x : Nat} {m u mt q ρ : Nat → Nat} {V2 : g_V} {L2 : g_L}
theorem s_puts {a b wd N : Nat} {g : Nat → Int64} {rf : Nat → Option (Option Nat)} (k5 : Sh a = some (d_obj 7 1 rf)) (k6 : rf 0 = some (some b)) (hN : N ≤ 60) (h : Row Sh V L b wd N g) (i : Int32) (v : Int64) : (i < 0 ∨ N ≤ i.toNatClampNeg → ∃ n', n ≤ n' ∧ cm_X7_puts (Sh, V, L, n) a i v = some (-7, (Sh, V, L, n'))) ∧ ∀ j, j < N → i = nI j → ∃ V' L' n' c, n ≤ n' ∧ cm_X7_puts (Sh, V, L, n) a i v = some (0, (Sh, V', L', n')) ∧ (∀ a, a ≠ b → V' a = V a ∧ L' a = L a) ∧ tw_cut v (nI wd) = some c ∧ Row Sh V' L' b wd N (fun t => if t = j then c else g t) := by
  have n60 : ¬ 60 < N := by omega
  have n31 : ¬ (3 : Nat) = 1 := by omega
  have n01 : ¬ (0 : Nat) = 1 := by omega
  have n03 : ¬ (0 : Nat) = 3 := by omega
  have ff : ¬ (false = true) := by decide
  have out : ∀ j, j < N → ¬ (nI j < 0 ∨ N ≤ j) := fun j hj => by
    intro z
    rcases z with z | z
    · exact nI_n0 (by omega) z
    · omega
  rcases h with ⟨h0, e, f⟩ | ⟨h0, e, f⟩ | ⟨h0, e, f⟩ | ⟨h0, e, f⟩
  · subst h0
    refine ⟨fun ho => ⟨n + 3, by omega, ?_⟩, fun j hj hi => ⟨upd2 V b j v.toInt32.toInt8.toInt32, L, n, _, Nat.le_refl _, ?_, fun c hc => ⟨upd2_ne c hc, rfl⟩, cut_0 v, Or.inl ⟨rfl, e, fun t ht => ?_⟩⟩⟩
    · unfold cm_X7_puts cm_X7_put
      simp only [zSh_T, zV_T, zL_T, zn_T, cR_eq k5 k6, e, d_int, n60, if_false, if_true, ho, bnd_S, zGrow, Bool.false_eq_true]
    · subst hi
      have o := out j hj
      unfold cm_X7_puts cm_X7_put
      simp only [zSh_T, zV_T, zL_T, zn_T, cR_eq k5 k6, e, d_int, n60, if_false, if_true, o, bnd_S, nI_clamp (show j < 2 ^ 31 by omega)]
    · rw [upd2_eq]
      dsimp only
      by_cases hc : t = j
      · subst hc
        rw [upd_eq, if_pos rfl]
        exact ⟨rfl, cut_8 _⟩
      · rw [upd_ne hc, if_neg hc]
        exact f t ht
  · subst h0
    refine ⟨fun ho => ⟨n + 3, by omega, ?_⟩, fun j hj hi => ⟨upd2 V b j v.toInt32.toInt16.toInt32, L, n, _, Nat.le_refl _, ?_, fun c hc => ⟨upd2_ne c hc, rfl⟩, cut_1 v, Or.inr (Or.inl ⟨rfl, e, fun t ht => ?_⟩)⟩⟩
    · unfold cm_X7_puts cm_X7_put
      simp only [zSh_T, zV_T, zL_T, zn_T, cR_eq k5 k6, e, d_int, n60, n31, if_false, if_true, ho, bnd_S, zGrow, Bool.false_eq_true]
    · subst hi
      have o := out j hj
      unfold cm_X7_puts cm_X7_put
      simp only [zSh_T, zV_T, zL_T, zn_T, cR_eq k5 k6, e, d_int, n60, n31, if_false, if_true, o, bnd_S, nI_clamp (show j < 2 ^ 31 by omega)]
    · rw [upd2_eq]
      dsimp only
      by_cases hc : t = j
      · subst hc
        rw [upd_eq, if_pos rfl]
        exact ⟨rfl, cut_16 _⟩
      · rw [upd_ne hc, if_neg hc]
        exact f t ht
  · subst h0
    refine ⟨fun ho => ⟨n + 3, by omega, ?_⟩, fun j hj hi => ⟨upd2 V b j v.toInt32, L, n, _, Nat.le_refl _, ?_, fun c hc => ⟨upd2_ne c hc, rfl⟩, cut_2 v, Or.inr (Or.inr (Or.inl ⟨rfl, e, fun t ht => ?_⟩))⟩⟩
    · unfold cm_X7_puts cm_X7_put cm_X7_putWider
      simp only [zSh_T, zV_T, zL_T, zn_T, cR_eq k5 k6, e, d_int, n60, n01, n03, if_false, if_true, ho, bnd_S, zGrow, Bool.false_eq_true]
    · subst hi
      have o := out j hj
      unfold cm_X7_puts cm_X7_put cm_X7_putWider
      simp only [zSh_T, zV_T, zL_T, zn_T, cR_eq k5 k6, e, d_int, n60, n01, n03, if_false, if_true, o, bnd_S, nI_clamp (show j < 2 ^ 31 by omega)]
    · rw [upd2_eq]
      dsimp only
      by_cases hc : t = j
      · subst hc
        rw [upd_eq, if_pos rfl]
      · rw [upd_ne hc, if_neg hc]
        exact f t ht
  · subst h0
    refine ⟨fun ho => ⟨n + 6, by omega, ?_⟩, fun j hj hi => ⟨V, updL2 L b j v, n + 3, _, by omega, ?_, fun c hc => ⟨rfl, updL2_ne c hc⟩, cut_3 v, Or.inr (Or.inr (Or.inr ⟨rfl, e, fun t ht => ?_⟩))⟩⟩
    · unfold cm_X7_puts cm_X7_put cm_X7_putWider
      simp only [zSh_T, zV_T, zL_T, zn_T, cR_eq k5 k6, e, d_lng, n60, if_false, if_true, ho, bnd_S, zGrow, Bool.false_eq_true]
    · subst hi
      have o := out j hj
      unfold cm_X7_puts cm_X7_put cm_X7_putWider
      simp only [zSh_T, zV_T, zL_T, zn_T, cR_eq k5 k6, e, d_lng, n60, if_false, if_true, o, bnd_S, nI_clamp (show j < 2 ^ 31 by omega)]
    · rw [updL2_eq, updL_at]
      dsimp only
      by_cases hc : t = j
      · rw [if_pos hc, if_pos hc]
      · rw [if_neg hc, if_neg hc]
        exact f t ht
theorem q_write (h : GG (Sh, V, L, n) x ρ m u mt q V2 L2) (a b : Int32) (v : Int64) : AnL (cm_X0_write (Sh, V, L, n) x a b v) (tw_write V2 L2 a b v) x V2 := by
  have hM : GM Sh x (m 0) (mt 0) q := h.gm
  have z1 : ¬ (1 : Int32) = 0 := by decide
  unfold cm_X0_write tw_write cm_X0_isSlot tw_isSlot
  simp only [cm_in_tw]
  rcases in_N (a := a) (hi := 3) (N := 4) (by omega) (by decide) with h1 | ⟨s, hs, rfl, h1⟩
  · rw [h1]; exact ⟨_, _, _, rfl, rfl, h.g⟩
  · rw [h1]
    obtain ⟨⟨el, e1, e2⟩, e3⟩ := h.2.2.2.2.1
    simp only [zSh_T, zV_T, zL_T, zn_T] at e1 e3
    have c1 : ∀ (α : Type) (k : Option Nat → Option α), caR Sh 7 (q 1) (nI s) k = k (some (q (5 + s))) := fun α k => by rw [caR_eq e1 hs (by omega), e2 s hs]
    simp (disch := omega) only [bnd_S, okI_1, z1, if_false, zSh_T, zV_T, zL_T, zn_T, x_sl hM, c1, nn_eq, rdI_in]
    rcases e3 s hs with ⟨k1, rf, k2, k3⟩ | ⟨N, wd, c, rf, k1, k2, k3, k4, k5, k6, k7, k8⟩
    · have e : cm_X7_puts (Sh, V, L, n) (q (5 + s)) b v = some (-6, (Sh, V, L, n + 1)) := by
        unfold cm_X7_puts cm_X7_put cm_X7_putWider
        simp only [zSh_T, zV_T, zL_T, zn_T, cR_eq k2 k3, bnd_S, zGrow, if_true]
      rw [zK_T k2, e, k1, if_pos rfl]
      exact ⟨_, _, _, rfl, rfl, (GG_scr h (Nat.le_succ n) (fun _ _ => rfl) (fun _ _ _ _ _ => rfl) (fun _ _ => rfl) TwK_rf (fun _ _ => rfl)).g⟩
    · have nb : ¬ nI N = -1 := by rw [N_m1 (by omega)]; exact id
      obtain ⟨p1, p2⟩ := s_puts (n := n) k5 k6 k1 k8 b v
      have hh : ((nI N - 1).toInt64).toInt = (N : Int) - 1 := by
        rw [Int32.toInt_toInt64]
        rcases Nat.eq_zero_or_pos N with e0 | e0
        · subst e0; decide
        · rw [show (1 : Int32) = nI 1 from rfl, L_subN (by omega), nI_toInt (by omega)]; omega
      rw [zK_T k5, k2, if_neg nb]
      rcases in_out (a := b) (N := N) (by omega) hh with ⟨h2, ho⟩ | ⟨j, hj, hb, h2⟩
      · obtain ⟨n', hn, e⟩ := p1 ho
        rw [h2, e]
        exact ⟨_, _, _, rfl, rfl, (GG_scr h hn (fun _ _ => rfl) (fun _ _ _ _ _ => rfl) (fun _ _ => rfl) TwK_rf (fun _ _ => rfl)).g⟩
      · obtain ⟨V', L', n', d, hn, e, ho, hc, hR⟩ := p2 j hj hb
        rw [h2, e, k4]
        simp only [bnd_S, z1, if_false, hc]
        subst hb
        rw [show (60 : Int32) * nI s + nI j = nI (60 * s + j) by rw [show (60 : Int32) = nI 60 from rfl, nI_mul, nI_add], wrL_in (by omega) (by omega)]
        refine ⟨_, _, _, rfl, rfl, (GG_sl (s := s) (ρ' := ρ) (V2' := V2) h hs hn (fun _ _ => rfl) (fun a ha => Nat.lt_of_lt_of_le (h.2.2.2.2.2.2.1 a ha) hn) (fun a a0 a12 a16 => ⟨rfl, (ho a (fun z => a16 (by rw [z]; exact k7))).1, (ho a (fun z => a16 (by rw [z]; exact k7))).2⟩) (fun _ _ _ => rfl) (fun _ _ _ => ⟨rfl, rfl⟩) (fun t i ht hts hi => ?_) (Or.inr ⟨N, wd, c, rf, k1, k2, k3, k4, k5, k6, k7, Row_g hR (fun i hi => ?_)⟩)).g⟩
        · rw [updL2_eq, updL_at, if_neg (by omega)]
        · show updL2 L2 38 (60 * s + j) d 38 (60 * s + i) = _
          rw [updL2_eq, updL_at]
          by_cases hc : i = j
          · rw [if_pos (by omega), if_pos hc]
          · rw [if_neg (by omega), if_neg hc]
theorem s_begins {a w N : Nat} {rf : Nat → Option (Option Nat)} (k5 : Sh a = some (d_obj 7 1 rf)) (k6 : (rf 0).isSome = true) (hN : N ≤ 60) (hw : w < 4) (ha : a < n) : ∃ d V' L', cm_X7_begins (Sh, V, L, n) a (nI w) (nI N) = some (1, (updS (updS Sh n d) a (d_obj 7 1 (updR rf 0 (some n))), V', L', n + 1)) ∧ (∀ b, b ≠ n → V' b = V b ∧ L' b = L b) ∧ Row (updS Sh n d) V' L' n w N (fun _ => 0) := by
  have hne : a ≠ n := by omega
  have s0 : ¬ nI N < 0 := nI_n0 (by omega)
  have s1 : ¬ 60 < N := by omega
  have i0 : (nI 0 : Int32) = 0 := rfl
  unfold cm_X7_begins
  rw [if_neg s0, nI_clamp (by omega), if_neg s1]
  have hw' : w = 0 ∨ w = 1 ∨ w = 2 ∨ w = 3 := by omega
  have z10 : ¬ nI 1 = 0 := by decide
  have z20 : ¬ nI 2 = 0 := by decide
  have z21 : ¬ nI 2 = 1 := by decide
  have z30 : ¬ nI 3 = 0 := by decide
  have z31 : ¬ nI 3 = 1 := by decide
  have z32 : ¬ nI 3 = 2 := by decide
  have kk : ∀ d, updS Sh n d a = some (d_obj 7 1 rf) := fun d => by rw [updS_ne hne]; exact k5
  rcases hw' with rfl | rfl | rfl | rfl
  · rw [if_pos (show nI 0 = 0 from rfl)]
    unfold zNewI
    simp only [zSh_T, zV_T, zL_T, zn_T]
    rw [zPR_T (kk _) k6]
    exact ⟨_, _, _, rfl, fun b hb => ⟨rowV_ne hb, rfl⟩, Or.inl ⟨rfl, updS_eq, fun i _ => by rw [rowV_eq]; exact (show (0 : Int32).toInt64 = 0 ∧ (0 : Int32).toInt8.toInt32 = 0 by decide)⟩⟩
  · rw [if_neg z10, if_pos (show nI 1 = 1 from rfl)]
    unfold zNewI
    simp only [zSh_T, zV_T, zL_T, zn_T]
    rw [zPR_T (kk _) k6]
    exact ⟨_, _, _, rfl, fun b hb => ⟨rowV_ne hb, rfl⟩, Or.inr (Or.inl ⟨rfl, updS_eq, fun i _ => by rw [rowV_eq]; exact (show (0 : Int32).toInt64 = 0 ∧ (0 : Int32).toInt16.toInt32 = 0 by decide)⟩)⟩
  · rw [if_neg z20, if_neg z21, if_pos (show nI 2 = 2 from rfl)]
    unfold zNewI
    simp only [zSh_T, zV_T, zL_T, zn_T]
    rw [zPR_T (kk _) k6]
    exact ⟨_, _, _, rfl, fun b hb => ⟨rowV_ne hb, rfl⟩, Or.inr (Or.inr (Or.inl ⟨rfl, updS_eq, fun i _ => by rw [rowV_eq]; exact (show (0 : Int32).toInt64 = 0 by decide)⟩))⟩
  · rw [if_neg z30, if_neg z31, if_neg z32]
    unfold zNewL
    simp only [zSh_T, zV_T, zL_T, zn_T]
    rw [zPR_T (kk _) k6]
    exact ⟨_, _, _, rfl, fun b hb => ⟨rfl, rowL_ne hb⟩, Or.inr (Or.inr (Or.inr ⟨rfl, updS_eq, fun i _ => by rw [rowL_eq]⟩))⟩
theorem q_row (h : GG (Sh, V, L, n) x ρ m u mt q V2 L2) (a b c : Int32) : AnR (cm_X0_row (Sh, V, L, n) x a b c) (tw_row V2 L2 a b c) x := by
  have hM : GM Sh x (m 0) (mt 0) q := h.gm
  have z1 : ¬ (1 : Int32) = 0 := by decide
  unfold cm_X0_row tw_row cm_X0_isSlot tw_isSlot
  simp only [cm_in_tw]
  rcases in_N (a := a) (hi := 3) (N := 4) (by omega) (by decide) with h1 | ⟨s, hs, rfl, h1⟩
  · rw [h1]; exact ⟨_, _, _, _, rfl, rfl, h.g⟩
  · rw [h1]
    rcases in_N (a := b) (hi := 3) (N := 4) (by omega) (by decide) with h2 | ⟨w, hw, rfl, h2⟩
    · rw [h2]; exact ⟨_, _, _, _, rfl, rfl, h.g⟩
    · rw [h2]
      obtain ⟨⟨el, e1, e2⟩, e3⟩ := h.2.2.2.2.1
      have hO := h.2.2.2.2.2.2
      simp only [zSh_T, zV_T, zL_T, zn_T] at e1 e3 hO
      obtain ⟨o1, o2, o3, o4, o5, o6, o7⟩ := hO
      have c1 : ∀ (α : Type) (k : Option Nat → Option α), caR Sh 7 (q 1) (nI s) k = k (some (q (5 + s))) := fun α k => by rw [caR_eq e1 hs (by omega), e2 s hs]
      obtain ⟨rf, k2, k3⟩ : ∃ rf, Sh (q (5 + s)) = some (d_obj 7 1 rf) ∧ (rf 0).isSome = true := by
        rcases e3 s hs with ⟨k1, rf, k2, k3⟩ | ⟨N, wd, c, rf, k1, k2, k3, k4, k5, k6, k7, k8⟩
        · exact ⟨rf, k2, by rw [k3]; rfl⟩
        · exact ⟨rf, k5, by rw [k6]; rfl⟩
      simp (disch := omega) only [bnd_S, okI_1, z1, if_false, zSh_T, zV_T, zL_T, zn_T, x_sl hM, c1, nn_eq, zK_T k2]
      by_cases h60 : c ≤ 60
      · rw [if_pos h60, if_pos h60]
        by_cases h0 : c < 0
        · have e : cm_X7_begins (Sh, V, L, n) (q (5 + s)) (nI w) c = some (0, (Sh, V, L, n + 3)) := by
            unfold cm_X7_begins
            rw [if_pos h0]; rfl
          have h0' : ¬ 0 ≤ c := fun z => absurd (Int32.lt_of_le_of_lt z h0) (Int32.lt_irrefl)
          rw [e, if_neg h0']
          exact ⟨_, _, _, _, rfl, rfl, (GG_scr h (by omega) (fun _ _ => rfl) (fun _ _ _ _ _ => rfl) (fun _ _ => rfl) TwK_rf (fun _ _ => rfl)).g⟩
        · obtain ⟨N, hN, rfl⟩ := nn_nI h0
          have hN6 : N ≤ 60 := by rw [show (60 : Int32) = nI 60 from rfl, N_le hN (by omega)] at h60; exact h60
          have h7 := o7 s hs
          obtain ⟨d, V', L', e, hk, hR⟩ := s_begins (V := V) (L := L) k2 k3 hN6 hw (o1 _ (by omega))
          have h0' : (0 : Int32) ≤ nI N := by rw [show (0 : Int32) = nI 0 from rfl, N_le (by omega) hN]; omega
          rw [e, if_pos h0', wrI_in hs (by omega), wrI_in hs (by omega), tw_row_loop hs]
          have hn0 : ρ n = 0 := Classical.byContradiction fun z => absurd (o1 n z) (by omega)
          have an : ∀ b, ρ b ≠ 0 → b ≠ n := fun b hb z => hb (by rw [z]; exact hn0)
          refine ⟨_, _, _, _, rfl, rfl, (GG_sl (s := s) (ρ' := fun b => if b = n then 16 + s else ρ b) h hs (Nat.le_succ n) (fun b hb => if_neg (an b hb)) (fun b hb => ?_) (fun b b0 b12 b16 => ⟨?_, (hk b (an b b0)).1, (hk b (an b b0)).2⟩) (fun j h6 h7 => ?_) (fun t ht hts => ⟨?_, ?_⟩) (fun t i ht hts hi => ?_) (Or.inr ⟨N, w, n, updR rf 0 (some n), hN6, ?_, hw, ?_, updS_eq, rfl, if_pos rfl, ?_⟩)).g⟩
          · by_cases hb : b = n
            · omega
            · rw [if_neg hb] at *
              have := o1 b (by assumption)
              omega
          · rw [updS_ne (fun z => b12 (by rw [z]; exact h7)), updS_ne (an b b0)]
          · rw [upd2_ne _ h7, upd2_ne _ h6]
          · rw [upd2_ne _ (by omega), upd2_eq, upd_ne hts]
          · rw [upd2_eq, upd_ne hts, upd2_ne _ (by omega)]
          · rw [rowL_eq, if_neg (by omega)]
          · rw [upd2_ne _ (by omega), upd2_eq, upd_eq]
          · rw [upd2_eq, upd_eq]
          · refine Row_g (Row_k hR (updS_ne (fun z => ?_)) rfl rfl) (fun i hi => ?_)
            · have := o1 (q (5 + s)) (by omega)
              omega
            · rw [rowL_eq, if_pos (by omega)]
      · rw [if_neg h60, if_neg h60]
        exact ⟨_, _, _, _, rfl, rfl, h.g⟩
theorem s_width {a b wd N : Nat} {g : Nat → Int64} {rf : Nat → Option (Option Nat)} (k5 : Sh a = some (d_obj 7 1 rf)) (k6 : rf 0 = some (some b)) (h : Row Sh V L b wd N g) : cm_X7_width (Sh, V, L, n) a = some (nI wd) := by
  have z1 : ¬ (1 : Int32) = 0 := by decide
  have n31 : ¬ (3 : Nat) = 1 := by omega
  have n01 : ¬ (0 : Nat) = 1 := by omega
  have n03 : ¬ (0 : Nat) = 3 := by omega
  have n41 : ¬ (4 : Nat) = 1 := by omega
  have n43 : ¬ (4 : Nat) = 3 := by omega
  have n40 : ¬ (4 : Nat) = 0 := by omega
  obtain ⟨t, ty, ht⟩ := Row_ty (n := n) h
  unfold cm_X7_width
  simp only [zSh_T, zV_T, zL_T, zn_T, cR_eq k5 k6, zIs_T ty]
  rcases ht with ⟨rfl, rfl⟩ | ⟨rfl, rfl⟩ | ⟨rfl, rfl⟩ | ⟨rfl, rfl⟩
  · simp only [if_true, z1, if_false]; rfl
  · simp only [n31, if_true, z1, if_false]; rfl
  · simp only [n01, n03, if_true, z1, if_false]; rfl
  · simp only [n41, n43, n40, if_true, z1, if_false]; rfl
theorem s_copy {b1 b2 wd N1 N2 : Nat} {g1 g2 : Nat → Int64} (h1 : Row Sh V L b1 wd N1 g1) (h2 : Row Sh V L b2 wd N2 g2) (hN1 : N1 ≤ 60) (hN2 : N2 ≤ 60) (sp dp k : Int32) : (oobC sp dp k N1 N2 = true → cm_X7_copy (Sh, V, L, n) b1 sp b2 dp k = some (-7, (Sh, V, L, n + 3))) ∧ (oobC sp dp k N1 N2 = false → ∃ V' L', cm_X7_copy (Sh, V, L, n) b1 sp b2 dp k = some (0, (Sh, V', L', n)) ∧ (∀ a, a ≠ b2 → V' a = V a ∧ L' a = L a) ∧ Row Sh V' L' b2 wd N2 (fun i => if dp.toNatClampNeg ≤ i ∧ i < dp.toNatClampNeg + k.toNatClampNeg then g1 (sp.toNatClampNeg + (i - dp.toNatClampNeg)) else g2 i)) := by
  have ff : ¬ (false = true) := by decide
  have ob : oobC sp dp k N1 N2 = false → sp.toNatClampNeg + k.toNatClampNeg ≤ N1 := fun z => by
    have z := of_decide_eq_false z
    exact Nat.le_of_not_lt (fun y => z (Or.inr (Or.inr (Or.inr (Or.inl y)))))
  have ra : ∀ t, (∀ i, i < N1 → okC t (V b1 i) = true) → (List.range N1).all (fun i => okC t (V b1 i)) = true := fun t ht => List.all_eq_true.mpr (fun i hi => ht i (List.mem_range.mp hi))
  have cp : ∀ (P : Int32 → Int64 → Prop) (e1 : ∀ i, i < N1 → P (V b1 i) (g1 i)) (e2 : ∀ i, i < N2 → P (V b2 i) (g2 i)), oobC sp dp k N1 N2 = false → ∀ i, i < N2 → P (rowV V b2 (va_cpy (V b1) (V b2) sp.toNatClampNeg dp.toNatClampNeg k.toNatClampNeg) b2 i) (if dp.toNatClampNeg ≤ i ∧ i < dp.toNatClampNeg + k.toNatClampNeg then g1 (sp.toNatClampNeg + (i - dp.toNatClampNeg)) else g2 i) := by
    intro P e1 e2 ho i hi
    have := ob ho
    rw [rowV_eq]
    unfold va_cpy
    by_cases hc : dp.toNatClampNeg ≤ i ∧ i < dp.toNatClampNeg + k.toNatClampNeg
    · rw [if_pos hc, if_pos hc]; exact e1 _ (by omega)
    · rw [if_neg hc, if_neg hc]; exact e2 i hi
  rcases h1 with ⟨h0, e1, f1⟩ | ⟨h0, e1, f1⟩ | ⟨h0, e1, f1⟩ | ⟨h0, e1, f1⟩
  · subst h0
    obtain ⟨e2, f2⟩ : Sh b2 = some (d_int 1 N2) ∧ ∀ i, i < N2 → (V b2 i).toInt64 = g2 i ∧ (V b2 i).toInt8.toInt32 = V b2 i := by
      rcases h2 with ⟨h0, e, f⟩ | ⟨h0, e, f⟩ | ⟨h0, e, f⟩ | ⟨h0, e, f⟩
      · exact ⟨e, f⟩
      · omega
      · omega
      · omega
    have ok := ra 1 (fun i hi => decide_eq_true (Or.inr (Or.inl ⟨rfl, (f1 i hi).2⟩)))
    refine ⟨fun ho => ?_, fun ho => ⟨rowV V b2 (va_cpy (V b1) (V b2) sp.toNatClampNeg dp.toNatClampNeg k.toNatClampNeg), L, ?_, fun a ha => ⟨rowV_ne ha, rfl⟩, Or.inl ⟨rfl, e2, cp (fun x y => x.toInt64 = y ∧ x.toInt8.toInt32 = x) f1 f2 ho⟩⟩⟩
    · unfold cm_X7_copy
      simp only [zSh_T, zV_T, zL_T, zn_T, e1, e2, d_int, ok, hN1, hN2, ho, if_true, true_and, and_true, or_true, true_or, zGrow]
    · unfold cm_X7_copy
      simp only [zSh_T, zV_T, zL_T, zn_T, e1, e2, d_int, ok, hN1, hN2, ho, Bool.false_eq_true, if_true, if_false, true_and, and_true, or_true, true_or]
  · subst h0
    obtain ⟨e2, f2⟩ : Sh b2 = some (d_int 3 N2) ∧ ∀ i, i < N2 → (V b2 i).toInt64 = g2 i ∧ (V b2 i).toInt16.toInt32 = V b2 i := by
      rcases h2 with ⟨h0, e, f⟩ | ⟨h0, e, f⟩ | ⟨h0, e, f⟩ | ⟨h0, e, f⟩
      · omega
      · exact ⟨e, f⟩
      · omega
      · omega
    have ok := ra 3 (fun i hi => decide_eq_true (Or.inr (Or.inr ⟨rfl, (f1 i hi).2⟩)))
    refine ⟨fun ho => ?_, fun ho => ⟨rowV V b2 (va_cpy (V b1) (V b2) sp.toNatClampNeg dp.toNatClampNeg k.toNatClampNeg), L, ?_, fun a ha => ⟨rowV_ne ha, rfl⟩, Or.inr (Or.inl ⟨rfl, e2, cp (fun x y => x.toInt64 = y ∧ x.toInt16.toInt32 = x) f1 f2 ho⟩)⟩⟩
    · unfold cm_X7_copy
      simp only [zSh_T, zV_T, zL_T, zn_T, e1, e2, d_int, ok, hN1, hN2, ho, if_true, true_and, and_true, or_true, true_or, zGrow]
    · unfold cm_X7_copy
      simp only [zSh_T, zV_T, zL_T, zn_T, e1, e2, d_int, ok, hN1, hN2, ho, Bool.false_eq_true, if_true, if_false, true_and, and_true, or_true, true_or]
  · subst h0
    obtain ⟨e2, f2⟩ : Sh b2 = some (d_int 0 N2) ∧ ∀ i, i < N2 → (V b2 i).toInt64 = g2 i := by
      rcases h2 with ⟨h0, e, f⟩ | ⟨h0, e, f⟩ | ⟨h0, e, f⟩ | ⟨h0, e, f⟩
      · omega
      · omega
      · exact ⟨e, f⟩
      · omega
    have ok := ra 0 (fun i hi => decide_eq_true (Or.inl rfl))
    refine ⟨fun ho => ?_, fun ho => ⟨rowV V b2 (va_cpy (V b1) (V b2) sp.toNatClampNeg dp.toNatClampNeg k.toNatClampNeg), L, ?_, fun a ha => ⟨rowV_ne ha, rfl⟩, Or.inr (Or.inr (Or.inl ⟨rfl, e2, cp (fun x y => x.toInt64 = y) f1 f2 ho⟩))⟩⟩
    · unfold cm_X7_copy
      simp only [zSh_T, zV_T, zL_T, zn_T, e1, e2, d_int, ok, hN1, hN2, ho, if_true, true_and, and_true, or_true, true_or, zGrow]
    · unfold cm_X7_copy
      simp only [zSh_T, zV_T, zL_T, zn_T, e1, e2, d_int, ok, hN1, hN2, ho, Bool.false_eq_true, if_true, if_false, true_and, and_true, or_true, true_or]
  · subst h0
    obtain ⟨e2, f2⟩ : Sh b2 = some (d_lng 4 N2) ∧ ∀ i, i < N2 → L b2 i = g2 i := by
      rcases h2 with ⟨h0, e, f⟩ | ⟨h0, e, f⟩ | ⟨h0, e, f⟩ | ⟨h0, e, f⟩
      · omega
      · omega
      · omega
      · exact ⟨e, f⟩
    refine ⟨fun ho => ?_, fun ho => ⟨V, rowL L b2 (cpyL (L b1) (L b2) sp.toNatClampNeg dp.toNatClampNeg k.toNatClampNeg), ?_, fun a ha => ⟨rfl, rowL_ne ha⟩, Or.inr (Or.inr (Or.inr ⟨rfl, e2, fun i hi => ?_⟩))⟩⟩
    · unfold cm_X7_copy
      simp only [zSh_T, zV_T, zL_T, zn_T, e1, e2, d_lng, hN1, hN2, ho, if_true, true_and, and_true, or_true, true_or, zGrow]
    · unfold cm_X7_copy
      simp only [zSh_T, zV_T, zL_T, zn_T, e1, e2, d_lng, hN1, hN2, ho, Bool.false_eq_true, if_true, if_false, true_and, and_true, or_true, true_or]
    · have := ob ho
      rw [rowL_eq]
      unfold cpyL
      dsimp only
      by_cases hc : dp.toNatClampNeg ≤ i ∧ i < dp.toNatClampNeg + k.toNatClampNeg
      · rw [if_pos hc, if_pos hc]; exact f1 _ (by omega)
      · rw [if_neg hc, if_neg hc]; exact f2 i hi
theorem q_paste (h : GG (Sh, V, L, n) x ρ m u mt q V2 L2) (a sp b dp c : Int32) : AnL (cm_X0_paste (Sh, V, L, n) x a sp b dp c) (tw_paste V2 L2 a sp b dp c) x V2 := by
  have hM : GM Sh x (m 0) (mt 0) q := h.gm
  have z1 : ¬ (1 : Int32) = 0 := by decide
  unfold cm_X0_paste tw_paste cm_X0_isSlot tw_isSlot
  simp only [cm_in_tw]
  rcases in_N (a := a) (hi := 3) (N := 4) (by omega) (by decide) with h1 | ⟨s, hs, rfl, h1⟩
  · rw [h1]; exact ⟨_, _, _, rfl, rfl, h.g⟩
  · rw [h1]
    rcases in_N (a := b) (hi := 3) (N := 4) (by omega) (by decide) with h2 | ⟨t, ht, rfl, h2⟩
    · rw [h2]; exact ⟨_, _, _, rfl, rfl, h.g⟩
    · rw [h2]
      obtain ⟨⟨el, e1, e2⟩, e3⟩ := h.2.2.2.2.1
      simp only [zSh_T, zV_T, zL_T, zn_T] at e1 e3
      have c1 : ∀ (α : Type) (k : Option Nat → Option α), caR Sh 7 (q 1) (nI s) k = k (some (q (5 + s))) := fun α k => by rw [caR_eq e1 hs (by omega), e2 s hs]
      have c2 : ∀ (α : Type) (k : Option Nat → Option α), caR Sh 7 (q 1) (nI t) k = k (some (q (5 + t))) := fun α k => by rw [caR_eq e1 ht (by omega), e2 t ht]
      have gs : G (Sh, V, L, n + 3) x V2 L2 := (GG_scr h (by omega) (fun _ _ => rfl) (fun _ _ _ _ _ => rfl) (fun _ _ => rfl) TwK_rf (fun _ _ => rfl)).g
      have r1 : ∀ (α : Type) (i : Nat) (k : Int32 → Option α), rdI (V2 i) 4 (nI s) k = k (V2 i s) := fun α i k => rdI_in hs (by omega)
      have r2 : ∀ (α : Type) (i : Nat) (k : Int32 → Option α), rdI (V2 i) 4 (nI t) k = k (V2 i t) := fun α i k => rdI_in ht (by omega)
      simp only [bnd_S, okI_1, z1, if_false]
      simp only [zSh_T, zV_T, zL_T, zn_T]
      rw [x_sl hM, c1, nn_eq, c2, nn_eq]
      simp only [r1, r2]
      unfold cm_X7_pastes
      rcases e3 s hs with ⟨k1, rf, k2, k3⟩ | ⟨N, wd, b1, rf, k1, k2, k3, k4, k5, k6, k7, k8⟩
      · have kt : ∃ rf, Sh (q (5 + t)) = some (d_obj 7 1 rf) := by
          rcases e3 t ht with ⟨-, rf, k2, -⟩ | ⟨-, -, -, rf, -, -, -, -, k5, -⟩
          · exact ⟨rf, k2⟩
          · exact ⟨rf, k5⟩
        obtain ⟨rf', kt⟩ := kt
        rw [zK_T k2, zK_T kt, k1, if_pos rfl]
        simp only [zSh_T, zV_T, zL_T, zn_T, cR_eq k2 k3, zNl, bnd_S, un2_S]
        exact ⟨_, _, _, rfl, rfl, h.g⟩
      · have nb : ¬ nI N = -1 := by rw [N_m1 (by omega)]; exact id
        rw [zK_T k5, k2, if_neg nb]
        rcases e3 t ht with ⟨j1, rf', j2, j3⟩ | ⟨N', wd', b2, rf', j1, j2, j3, j4, j5, j6, j7, j8⟩
        · rw [zK_T j2, j1, if_pos rfl]
          simp only [zSh_T, zV_T, zL_T, zn_T, cR_eq k5 k6, cR_eq j2 j3, zNl, bnd_S, un2_S]
          exact ⟨_, _, _, rfl, rfl, h.g⟩
        · have nb' : ¬ nI N' = -1 := by rw [N_m1 (by omega)]; exact id
          rw [zK_T j5, j2, if_neg nb', k4, j4]
          simp only [zSh_T, zV_T, zL_T, zn_T, cR_eq k5 k6, cR_eq j5 j6, zNl, bnd_S, un2_S, s_width (n := n) k5 k6 k8, s_width (n := n) j5 j6 j8]
          by_cases hw : nI wd = nI wd'
          · rw [if_pos hw, if_pos hw]
            have hw : wd = wd' := by rw [N_eq (by omega) (by omega)] at hw; exact hw
            subst hw
            obtain ⟨p1, p2⟩ := s_copy (n := n) k8 j8 k1 j1 sp dp c
            by_cases ho : oobC sp dp c N N' = true
            · rw [p1 ho]
              have hf : ∃ r, r = (-7 : Int32) ∧ (if sp < 0 then some (-7, L2) else if dp < 0 then some (-7, L2) else if c < 0 then some (-7, L2) else if 0 < lg_cmp (sp.toInt64 + c.toInt64) (nI N).toInt64 then some (-7, L2) else if lg_cmp (dp.toInt64 + c.toInt64) (nI N').toInt64 ≤ 0 then bnd (tw_paste_L113 (nI s) sp (nI t) dp c V2 1000 0 L2) (fun L_46 => bnd (tw_paste_L150 (nI t) dp c V2 1000 0 L_46) (fun L_58 => some (0, L_58))) else some (-7, L2)) = some (r, L2) := by
                refine ⟨_, rfl, ?_⟩
                by_cases a1 : sp < 0
                · rw [if_pos a1]
                · rw [if_neg a1]
                  by_cases a2 : dp < 0
                  · rw [if_pos a2]
                  · rw [if_neg a2]
                    by_cases a3 : c < 0
                    · rw [if_pos a3]
                    · rw [if_neg a3]
                      obtain ⟨p, hp, rfl⟩ := nn_nI a1
                      obtain ⟨d, hd, rfl⟩ := nn_nI a2
                      obtain ⟨k, hk, rfl⟩ := nn_nI a3
                      have ho := of_decide_eq_true ho
                      rw [nI_clamp hp, nI_clamp hd, nI_clamp hk] at ho
                      have w4 : (0 < lg_cmp ((nI p).toInt64 + (nI k).toInt64) (nI N).toInt64) = (N < p + k) := by rw [lg_cmp_pos, sumL hp hk (by omega)]
                      by_cases a4 : N < p + k
                      · rw [if_pos (w4.symm ▸ a4)]
                      · rw [if_neg (w4.symm ▸ a4), if_neg]
                        intro z
                        have z := (lg_cmp_le _ _).mp z
                        have : N' < d + k := by
                          rcases ho with z | z | z | z | z
                          · exact absurd z a1
                          · exact absurd z a2
                          · exact absurd z a3
                          · exact absurd z a4
                          · exact z
                        rw [← sumL hd hk (show N' < 2 ^ 31 by omega)] at this
                        exact absurd (Int64.lt_of_lt_of_le this z) Int64.lt_irrefl
              obtain ⟨r, hr, hf⟩ := hf
              rw [hf]
              subst hr
              exact ⟨_, _, _, rfl, rfl, gs⟩
            · have ho : oobC sp dp c N N' = false := by rw [← Bool.not_eq_true]; exact ho
              obtain ⟨V', L', e, hk, hR⟩ := p2 ho
              have ho := of_decide_eq_false ho
              have a1 : ¬ sp < 0 := fun z => ho (Or.inl z)
              have a2 : ¬ dp < 0 := fun z => ho (Or.inr (Or.inl z))
              have a3 : ¬ c < 0 := fun z => ho (Or.inr (Or.inr (Or.inl z)))
              obtain ⟨p, hp, rfl⟩ := nn_nI a1
              obtain ⟨d, hd, rfl⟩ := nn_nI a2
              obtain ⟨k, hk', rfl⟩ := nn_nI a3
              rw [nI_clamp hp, nI_clamp hd, nI_clamp hk'] at ho
              have a4 : ¬ N < p + k := fun z => ho (Or.inr (Or.inr (Or.inr (Or.inl z))))
              have a5 : ¬ N' < d + k := fun z => ho (Or.inr (Or.inr (Or.inr (Or.inr z))))
              rw [nI_clamp hp, nI_clamp hd, nI_clamp hk'] at hR
              have a6 : (nI d).toInt64 + (nI k).toInt64 ≤ (nI N').toInt64 := by
                apply Int64.not_lt.mp
                rw [sumL hd hk' (by omega)]
                exact a5
              have w4 : (0 < lg_cmp ((nI p).toInt64 + (nI k).toInt64) (nI N).toInt64) = (N < p + k) := by rw [lg_cmp_pos, sumL hp hk' (by omega)]
              rw [e, if_neg a1, if_neg a2, if_neg a3, if_neg (w4.symm ▸ a4), if_pos ((lg_cmp_le _ _).mpr a6), tw_paste_out hs (by omega), bnd_S, bnd_S, tw_paste_in ht (by omega)]
              refine ⟨_, _, _, rfl, rfl, (GG_sl (s := t) (ρ' := ρ) (V2' := V2) h ht (Nat.le_refl n) (fun _ _ => rfl) (fun a ha => h.2.2.2.2.2.2.1 a ha) (fun a a0 a12 a16 => ⟨rfl, (hk a (fun z => a16 (by rw [z]; exact j7))).1, (hk a (fun z => a16 (by rw [z]; exact j7))).2⟩) (fun _ _ _ => rfl) (fun _ _ _ => ⟨rfl, rfl⟩) (fun r i hr hrt hi => ?_) (Or.inr ⟨N', wd, b2, rf', j1, j2, j3, j4, j5, j6, j7, Row_g hR (fun i hi => ?_)⟩)).g⟩
              · rw [rowL_eq, if_neg (by omega), rowL_ne (by omega)]
              · show rowL _ 38 _ 38 (60 * t + i) = _
                rw [rowL_eq]
                by_cases hc : d ≤ i ∧ i < d + k
                · rw [if_pos (by omega), if_pos hc, rowL_eq, if_pos (by omega)]
                  show L2 38 (60 * s + p + (60 * t + i - (60 * t + d))) = L2 38 (60 * s + (p + (i - d)))
                  congr 1
                  omega
                · rw [if_neg (by omega), if_neg hc, rowL_ne (by omega)]
          · rw [if_neg hw, if_neg hw]
            exact ⟨_, _, _, rfl, rfl, h.g⟩
end SQ
