/-! PURE: a text is read: a rule in the making -/
set_option maxRecDepth 100000
/-- a rule with so many conditions so far; the row counts kc of them -/
def Rm (gp : Nat → Nat) (N0 : Nat) (Sh : g_Sh) (V : g_V) (n : Nat) (V2 : g_V) (r tp ms bg sz td : Nat) (κ u : Nat → Nat) (np nh nr lc lt ρ0 ρ1 : Nat) (gc : Nat → Nat) (nc kc' : Nat) : Prop := Ps gp N0 Sh V n (shd V2 nr) r tp ms bg sz td κ u np nh nr lc lt ∧ κ ρ0 = 9 ∧ κ ρ1 = 9 ∧ (∃ rf, Sh ρ0 = some (d_obj 10 2 rf) ∧ rf 0 = some (some ρ1) ∧ rf 1 = none) ∧ nc ≤ 3 ∧ V2 15 (750 + 10 * nr) = nI kc' ∧ V ρ0 1 = nI nc ∧ (∃ el, Sh ρ1 = some (d_ref 10 3 el) ∧ ∀ c, c < nc → el c = some (gc c)) ∧ ∀ c, c < nc → κ (gc c) = 9 ∧ RC Sh V (gc c) (fun i => V2 15 (750 + 10 * nr + 1 + 3 * c + i))
section RE
variable {Sh Sh' : g_Sh} {V V' : g_V} {L : g_L} {n n' N0 r tp ms bg sz td np nh nr lc lt ρ0 ρ1 nc : Nat} {V2 V2' : g_V} {κ κ' u gc : Nat → Nat} {gp : Nat → Nat}
theorem RC_k {a : Nat} {x x' : Nat → Int32} (h : RC Sh V a x) (hs : Sh' a = Sh a) (hv : V' a = V a) (hx : ∀ i, i < 3 → x' i = x i) : RC Sh' V' a x' := by
  unfold RC at h ⊢
  rw [hs, hv, hx 0 (by omega), hx 1 (by omega), hx 2 (by omega)]
  exact h
theorem RC_al {a : Nat} {x : Nat → Int32} (h : RC Sh V a x) : zAl [11, 12] (Sh, V', L, n) a = true := by
  unfold zAl
  rcases h with ⟨-, rf, h1⟩ | ⟨k, -, -, ⟨rf, h1, -⟩, -⟩
  · simp only [zSh_T, h1, d_obj]; decide
  · simp only [zSh_T, h1, d_obj]; decide
theorem RC_ne1 {a b : Nat} {x : Nat → Int32} {el : Nat → Option Nat} (h : RC Sh V a x) (hb : Sh b = some (d_ref 10 3 el)) : a ≠ b := by
  intro e
  rw [← e] at hb
  rcases h with ⟨-, rf, h1⟩ | ⟨k, -, -, ⟨rf, h1, -⟩, -⟩
  · rw [hb] at h1; cases h1
  · rw [hb] at h1; cases h1
theorem RC_ne0 {a b : Nat} {x : Nat → Int32} {rf' : Nat → Option (Option Nat)} (h : RC Sh V a x) (hb : Sh b = some (d_obj 10 2 rf')) : a ≠ b := by
  intro e
  rw [← e] at hb
  rcases h with ⟨-, rf, h1⟩ | ⟨k, -, -, ⟨rf, h1, -⟩, -⟩
  · rw [hb] at h1
    injection h1 with h1; injection h1 with h1; injection h1 with h1; injection h1 with h1; injection h1 with h1
    omega
  · rw [hb] at h1
    injection h1 with h1; injection h1 with h1; injection h1 with h1; injection h1 with h1; injection h1 with h1
    omega
/-- cells of no group of what is told changed, or were made -/
theorem Ps_free (h : Ps gp N0 Sh V n V2 r tp ms bg sz td κ u np nh nr lc lt) (hz : ∀ a, 1 ≤ κ a → κ a ≤ 8 → Sh' a = Sh a ∧ V' a = V a ∧ κ' a = κ a) (hN : ∀ a, a < N0 → Sh' a = Sh a ∧ V' a = V a) (hn : n ≤ n') (hk : ∀ a, κ' a ≠ 0 → κ a ≠ 0 ∨ (n ≤ a ∧ a < n')) : Ps gp N0 Sh' V' n' V2 r tp ms bg sz td κ' u np nh nr lc lt := by
  obtain ⟨n1, n2, n3, n4, n5, n6, n7, n8⟩ := Td_keep (Sh' := Sh') (V' := V') (κ' := κ') (u' := u) (V2' := V2) 9 h.2.2.1 (fun a a1 a7 _ => hz a a1 (by omega)) (fun _ _ => rfl) (fun _ _ => rfl) (fun _ => rfl) (fun _ => rfl)
  have k0 := h.2.2.1.1.2.1
  exact Ps_set h ⟨n1 (by omega), n2 (by omega), n3 (by omega), n4 (by omega), n5 (by omega), n6 (by omega), n7 (by omega), n8⟩ (fun a ha => hz a (by omega) (by omega)) hN rfl (fun _ _ => rfl) (by rw [(hz (u 0) (by omega) (by omega)).2.1]) rfl rfl hn hk
theorem Rm_tok {kc' : Nat} (h : Rm gp N0 Sh V n V2 r tp ms bg sz td κ u np nh nr lc lt ρ0 ρ1 gc nc kc') (hs : Tst r V V' V2 V2') (hR : RW Sh V' r tp ms bg V2' sz) : Rm gp N0 Sh V' n V2' r tp ms bg sz td κ u np nh nr lc lt ρ0 ρ1 gc nc kc' := by
  obtain ⟨h1, h2, h3, h4, h5, h6, h7, h8, h9⟩ := h
  have kr : κ r = 8 := h1.2.2.2.2.2.1.1
  have e15 : V2' 15 = V2 15 := hs.2.2.1 15 (by omega)
  have ne : ∀ a, κ a = 9 → V' a = V a := fun a ha => hs.1 a (fun e => by rw [e, kr] at ha; omega)
  refine ⟨Ps_tok h1 (shd_st hs) (shd_rw hR), h2, h3, h4, h5, by rw [e15]; exact h6, by rw [ne _ h2]; exact h7, h8, fun c hc => ⟨(h9 c hc).1, ?_⟩⟩
  rw [e15]
  exact RC_k (h9 c hc).2 rfl (ne _ (h9 c hc).1) (fun _ _ => rfl)
theorem rule_end {y : Nat} (h : Rm gp N0 Sh V n V2 r tp ms bg sz td κ u np nh nr lc lt ρ0 ρ1 gc nc (nc + 1)) (hnc : nc < 3) (hy : κ y = 9) (hyc : RC Sh V y (fun i => V2 15 (750 + 10 * nr + 1 + 3 * nc + i))) (h01 : ρ0 ≠ ρ1) (hg : gpI gp) : ∃ Sh' V' V2' b, (∀ rec, cm_X3_rule_J100 gp rec r td ρ0 ρ1 (nI nc) (some y) (Sh, V, L, n) = rec (b2i b) (Sh', V', L, n)) ∧ tw_takes 22 V2 = some (b2i b, V2') ∧ Rm gp N0 Sh' V' n V2' r tp ms bg sz td κ u np nh nr lc lt ρ0 ρ1 (fun c => if c = nc then y else gc c) (nc + 1) (nc + 1) ∧ (∀ a, a < N0 → Sh' a = Sh a ∧ V' a = V a) ∧ TF V2 V2' := by
  obtain ⟨h1, h2, h3, ⟨rf, r1, r2, r3⟩, h5, h6, h7, ⟨el, e1, e2⟩, h9⟩ := h
  have kk := h1.2.2.2.2.2.1.2.2.2.2.2
  have kr : κ r = 8 := h1.2.2.2.2.2.1.1
  have n0 := kk ρ0 (by omega)
  have n1 := kk ρ1 (by omega)
  obtain ⟨Sh1, eS1⟩ : ∃ Sh1, Sh1 = updS Sh ρ1 (d_ref 10 3 (va_up el nc (some y))) := ⟨_, rfl⟩
  obtain ⟨V1, eV1⟩ : ∃ V1, V1 = upd2 V ρ0 1 (nI (nc + 1)) := ⟨_, rfl⟩
  have S1 : ∀ a, a ≠ ρ1 → Sh1 a = Sh a := fun a ha => by rw [eS1, updS_ne ha]
  have W1 : ∀ a, a ≠ ρ0 → V1 a = V a := fun a ha => by rw [eV1, upd2_ne _ ha]
  have P1 : Ps gp N0 Sh1 V1 n (shd V2 nr) r tp ms bg sz td κ u np nh nr lc lt := Ps_free h1 (fun a a1 a8 => ⟨S1 a (fun e => by rw [e] at a8; omega), W1 a (fun e => by rw [e] at a8; omega), rfl⟩) (fun a ha => ⟨S1 a (by omega), W1 a (by omega)⟩) (Nat.le_refl n) (fun a ha => Or.inl ha)
  have R1 : RW Sh1 V1 r tp ms bg V2 sz := shd_wr P1.1
  obtain ⟨b, V3, V3', t1, t2, t3, t4⟩ := t_takes (L := L) (n := n) (gp := gp) (w := 22) R1 hg (by omega)
  have cond : ∀ c, c < nc → (gc c ≠ ρ1 ∧ gc c ≠ ρ0) := fun c hc => ⟨RC_ne1 (h9 c hc).2 e1, RC_ne0 (h9 c hc).2 r1⟩
  have condy : y ≠ ρ1 ∧ y ≠ ρ0 := ⟨RC_ne1 hyc e1, RC_ne0 hyc r1⟩
  have M1 : Rm gp N0 Sh1 V1 n V2 r tp ms bg sz td κ u np nh nr lc lt ρ0 ρ1 (fun c => if c = nc then y else gc c) (nc + 1) (nc + 1) := by
    refine ⟨P1, h2, h3, ⟨rf, by rw [S1 _ h01]; exact r1, r2, r3⟩, by omega, h6, ?_, ⟨va_up el nc (some y), by rw [eS1, updS_eq], fun c hc => ?_⟩, fun c hc => ?_⟩
    · rw [eV1, upd2_eq, upd_eq]
    · unfold va_up
      dsimp only
      by_cases e : c = nc
      · rw [if_pos e, if_pos e]
      · rw [if_neg e, if_neg e]; exact e2 c (by omega)
    · dsimp only
      by_cases e : c = nc
      · rw [if_pos e, e]
        exact ⟨hy, RC_k hyc (S1 _ condy.1) (W1 _ condy.2) (fun _ _ => rfl)⟩
      · rw [if_neg e]
        have hc' : c < nc := by omega
        exact ⟨(h9 c hc').1, RC_k (h9 c hc').2 (S1 _ (cond c hc').1) (W1 _ (cond c hc').2) (fun _ _ => rfl)⟩
  have M2 := Rm_tok M1 t3 t4
  refine ⟨Sh1, V3, V3', b, fun rec => ?_, t2, M2, fun a ha => ⟨S1 a (by omega), ?_⟩, TF_st t3⟩
  · have r1' : Sh1 ρ0 = some (d_obj 10 2 rf) := by rw [S1 _ h01]; exact r1
    unfold cm_X3_rule_J100
    rw [zsR_some e1 (by omega) (by omega) (RC_al hyc), ← eS1]
    simp only [zSh_T, zV_T, zL_T, zn_T]
    rw [cI_eq r1' r3, zPI_T r1' r3, h7, L_addR, ← eV1, r_K R1.1, t1, bnd_S, un2_S]
  · have := kk r (by omega)
    rw [t3.1 a (by omega), W1 a (by omega)]
end RE
