/-! PURE: a text is read: a new reader; both start -/
set_option maxRecDepth 100000
section RN
variable {S : g_Sh} {W : g_V} {L : g_L} {r b k len j v : Nat} {el : Nat → Option Nat} {gp : Nat → Nat} {ρ : Type}
theorem zsS_c {c : Int32} (h : S b = some (d_ref 6 len el)) (hc : c = nI j) (hj : j < len) (hl : len < 2 ^ 31) (K : c_S → Option ρ) : zsS (S, W, L, k) 6 b c v K = K (updS S b (d_ref 6 len (va_up el j (some v))), W, L, k) := by
  subst hc
  unfold zsS csR
  simp only [zSh_T, zV_T, zL_T, zn_T, h, d_ref, if_true]
  rw [if_neg (nI_in hj hl), nI_clamp (by omega)]
theorem va_up_e {i : Nat} {o : Option Nat} (h : i = j) : va_up el j o i = o := by unfold va_up; rw [if_pos h]
theorem va_up_n {i : Nat} {o : Option Nat} (h : i ≠ j) : va_up el j o i = el i := by unfold va_up; rw [if_neg h]
theorem su_s4 (h : S b = some (d_ref 6 4 el)) : ∃ S' em, (∀ K : c_S → Option ρ, zsS (S, W, L, k) 6 b 0 (gp 0) (fun Z_3 => zsS Z_3 6 b 1 (gp 1) fun Z_4 => zsS Z_4 6 b 2 (gp 2) fun Z_5 => zsS Z_5 6 b 3 (gp 3) K) = K (S', W, L, k)) ∧ S' b = some (d_ref 6 4 em) ∧ (∀ i, i < 4 → em i = some (gp i)) ∧ ∀ a, a ≠ b → S' a = S a := by
  refine ⟨updS (updS (updS (updS S b (d_ref 6 4 (va_up el 0 (some (gp 0))))) b (d_ref 6 4 (va_up (va_up el 0 (some (gp 0))) 1 (some (gp 1))))) b (d_ref 6 4 (va_up (va_up (va_up el 0 (some (gp 0))) 1 (some (gp 1))) 2 (some (gp 2))))) b (d_ref 6 4 (va_up (va_up (va_up (va_up el 0 (some (gp 0))) 1 (some (gp 1))) 2 (some (gp 2))) 3 (some (gp 3)))), va_up (va_up (va_up (va_up el 0 (some (gp 0))) 1 (some (gp 1))) 2 (some (gp 2))) 3 (some (gp 3)), fun K => ?_, updS_eq, ?_, fun a ha => ?_⟩
  · rw [zsS_c (c := 0) (j := 0) h rfl (by omega) (by omega), zsS_c (c := 1) (j := 1) updS_eq rfl (by omega) (by omega), zsS_c (c := 2) (j := 2) updS_eq rfl (by omega) (by omega), zsS_c (c := 3) (j := 3) updS_eq rfl (by omega) (by omega)]
  · intro i hi
    have : i = 0 ∨ i = 1 ∨ i = 2 ∨ i = 3 := by omega
    rcases this with rfl | rfl | rfl | rfl <;> simp (disch := omega) only [va_up_e, va_up_n]
  · rw [updS_ne ha, updS_ne ha, updS_ne ha, updS_ne ha]
theorem su_s9 (h : S b = some (d_ref 6 9 el)) : ∃ S' em, (∀ K : c_S → Option ρ, zsS (S, W, L, k) 6 b 0 (gp 4) (fun Z_10 => zsS Z_10 6 b 1 (gp 5) fun Z_11 => zsS Z_11 6 b 2 (gp 6) fun Z_12 => zsS Z_12 6 b 3 (gp 7) fun Z_13 => zsS Z_13 6 b 4 (gp 8) fun Z_14 => zsS Z_14 6 b 5 (gp 9) fun Z_15 => zsS Z_15 6 b 6 (gp 10) fun Z_16 => zsS Z_16 6 b 7 (gp 11) fun Z_17 => zsS Z_17 6 b 8 (gp 12) K) = K (S', W, L, k)) ∧ S' b = some (d_ref 6 9 em) ∧ (∀ i, i < 9 → em i = some (gp (4 + i))) ∧ ∀ a, a ≠ b → S' a = S a := by
  refine ⟨updS (updS (updS (updS (updS (updS (updS (updS (updS S b (d_ref 6 9 (va_up el 0 (some (gp 4))))) b (d_ref 6 9 (va_up (va_up el 0 (some (gp 4))) 1 (some (gp 5))))) b (d_ref 6 9 (va_up (va_up (va_up el 0 (some (gp 4))) 1 (some (gp 5))) 2 (some (gp 6))))) b (d_ref 6 9 (va_up (va_up (va_up (va_up el 0 (some (gp 4))) 1 (some (gp 5))) 2 (some (gp 6))) 3 (some (gp 7))))) b (d_ref 6 9 (va_up (va_up (va_up (va_up (va_up el 0 (some (gp 4))) 1 (some (gp 5))) 2 (some (gp 6))) 3 (some (gp 7))) 4 (some (gp 8))))) b (d_ref 6 9 (va_up (va_up (va_up (va_up (va_up (va_up el 0 (some (gp 4))) 1 (some (gp 5))) 2 (some (gp 6))) 3 (some (gp 7))) 4 (some (gp 8))) 5 (some (gp 9))))) b (d_ref 6 9 (va_up (va_up (va_up (va_up (va_up (va_up (va_up el 0 (some (gp 4))) 1 (some (gp 5))) 2 (some (gp 6))) 3 (some (gp 7))) 4 (some (gp 8))) 5 (some (gp 9))) 6 (some (gp 10))))) b (d_ref 6 9 (va_up (va_up (va_up (va_up (va_up (va_up (va_up (va_up el 0 (some (gp 4))) 1 (some (gp 5))) 2 (some (gp 6))) 3 (some (gp 7))) 4 (some (gp 8))) 5 (some (gp 9))) 6 (some (gp 10))) 7 (some (gp 11))))) b (d_ref 6 9 (va_up (va_up (va_up (va_up (va_up (va_up (va_up (va_up (va_up el 0 (some (gp 4))) 1 (some (gp 5))) 2 (some (gp 6))) 3 (some (gp 7))) 4 (some (gp 8))) 5 (some (gp 9))) 6 (some (gp 10))) 7 (some (gp 11))) 8 (some (gp 12)))), va_up (va_up (va_up (va_up (va_up (va_up (va_up (va_up (va_up el 0 (some (gp 4))) 1 (some (gp 5))) 2 (some (gp 6))) 3 (some (gp 7))) 4 (some (gp 8))) 5 (some (gp 9))) 6 (some (gp 10))) 7 (some (gp 11))) 8 (some (gp 12)), fun K => ?_, updS_eq, ?_, fun a ha => ?_⟩
  · rw [zsS_c (c := 0) (j := 0) h rfl (by omega) (by omega), zsS_c (c := 1) (j := 1) updS_eq rfl (by omega) (by omega), zsS_c (c := 2) (j := 2) updS_eq rfl (by omega) (by omega), zsS_c (c := 3) (j := 3) updS_eq rfl (by omega) (by omega), zsS_c (c := 4) (j := 4) updS_eq rfl (by omega) (by omega), zsS_c (c := 5) (j := 5) updS_eq rfl (by omega) (by omega), zsS_c (c := 6) (j := 6) updS_eq rfl (by omega) (by omega), zsS_c (c := 7) (j := 7) updS_eq rfl (by omega) (by omega), zsS_c (c := 8) (j := 8) updS_eq rfl (by omega) (by omega)]
  · intro i hi
    have : i = 0 ∨ i = 1 ∨ i = 2 ∨ i = 3 ∨ i = 4 ∨ i = 5 ∨ i = 6 ∨ i = 7 ∨ i = 8 := by omega
    rcases this with rfl | rfl | rfl | rfl | rfl | rfl | rfl | rfl | rfl <;> simp (disch := omega) only [va_up_e, va_up_n, Nat.reduceAdd]
  · simp only [updS_ne ha]
theorem cm_reader_new {tp : Nat} {x : Int32} (h : S r = some (d_obj 3 11 (zrf tyX3))) (hv : W r = fun _ => 0) (hk : r < k) : ∃ S', cm_X3_init gp (S, W, L, k) r tp x = some (S', upd2 W r 3 x, L, k + 2) ∧ RdO S' r tp k (k + 1) ∧ (∃ em, S' k = some (d_ref 6 4 em) ∧ ∀ i, i < 4 → em i = some (gp i)) ∧ (∃ eb, S' (k + 1) = some (d_ref 6 9 eb) ∧ ∀ i, i < 9 → eb i = some (gp (4 + i))) ∧ ∀ a, a ≠ r → a < k → S' a = S a := by
  have z0 : zrf tyX3 0 = some none := by decide
  have z1 : zrf tyX3 1 = some none := by decide
  have z2 : zrf tyX3 2 = some none := by decide
  have zn : ∀ i, 3 ≤ i → i ≤ 10 → zrf tyX3 i = none := fun i h3 h10 => by
    have : i = 3 ∨ i = 4 ∨ i = 5 ∨ i = 6 ∨ i = 7 ∨ i = 8 ∨ i = 9 ∨ i = 10 := by omega
    rcases this with rfl | rfl | rfl | rfl | rfl | rfl | rfl | rfl <;> decide
  have c4 : (4 : Int32).toNatClampNeg = 4 := by decide
  have c9 : (9 : Int32).toNatClampNeg = 9 := by decide
  obtain ⟨Sa, hSa⟩ : ∃ Sa, Sa = updS S k (d_ref 6 4 (fun _ => none)) := ⟨_, rfl⟩
  have ha : Sa k = some (d_ref 6 4 (fun _ => none)) := by rw [hSa, updS_eq]
  obtain ⟨S1, em, e1, m1, m2, m3⟩ := su_s4 (ρ := c_S) (W := W) (L := L) (k := k + 1) (gp := gp) ha
  have r1 : S1 r = some (d_obj 3 11 (zrf tyX3)) := by rw [m3 r (by omega), hSa, updS_ne (by omega)]; exact h
  obtain ⟨S2, hS2⟩ : ∃ S2, S2 = updS S1 r (d_obj 3 11 (updR (zrf tyX3) 0 (some k))) := ⟨_, rfl⟩
  obtain ⟨Sb, hSb⟩ : ∃ Sb, Sb = updS S2 (k + 1) (d_ref 6 9 (fun _ => none)) := ⟨_, rfl⟩
  have hb : Sb (k + 1) = some (d_ref 6 9 (fun _ => none)) := by rw [hSb, updS_eq]
  obtain ⟨S3, eb, e3, b1, b2, b3⟩ := su_s9 (ρ := c_S) (W := W) (L := L) (k := k + 2) (gp := gp) hb
  have r3 : S3 r = some (d_obj 3 11 (updR (zrf tyX3) 0 (some k))) := by rw [b3 r (by omega), hSb, updS_ne (by omega), hS2, updS_eq]
  refine ⟨updS (updS S3 r (d_obj 3 11 (updR (updR (zrf tyX3) 0 (some k)) 1 (some (k + 1))))) r (d_obj 3 11 (updR (updR (updR (zrf tyX3) 0 (some k)) 1 (some (k + 1))) 2 (some tp))), ?_, ⟨_, updS_eq, ?_, ?_, ?_, fun i h3 h10 => ?_⟩, ⟨em, ?_, m2⟩, ⟨eb, ?_, b2⟩, fun a har hak => ?_⟩
  · unfold cm_X3_init zNewR
    rw [if_neg (by decide), c4]
    simp only [zSh_T, zV_T, zL_T, zn_T]
    rw [← hSa, e1, zPR_T r1 (by simp [z0]), if_neg (by decide), c9]
    simp only [zSh_T, zV_T, zL_T, zn_T]
    rw [← hS2, ← hSb, e3, zPR_T r3 (by simp [updR, z1]), zPR_T updS_eq (by simp [updR, z2]), zPI_T updS_eq (by simp [updR, zn 3 (by omega) (by omega)])]
  · simp [updR]
  · simp [updR]
  · simp [updR]
  · unfold updR; rw [if_neg (by omega), if_neg (by omega), if_neg (by omega)]; exact zn i h3 h10
  · rw [updS_ne (by omega), updS_ne (by omega), b3 k (by omega), hSb, updS_ne (by omega), hS2, updS_ne (by omega)]; exact m1
  · rw [updS_ne (by omega), updS_ne (by omega)]; exact b1
  · rw [updS_ne har, updS_ne har, b3 a (by omega), hSb, updS_ne (by omega), hS2, updS_ne har, m3 a (by omega), hSa, updS_ne (by omega)]
end RN
/-- what the component does with what was told -/
def txT (gp : Nat → Nat) (x : Nat) (o_13 : Option Nat) (Z_14 : c_S) : Option (Int32 × c_S) := nn o_13 fun a_18 => cA Z_14.Sh x 0 11 1 fun a_19 => zK Z_14 a_19 1 20 <| bnd (cm_X1_begins gp Z_14 a_19 a_18) (fun Z_23 => cI Z_23.Sh Z_23.V a_18 2 13 12 fun x_24 => zPI Z_23 x 0 11 5 0 fun Z_25 => some (x_24, Z_25))
/-- what it does with a Wrong -/
def txW (x x_15 : Nat) (Z_16 : c_S) : Option (Int32 × c_S) := zK Z_16 x_15 9 8 <| cI Z_16.Sh Z_16.V x_15 9 8 6 fun x_26 => zPI Z_16 x 0 11 6 x_26 fun Z_27 => cI Z_27.Sh Z_27.V x_15 9 8 7 fun x_28 => zPI Z_27 x 0 11 7 x_28 fun Z_29 => zPI Z_29 x 0 11 5 0 fun Z_30 => some ((-4), Z_30)
section TG
variable {Sh : g_Sh} {V : g_V} {L : g_L} {n x : Nat} {m u mt q ρ : Nat → Nat} {V2 : g_V} {L2 : g_L} {gp : Nat → Nat}
theorem tx0_a {a : Nat} (h0 : a ≠ 0) (h15 : a ≠ 15) (h16 : a ≠ 16) (h17 : a ≠ 17) : tx0 V2 a = V2 a := by
  unfold tx0
  rw [rowV_ne h17, rowV_ne h16, rowV_ne h15, rowV_ne h0]
theorem tx0_0 : tx0 V2 0 = upd (upd (upd (upd (upd (upd (upd (V2 0) 8 (V2 0 6)) 6 0) 9 0) 13 0) 14 (-1)) 18 0) 19 0 := by
  unfold tx0
  rw [rowV_ne (by omega), rowV_ne (by omega), rowV_ne (by omega), rowV_eq]
theorem text_go (h : GG (Sh, V, L, n) x ρ m u mt q V2 L2) (hg : gpI gp) : ∃ S1 V1 W1 sz κ, cm_X0_text gp (Sh, V, L, n) x = bnd (bnd (cm_X3_whole_2_L12 gp n (n + 3) 42 (S1, V1, L, n + 13)) (cs2 (fun Z_68 => bnd (cm_X3_whole Z_68 (n + 3)) (un2 fun o_71 Z_72 => some (.inl (o_71, Z_72)))) (un2 fun x_73 Z_74 => some (.inr (x_73, Z_74))))) (cs2 (un2 fun o Z => txT gp x o Z) (un2 fun y Z => txW x y Z)) ∧ tw_text V2 = bnd (tw_text_L90 1000 W1) (fun V_49 => tw_text_J111 V_49) ∧ Ps gp n S1 V1 (n + 13) W1 n (q 3) (n + 1) (n + 2) sz (n + 3) κ (uN (n + 3) (n + 4)) 0 0 0 0 0 ∧ (∀ a, a < n → S1 a = Sh a ∧ V1 a = upd2 (upd2 V x 6 0) x 7 (-1) a) ∧ TF (tx0 V2) W1 := by
  have hM : GM Sh x (m 0) (mt 0) q := h.gm
  obtain ⟨-, -, -, ⟨-, ⟨sz, s1, s2, s3⟩, ⟨t1, t2⟩, -⟩, -, -, o1, ox, -, -, o10, -⟩ := h
  simp only [zSh_T, zV_T, zL_T, zn_T] at s2 t1 t2 o1
  have hx : x < n := o1 x (by omega)
  have hq : q 3 < n := o1 (q 3) (by omega)
  have xq : q 3 ≠ x := fun e => by rw [e] at o10; omega
  obtain ⟨V0, hV0⟩ : ∃ V0, V0 = upd2 (upd2 V x 6 0) x 7 (-1) := ⟨_, rfl⟩
  obtain ⟨Sr, hSr⟩ : ∃ Sr, Sr = updS Sh n (d_obj 3 11 (zrf tyX3)) := ⟨_, rfl⟩
  have hMr : GM Sr x (m 0) (mt 0) q := by
    unfold GM
    rw [hSr, updS_ne (by omega)]
    exact hM
  obtain ⟨S2, e2, rd2, em2, eb2, f2⟩ := cm_reader_new (S := Sr) (W := rowV V0 n (fun _ => 0)) (L := L) (gp := gp) (r := n) (k := n + 1) (tp := q 3) (x := nI sz) (by rw [hSr, updS_eq]) (rowV_eq _ _ _) (by omega)
  have v5 : rowV V0 n (fun _ => 0) x 5 = nI sz := by
    rw [rowV_ne (by omega), hV0, upd2_eq, upd_ne (by omega), upd2_eq, upd_ne (by omega)]; exact s2
  obtain ⟨S3, W3, e3, tn, f3⟩ := cm_told_new (S := updS S2 (n + 3) (d_obj 2 13 (zrf tyX2))) (W := rowV (upd2 (rowV V0 n (fun _ => 0)) n 3 (nI sz)) (n + 3) (fun _ => 0)) (L := L) (a := n + 3) (k := n + 4) updS_eq (rowV_eq _ _ _) (by omega)
  -- cells that came before
  have fS : ∀ a, a < n + 3 → S3 a = S2 a := fun a ha => by rw [(f3 a (by omega) (by omega)).1, updS_ne (by omega)]
  have fW : ∀ a, a < n + 3 → W3 a = upd2 (rowV V0 n (fun _ => 0)) n 3 (nI sz) a := fun a ha => by rw [(f3 a (by omega) (by omega)).2, rowV_ne (by omega)]
  have rd3 : RdO S3 n (q 3) (n + 1) (n + 2) := by
    unfold RdO
    rw [fS n (by omega)]
    exact rd2
  have fq : ∀ a, a < n → S3 a = Sh a ∧ W3 a = V0 a := fun a ha => ⟨by rw [fS a (by omega), f2 a (by omega) (by omega), hSr, updS_ne (by omega)], by rw [fW a (by omega), upd2_ne _ (by omega), rowV_ne (by omega)]⟩
  have Wn : ∀ j, W3 n j = upd (fun _ => 0) 3 (nI sz) j := fun j => by rw [fW n (by omega), upd2_eq, rowV_eq]
  have V0q : V0 (q 3) = V (q 3) := by rw [hV0, upd2_ne _ xq, upd2_ne _ xq]
  have rt3 : RdT S3 W3 n (q 3) (tx0 V2 5) := by
    rw [tx0_a (by omega) (by omega) (by omega) (by omega)]
    refine ⟨by rw [(fq _ hq).1]; exact t1, fun i hi => ?_, by omega, fun i hi => (t2 i hi).2⟩
    rw [(fq _ hq).2, V0q]; exact (t2 i hi).1
  obtain ⟨V1, W1, n1, n2, n3, n4⟩ := t_next0 (L := L) (n := n + 13) (V2 := tx0 V2) (sz := sz) (a := 0) rd3 rt3 (by rw [Wn, upd_eq]) (by rw [tx0_0]; simp (disch := omega) only [upd_ne, upd_eq]; exact s3) s1 (by rw [tx0_0]; simp (disch := omega) only [upd_ne, upd_eq]) (by rw [Wn, upd_ne (by omega)]; rfl) (by rw [tx0_0]; simp (disch := omega) only [upd_ne, upd_eq]; rfl) (by omega)
  obtain ⟨κ, hκ⟩ : ∃ κ : Nat → Nat, κ = fun b => if n ≤ b ∧ b < n + 3 then 8 else κN (n + 3) (n + 4) b := ⟨_, rfl⟩
  have kz : ∀ b, b < n + 3 → κN (n + 3) (n + 4) b = 0 := fun b hb => by unfold κN; rw [if_neg (by omega), if_pos (by omega)]
  have k8 : ∀ b, n ≤ b → b < n + 3 → κ b = 8 := fun b b1 b2 => by rw [hκ]; exact if_pos ⟨b1, b2⟩
  have td : Td S3 W3 κ (uN (n + 3) (n + 4)) (tx0 V2) 0 0 0 := by
    refine Td_new tn (fun j hj => ?_) (fun g hg => ?_) (fun y hy => ?_) (fun b hb => ?_) (by omega)
    · unfold tx0
      rw [rowV_ne (by omega), rowV_ne (by omega), rowV_eq, if_pos hj]
    · unfold tx0
      rw [rowV_ne (by omega), rowV_eq, if_pos hg]
    · unfold tx0
      rw [rowV_eq, if_pos hy]
    · rw [hκ]
      exact if_neg (fun hc => hb (kz b hc.2))
  have u0 : uN (n + 3) (n + 4) 0 = n + 3 := rfl
  refine ⟨S3, V1, W1, sz, κ, ?_, ?_, ⟨n4, u0, Td_tok td (k8 n (by omega) (by omega)) n3.1 (n3.2.2.1 15 (by omega)) (n3.2.2.1 16 (by omega)) (n3.2.2.1 17 (by omega)), ⟨?_, ?_⟩, ⟨?_, ?_, by omega, by omega⟩, ⟨k8 _ (by omega) (by omega), k8 _ (by omega) (by omega), k8 _ (by omega) (by omega), hq, by omega, fun a ha => ?_⟩, ?_, ?_⟩, fun a ha => ⟨(fq a ha).1, ?_⟩, TF_st n3⟩
  · unfold cm_X0_text
    rw [x_P hM (by omega), x_P hM (by omega)]
    simp only [zNew, zSh_T, zV_T, zL_T, zn_T]
    rw [← hV0, ← hSr, x_tp hMr, x_I hMr (by omega), v5, e2, bnd_S]
    rw [r_K rd2]
    unfold cm_X3_whole_2
    simp only [zNew, zSh_T, zV_T, zL_T, zn_T]
    rw [show n + 1 + 2 = n + 3 from rfl, e3, bnd_S, r_K rd3, n1, bnd_S]
    rfl
  · rw [tw_text_0, n2, bnd_S]
  · rw [n3.2.1 9 (by omega), Wn, upd_ne (by omega), n3.2.2.2 18 (by omega), tx0_0]; simp (disch := omega) only [upd_ne, upd_eq]
  · rw [n3.2.1 10 (by omega), Wn, upd_ne (by omega), n3.2.2.2 19 (by omega), tx0_0, upd_eq]
  · rw [u0, n3.1 _ (by omega)]; exact tn.2.2.2.2.2.1.2.2.2
  · rw [n3.2.2.1 15 (by omega)]
    unfold tx0
    rw [rowV_ne (by omega), rowV_ne (by omega), rowV_eq, if_pos (by omega)]; rfl
  · by_cases c : n ≤ a ∧ a < n + 3
    · omega
    · rw [hκ] at ha
      have ha : (if n ≤ a ∧ a < n + 3 then 8 else κN (n + 3) (n + 4) a) ≠ 0 := ha
      rw [if_neg c] at ha
      unfold κN at ha
      by_cases c1 : a = n + 3
      · omega
      rw [if_neg c1] at ha
      by_cases c2 : a < n + 4 ∨ n + 4 + 9 ≤ a
      · rw [if_pos c2] at ha; exact absurd rfl ha
      · omega
  · obtain ⟨em, a1, a2⟩ := em2
    exact ⟨em, by rw [fS _ (by omega)]; exact a1, a2⟩
  · obtain ⟨em, a1, a2⟩ := eb2
    exact ⟨em, by rw [fS _ (by omega)]; exact a1, a2⟩
  · rw [n3.1 a (by omega), (fq a ha).2, hV0]
end TG
