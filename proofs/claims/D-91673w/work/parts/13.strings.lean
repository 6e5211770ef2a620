/-! String.length, charAt of the String constants: nothing is written -/
set_option maxRecDepth 100000
abbrev noA : Nat → Prop := fun _ => False
def sx_Pc (gp : Nat → Nat) (av : List Value) : Array Value → State → Prop := va_Pc av (g_X gp noA)
theorem sx_blind {gp : Nat → Nat} {av : List Value} : FrameBlind (sx_Pc gp av) := fun _ _ _ _ q => ⟨q.1, q.2.blind rfl rfl⟩
theorem sx_met {gp : Nat → Nat} {l : Launch} {y : MethodName} {code : ByteArray} {nL : Nat} {ret : Option FieldType} {rm : Room} {av : List Value} {Qc : Array Value → State → Outcome → State → Prop}
    (hy : plainName y.cls = true) (hav : (lg_sl av).length ≤ nL)
    (body : ∀ (p : Program) (e : Env) (s : State) (m : MethodId) (below : List Frame) (meth : Method) (c : Code) (ls : Array Slot), CallFix p m c code nL s av.toArray lw_all y.cls → meth.sig.returnType = ret → meth.locks = false → lv_has ls nL (lv_args 0 av) → g_X gp noA s →
      W p l e rm s m av.toArray below meth c s.heap [] 0 0 (MQ below Qc av.toArray s 0 0 noA) (F0 m 0 ls [])) :
    Met l y (ws_ y code nL ret) rm (sx_Pc gp av) Qc 0 0 noA := by
  refine Met.ofW (cc := code) (maxL := nL) (ret := ret) hy rfl ?_
  intro p e s m args below meth c s₁ B hml hv
  obtain ⟨rfl, hX⟩ := hv
  have hts := atoms_spec (ws := ws_ y code nL ret) B.pre
  have hts : ∀ w ∈ lw_all, w.before _ s = true := fun w h => hts w (List.mem_cons_of_mem _ h)
  have hl := lv_entry av (n := nL) hav
  rw [lg_entry_eq]
  generalize (lg_sl av ++ List.replicate (nL - (lg_sl av).length) Slot.unset).toArray = ls at hl ⊢
  exact body p e s m below meth c ls ⟨B.exec, B.bytes, hml, findClass_of_methodNamed B.named, hts⟩ B.returns B.notSynchronized hl hX
section SXR
variable {p : Program} {l : Launch} {e : Env} {R : Room} {s : State} {m : MethodId} {args : Array Value} {below : List Frame} {meth : Method} {c : Code} {H : Heap} {locs : List Loc} {cells slots : Nat} {Q : State → Prop}
variable {gp : Nat → Nat} {cc : ByteArray} {pc : Nat} {ls : Array Slot} {rest : List Value} {A : Nat → Prop}
theorem sx_alen {t N : Nat} {ty : FieldType} {f : Nat → Value} (hx : p.tables.exec = Jvm.exec) (hb : c.code = cc) (hT : va_T ty t N f A s H) (hdg : decode cc pc = .ok (.arraylength, 1))
    (kk : W p l e R s m args below meth c H locs cells slots Q (F0 m (pc + 1) ls (.int (Int32.ofNat N) :: rest))) : W p l e R s m args below meth c H locs cells slots Q (F0 m pc ls (.ref t :: rest)) := by
  obtain ⟨cell, h1, h2, h3, h4, h5, h6, h7⟩ := hT
  exact W.alen hx hb h1 h2 h5 rfl rfl hdg kk
theorem sx_bald {t N : Nat} {f : Nat → Int32} {i : Int32} (hx : p.tables.exec = Jvm.exec) (hb : c.code = cc) (hT : va_T .byte t N (fun j => .int (f j)) A s H) (hin : vp_in i N) (hdg : decode cc pc = .ok (.baload, 1))
    (kk : W p l e R s m args below meth c H locs cells slots Q (F0 m (pc + 1) ls (.int (f i.toNatClampNeg) :: rest))) : W p l e R s m args below meth c H locs cells slots Q (F0 m pc ls (.int i :: .ref t :: rest)) := by
  obtain ⟨cell, h1, h2, h3, h4, h5, h6, h7⟩ := hT
  have hlt : i.toNatClampNeg < N := Nat.not_le.mp fun q => hin (Or.inr q)
  exact W.bald (v := .int (f i.toNatClampNeg)) hx hb h1 h2 h3 (fun q => q.elim (fun q => hin (Or.inl q)) (fun q => by omega)) (h6 _ hlt) rfl rfl hdg kk
theorem sx_ldcw {own tx : String} {index q : Nat} (hx : p.tables.exec = Jvm.exec) (hb : c.code = cc) (hown : s.vm.findClass own = some m.cls) (hZ : vk_R own index tx q s) (hdg : decode cc pc = .ok (.ldc_w index, 3))
    (k : W p l e R s m args below meth c H locs cells slots Q (F0 m (pc + 3) ls (.ref q :: rest))) : W p l e R s m args below meth c H locs cells slots Q (F0 m pc ls rest) := by
  intro T hT X
  obtain ⟨t, a1, b1⟩ := k T hT X
  refine ⟨t, ?_, b1⟩
  obtain ⟨k, cf, i, a', hk, hcf, hcp, -, hr, hev'⟩ := Cond.stringRef_spec hown hZ.1
  cases hZ.2.symm.trans hev'
  obtain ⟨k', hk', he⟩ := X.warmed.alike.2.2 _ _ hk
  have hr' : k'.resolved[index]? = some (some (.string q)) := by
    rcases X.warmed.entry hk hk' index with h | ⟨h, -⟩
    · rw [h]; exact hr
    · rw [hr] at h; cases h
  have hdg' : decode c.code (F0 m pc ls rest).pc = .ok (.ldc_w index, 3) := by rw [hb]; exact hdg
  jvm_step X.here [hx, hdg', ldc_w.wp_string (e := e) (s := T) (f := F0 m pc ls rest) X.here.top hk' (by rw [he]; exact hcf) hcp hr']
  exact a1
end SXR
abbrev rmS (n : Nat) : Room := rm_ n (30 * n)
theorem met_coder {l : Launch} {gp : Nat → Nat} {i : Nat} (hi : i < 24) : Met l yJ8_coder (ws_ yJ8_coder cJ8_coder 1 (some .byte)) (rmS 0) (sx_Pc gp [.ref (gp i)]) (vp_Si (fun r => r = 0)) 0 0 noA := by
  refine sx_met rfl (Nat.le_of_ble_eq_true rfl) ?_
  intro p e s m below meth c ls S hr hlk hl hX
  obtain ⟨hx, hb, hml, hown, hts⟩ := S
  have hl : lv_has ls 1 [(0, .ref (gp i))] := hl
  refine va_gets hx hb hX.2.2.1 va_S.rf hown (hts _ q893) (fun x h => h) dJ8_coder_0 ?_
  refine lv_if_eq (tgt := 13) hx hb dJ8_coder_3 (by decide) (fun c1 => absurd c1 (by decide)) (fun _ => ?_)
  refine lv_aload_n hx hb dJ8_coder_6 rfl (lv_at hl 0 rfl) ?_
  refine vk_getf hx hb (hX.1 i hi).2.1 va_S.rf hown (hts _ q2078) (fun x h => h) dJ8_coder_7 ?_
  refine lv_goto (tgt := 14) hx hb dJ8_coder_10 (by decide) ?_
  exact W.zret hx hb hr rfl (fun t ht hw => ⟨0, rfl, rfl, ht⟩) (fun q h => by cases h) dJ8_coder_14 hlk
theorem met_isLatin1 {l : Launch} {gp : Nat → Nat} {i : Nat} (hi : i < 24) : Met l yJ8_isLatin1 (ws_ yJ8_isLatin1 cJ8_isLatin1 1 (some .boolean)) (rmS 0) (sx_Pc gp [.ref (gp i)]) (vp_Si (fun r => r = 1)) 0 0 noA := by
  refine sx_met rfl (Nat.le_of_ble_eq_true rfl) ?_
  intro p e s m below meth c ls S hr hlk hl hX
  obtain ⟨hx, hb, hml, hown, hts⟩ := S
  have hl : lv_has ls 1 [(0, .ref (gp i))] := hl
  refine va_gets hx hb hX.2.2.1 va_S.rf hown (hts _ q893) (fun x h => h) dJ8_isLatin1_0 ?_
  refine lv_if_eq (tgt := 17) hx hb dJ8_isLatin1_3 (by decide) (fun c1 => absurd c1 (by decide)) (fun _ => ?_)
  refine lv_aload_n hx hb dJ8_isLatin1_6 rfl (lv_at hl 0 rfl) ?_
  refine vk_getf hx hb (hX.1 i hi).2.1 va_S.rf hown (hts _ q2078) (fun x h => h) dJ8_isLatin1_7 ?_
  refine lv_if_ne (tgt := 17) hx hb dJ8_isLatin1_10 (by decide) (fun c1 => absurd rfl c1) (fun _ => ?_)
  refine lv_iconst (v := 1) hx hb dJ8_isLatin1_13 (by decide) ?_
  refine lv_goto (tgt := 18) hx hb dJ8_isLatin1_14 (by decide) ?_
  exact W.zret hx hb hr rfl (fun t ht hw => ⟨1, rfl, rfl, ht⟩) (fun q h => by cases h) dJ8_isLatin1_18 hlk
theorem sx_recv {s : State} {H : Heap} {locs : List Loc} {gp : Nat → Nat} {A : Nat → Prop} {i : Nat} (hi : i < 24) (hX : g_X gp A s) (hS : va_S A s.heap H locs) : ∃ cell : Cell, H[gp i]? = some cell ∧ cell.vm.isStatics = false ∧ s.vm.findClass "java/lang/String" = some cell.cls := by
  obtain ⟨cell, h1, h2, h3, -⟩ := (hX.1 i hi).1.kept hS.2.1
  exact ⟨cell, h1, h2, h3⟩
theorem sx_pre {s U : State} {H : Heap} {locs : List Loc} {gp : Nat → Nat} {A : Nat → Prop} (hX : g_X gp A s) (hS : va_S A s.heap H locs) (hU : U.heap = H) (hw : s.WarmedH U.vm) : g_X gp noA U :=
  (hX.move (fun q h1 h2 => by rw [hU]; exact hS.2.1 q h1 h2) hw).narrow (fun _ h => h.elim)
theorem met_length {l : Launch} {gp : Nat → Nat} {i : Nat} (hi : i < 24) : Met l yJ8_length (ws_ yJ8_length cJ8_length 1 (some .int)) (rmS 1) (sx_Pc gp [.ref (gp i)]) (vp_Si (fun r => r = Int32.ofNat (stLen.getD i 0))) 0 0 noA := by
  refine sx_met rfl (Nat.le_of_ble_eq_true rfl) ?_
  intro p e s m below meth c ls S hr hlk hl hX
  have S' : CallFix p m c cJ8_length 1 s ([.ref (gp i)] : List Value).toArray lw_all RJ8 := S
  obtain ⟨hx, hb, hml, hown, hts⟩ := S
  have hl : lv_has ls 1 [(0, .ref (gp i))] := hl
  refine lv_aload_n hx hb dJ8_length_0 rfl (lv_at hl 0 rfl) ?_
  refine vk_getf hx hb (hX.1 i hi).2.2.1 va_S.rf hown (hts _ q2077) (fun x h => h) dJ8_length_1 ?_
  refine sx_alen hx hb (hX.1 i hi).2.2.2 dJ8_length_4 ?_
  refine lv_aload_n hx hb dJ8_length_5 rfl (lv_at hl 0 rfl) ?_
  refine vp_callSi (W.runV (As := []) (rest := [.int (Int32.ofNat (stLen.getD i 0))]) S' (met_coder (gp := gp) hi) (cwV 0 hts (lw_V q889 q890 q891 q123 q892) rfl rfl rfl (by decide +kernel) ⟨Nat.le_of_ble_eq_true rfl, Nat.le_of_ble_eq_true rfl⟩) ⟨sx_blind, sx_recv hi hX va_S.rf, fun U hU hw => ⟨rfl, sx_pre hX va_S.rf hU hw⟩⟩ rfl rfl hl.1 rfl (lv_room (Nat.le_of_ble_eq_true rfl)) dJ8_length_6 ⟨Nat.le_refl _, Nat.le_refl _⟩) (fun r hr0 => ?_)
  subst hr0
  refine lv_ishr hx hb dJ8_length_9 ?_
  exact W.iret hx hb hr (fun t ht hw => ⟨_, rfl, sb_shr0 _, ht⟩) (fun q h => by cases h) dJ8_length_10 hlk
theorem met_checkIndex {l : Launch} {gp : Nat → Nat} {k n : Int32} {v : Value} (hv : v = .null ∨ ∃ t, v = .ref t) (h0 : ¬ k < 0) (h1 : k < n) : Met l yJ4_checkIndex (ws_ yJ4_checkIndex cJ4_checkIndex 3 (some .int)) (rmS 0) (sx_Pc gp [.int k, .int n, v]) (vp_Si (fun r => r = k)) 0 0 noA := by
  refine sx_met rfl (by rcases hv with rfl | ⟨t, rfl⟩ <;> exact Nat.le_of_ble_eq_true rfl) ?_
  intro p e s m below meth c ls S hr hlk hl hX
  obtain ⟨hx, hb, hml, hown, hts⟩ := S
  have hl : lv_has ls 3 [(0, .int k), (1, .int n), (2, v)] := hl
  refine lv_iload_n hx hb dJ4_checkIndex_0 rfl (lv_at hl 0 rfl) ?_
  refine lv_if_lt (tgt := 9) hx hb dJ4_checkIndex_1 (by decide) (fun c1 => absurd c1 h0) (fun _ => ?_)
  refine lv_iload_n hx hb dJ4_checkIndex_4 rfl (lv_at hl 0 rfl) ?_
  refine lv_iload_n hx hb dJ4_checkIndex_5 rfl (lv_at hl 1 rfl) ?_
  refine lv_icmp_lt (tgt := 16) hx hb dJ4_checkIndex_6 (by decide) (fun _ => ?_) (fun c1 => absurd h1 c1)
  refine lv_iload_n hx hb dJ4_checkIndex_16 rfl (lv_at hl 0 rfl) ?_
  exact W.iret hx hb hr (fun t ht hw => ⟨_, rfl, rfl, ht⟩) (fun q h => by cases h) dJ4_checkIndex_17 hlk
theorem met_sCheck {l : Launch} {gp : Nat → Nat} {k n : Int32} (h0 : ¬ k < 0) (h1 : k < n) : Met l yJ8_checkIndex (ws_ yJ8_checkIndex cJ8_checkIndex 2 none) (rmS 1) (sx_Pc gp [.int k, .int n]) (va_Sv (fun _ => True)) 0 0 noA := by
  refine sx_met rfl (Nat.le_of_ble_eq_true rfl) ?_
  intro p e s m below meth c ls S hr hlk hl hX
  have S' : CallFix p m c cJ8_checkIndex 2 s ([.int k, .int n] : List Value).toArray lw_all RJ8 := S
  obtain ⟨hx, hb, hml, hown, hts⟩ := S
  have hl : lv_has ls 2 [(0, .int k), (1, .int n)] := hl
  refine lv_iload_n hx hb dJ8_checkIndex_0 rfl (lv_at hl 0 rfl) ?_
  refine lv_iload_n hx hb dJ8_checkIndex_1 rfl (lv_at hl 1 rfl) ?_
  have fin : ∀ v : Value, (v = .null ∨ ∃ t, v = .ref t) → W p l e (rmS 1) s m ([.int k, .int n] : List Value).toArray below meth c s.heap [] 0 0 (MQ below (va_Sv (fun _ => True)) ([.int k, .int n] : List Value).toArray s 0 0 noA) (F0 m 5 ls [v, .int n, .int k]) := by
    intro v hv
    refine vp_callSi (W.runS (As := [.int k, .int n, v]) (rest := []) S' (met_checkIndex (gp := gp) hv h0 h1) (va_cwS 3 hts (lw_S q911 q518 q114 q519) rfl rfl rfl (by decide +kernel) ⟨Nat.le_of_ble_eq_true rfl, Nat.le_of_ble_eq_true rfl⟩) ⟨sx_blind, fun U hU hw => ⟨rfl, sx_pre hX va_S.rf hU hw⟩⟩ rfl rfl hl.1 rfl (lv_room (Nat.le_of_ble_eq_true rfl)) dJ8_checkIndex_5 ⟨Nat.le_refl _, Nat.le_refl _⟩) (fun r hr0 => ?_)
    refine lv_pop hx hb dJ8_checkIndex_8 rfl ?_
    exact W.vret hx hb hr (fun t ht hw => ⟨rfl, trivial, ht⟩) (fun q h => by cases h) dJ8_checkIndex_9 hlk
  rcases hX.2.2.2.1 with hz | ⟨t, hz⟩
  · exact va_gets hx hb hz va_S.rf hown (hts _ q909) (fun x h => h) dJ8_checkIndex_2 (fin _ (Or.inl rfl))
  · exact va_gets hx hb hz va_S.rf hown (hts _ q909) (fun x h => h) dJ8_checkIndex_2 (fin _ (Or.inr ⟨t, rfl⟩))
/-- the character k of the String constant i -/
def stCh (i : Nat) (k : Int32) : Int32 := ((((stByt.getD i []).getD k.toNatClampNeg 0) &&& 255).toUInt32 % 65536).toInt32
theorem met_l1CharAt {l : Launch} {gp : Nat → Nat} {i : Nat} {k : Int32} (hi : i < 24) (hin : vp_in k (stLen.getD i 0)) : Met l yJ9_charAt (ws_ yJ9_charAt cJ9_charAt 2 (some .char)) (rmS 2) (sx_Pc gp [.ref (gp (100 + i)), .int k]) (vp_Si (fun r => r = stCh i k)) 0 0 noA := by
  refine sx_met rfl (Nat.le_of_ble_eq_true rfl) ?_
  intro p e s m below meth c ls S hr hlk hl hX
  have S' : CallFix p m c cJ9_charAt 2 s ([.ref (gp (100 + i)), .int k] : List Value).toArray lw_all RJ9 := S
  obtain ⟨hx, hb, hml, hown, hts⟩ := S
  have hl : lv_has ls 2 [(0, .ref (gp (100 + i))), (1, .int k)] := hl
  have hsz : stLen.getD i 0 < 2 ^ 31 := by
    have : ∀ j : Fin 24, stLen.getD j.val 0 < 2 ^ 31 := by decide +kernel
    exact this ⟨i, hi⟩
  obtain ⟨j, hj, ek⟩ := vp_in_of hin hsz
  have h0 : ¬ k < 0 := by rw [ek]; exact nI_pos (by omega)
  have h1 : k < Int32.ofNat (stLen.getD i 0) := by rw [ek]; exact nI_lt hj hsz
  refine lv_iload_n hx hb dJ9_charAt_0 rfl (lv_at hl 1 rfl) ?_
  refine lv_aload_n hx hb dJ9_charAt_1 rfl (lv_at hl 0 rfl) ?_
  refine sx_alen hx hb (hX.1 i hi).2.2.2 dJ9_charAt_2 ?_
  refine va_csv (W.runS (As := [.int k, .int (Int32.ofNat (stLen.getD i 0))]) (rest := []) S' (met_sCheck (gp := gp) h0 h1) (va_cwS 2 hts (lw_S q906 q907 q123 q908) rfl rfl rfl (by decide +kernel) ⟨Nat.le_of_ble_eq_true rfl, Nat.le_of_ble_eq_true rfl⟩) ⟨sx_blind, fun U hU hw => ⟨rfl, sx_pre hX va_S.rf hU hw⟩⟩ rfl rfl hl.1 rfl (lv_room (Nat.le_of_ble_eq_true rfl)) dJ9_charAt_3 ⟨Nat.le_refl _, Nat.le_refl _⟩) (fun _ => ?_)
  refine lv_aload_n hx hb dJ9_charAt_6 rfl (lv_at hl 0 rfl) ?_
  refine lv_iload_n hx hb dJ9_charAt_7 rfl (lv_at hl 1 rfl) ?_
  refine sx_bald hx hb (hX.1 i hi).2.2.2 hin dJ9_charAt_8 ?_
  refine lv_sipush (v := 255) hx hb dJ9_charAt_9 (by decide) ?_
  refine lv_iand hx hb dJ9_charAt_12 ?_
  refine lv_i2c (v := stCh i k) hx hb dJ9_charAt_13 rfl ?_
  exact W.zret hx hb hr (pk_nc _) (fun t ht hw => ⟨_, rfl, rfl, ht⟩) (fun q h => by cases h) dJ9_charAt_14 hlk
theorem met_charAt {l : Launch} {gp : Nat → Nat} {i : Nat} {k : Int32} (hi : i < 24) (hin : vp_in k (stLen.getD i 0)) : Met l yJ8_charAt (ws_ yJ8_charAt cJ8_charAt 2 (some .char)) (rmS 3) (sx_Pc gp [.ref (gp i), .int k]) (vp_Si (fun r => r = stCh i k)) 0 0 noA := by
  refine sx_met rfl (Nat.le_of_ble_eq_true rfl) ?_
  intro p e s m below meth c ls S hr hlk hl hX
  have S' : CallFix p m c cJ8_charAt 2 s ([.ref (gp i), .int k] : List Value).toArray lw_all RJ8 := S
  obtain ⟨hx, hb, hml, hown, hts⟩ := S
  have hl : lv_has ls 2 [(0, .ref (gp i)), (1, .int k)] := hl
  refine lv_aload_n hx hb dJ8_charAt_0 rfl (lv_at hl 0 rfl) ?_
  refine vp_callSi (W.runV (As := []) (rest := []) S' (met_isLatin1 (gp := gp) hi) (cwV 0 hts (lw_V q899 q900 q901 q123 q902) rfl rfl rfl (by decide +kernel) ⟨Nat.le_of_ble_eq_true rfl, Nat.le_of_ble_eq_true rfl⟩) ⟨sx_blind, sx_recv hi hX va_S.rf, fun U hU hw => ⟨rfl, sx_pre hX va_S.rf hU hw⟩⟩ rfl rfl hl.1 rfl (lv_room (Nat.le_of_ble_eq_true rfl)) dJ8_charAt_1 ⟨Nat.le_refl _, Nat.le_refl _⟩) (fun r hr0 => ?_)
  subst hr0
  refine lv_if_eq (tgt := 16) hx hb dJ8_charAt_4 (by decide) (fun c1 => absurd c1 (by decide)) (fun _ => ?_)
  refine lv_aload_n hx hb dJ8_charAt_7 rfl (lv_at hl 0 rfl) ?_
  refine vk_getf hx hb (hX.1 i hi).2.2.1 va_S.rf hown (hts _ q2077) (fun x h => h) dJ8_charAt_8 ?_
  refine lv_iload_n hx hb dJ8_charAt_11 rfl (lv_at hl 1 rfl) ?_
  refine vp_callSi (W.runS (As := [.ref (gp (100 + i)), .int k]) (rest := []) S' (met_l1CharAt (gp := gp) hi hin) (va_cwS 2 hts (lw_S q903 q904 q124 q905) rfl rfl rfl (by decide +kernel) ⟨Nat.le_of_ble_eq_true rfl, Nat.le_of_ble_eq_true rfl⟩) ⟨sx_blind, fun U hU hw => ⟨rfl, sx_pre hX va_S.rf hU hw⟩⟩ rfl rfl hl.1 rfl (lv_room (Nat.le_of_ble_eq_true rfl)) dJ8_charAt_12 ⟨Nat.le_refl _, Nat.le_refl _⟩) (fun r hr0 => ?_)
  subst hr0
  exact W.zret hx hb hr (pk_nc _) (fun t ht hw => ⟨_, rfl, rfl, ht⟩) (fun q h => by cases h) dJ8_charAt_15 hlk
