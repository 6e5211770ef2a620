/-! statics, class objects, copies of references, kinds of arrays -/
set_option maxRecDepth 100000
def zNm : Nat → String := fun t => match t with
  | 0 => "[I"
  | 1 => "[B"
  | 3 => "[S"
  | 4 => "[J"
  | _ => ""
section ZS3
variable {ρ : Type}
def zTy (Z : c_S) (a : Nat) : Option Nat := match Z.Sh a with
  | some (.inl q) => if q.1 = 0 ∨ q.1 = 1 ∨ q.1 = 3 then some q.1 else none
  | some (.inr (.inl q)) => if q.1 = 4 then some q.1 else none
  | _ => none
def zIs (Z : c_S) (o : Option Nat) (t : Nat) (k : Int32 → Option ρ) : Option ρ := match o with
  | none => k 0
  | some a => match zTy Z a with
    | some t' => if t' = t then k 1 else k 0
    | none => none
def zCa (Z : c_S) (o : Option Nat) (t : Nat) (k : Option ρ) : Option ρ := match o with
  | none => k
  | some a => if zTy Z a = some t then k else none
def zGc (gp : Nat → Nat) (Z : c_S) (a : Nat) (k : Nat → Option ρ) : Option ρ := match Z.Sh a with
  | some (.inr (.inr (.inl q))) => if q.1 = 5 then k (gp 200) else none
  | _ => none
def zCpR (Z : c_S) (a0 : Nat) (sp : Int32) (a : Nat) (dp n : Int32) (k : c_S → Option ρ) : Option ρ := match Z.Sh a0, Z.Sh a with
  | some (.inr (.inr (.inl q0))), some (.inr (.inr (.inl q1))) => if q0.1 = 5 ∧ q1.1 = 5 ∧ ¬ sp < 0 ∧ ¬ dp < 0 ∧ ¬ n < 0 ∧ sp.toNatClampNeg + n.toNatClampNeg ≤ q0.2.1 ∧ dp.toNatClampNeg + n.toNatClampNeg ≤ q1.2.1 ∧ (List.range n.toNatClampNeg).all (fun i => match q0.2.2 (sp.toNatClampNeg + i) with
      | none => true
      | some y => zAl [4, 5, 6, 10] Z y) = true then k ⟨updS Z.Sh a (d_ref 5 q1.2.1 (va_cpy q0.2.2 q1.2.2 sp.toNatClampNeg dp.toNatClampNeg n.toNatClampNeg)), Z.V, Z.L, Z.n⟩ else none
  | _, _ => none
theorem zTy_some {Z : c_S} {a t : Nat} (h : zTy Z a = some t) : (t = 0 ∨ t = 1 ∨ t = 3 ∨ t = 4) ∧ ∃ d, Z.Sh a = some d ∧ ((∃ n, d = d_int t n) ∨ ∃ n, d = d_lng t n) := by
  unfold zTy at h
  split at h
  · rename_i q hq
    split at h
    · rename_i hc
      obtain ⟨t', n⟩ := q
      cases h
      refine ⟨?_, _, hq, Or.inl ⟨n, rfl⟩⟩
      rcases hc with h | h | h
      · exact Or.inl h
      · exact Or.inr (Or.inl h)
      · exact Or.inr (Or.inr (Or.inl h))
    · cases h
  · rename_i q hq
    split at h
    · rename_i hc
      obtain ⟨t', n⟩ := q
      cases h
      exact ⟨Or.inr (Or.inr (Or.inr hc)), _, hq, Or.inr ⟨n, rfl⟩⟩
    · cases h
  · cases h
end ZS3
section ZR3
variable {p : Program} {l : Launch} {e : Env} {R : Room} {s : State} {m : MethodId} {args : Array Value} {below : List Frame} {meth : Method} {c : Code} {H : Heap} {locs : List Loc} {cells slots : Nat} {Q : State → Prop}
variable {gp : Nat → Nat} {own : String} {cc : ByteArray} {pc nL : Nat} {ls : Array Slot} {rest st0 st1 : List Value} {D : va_G} {K : Nat → ClassId} {A : Nat → Prop} {Z : c_S} {a a0 : Nat} {ρ : Type} {r : ρ}
variable {C ref nm : String} {T : u_T} {N ci index i t : Nat} {ty : Nat → FieldType}
theorem z_nm (hW : z_W gp D K A s Z H locs) (ht : t = 0 ∨ t = 1 ∨ t = 3 ∨ t = 4) : s.vm.findClass (zNm t) = some (K t) := by
  rcases ht with rfl | rfl | rfl | rfl
  · have h := (hW.1.1.2 0 _ (g_T_at (F := cmF) rfl)).2
    have e : "[" ++ FieldType.int.toString = "[I" := by decide +kernel
    show s.vm.findClass "[I" = _
    rw [← e]; exact h
  · have h := (hW.1.1.2 1 _ (g_T_at (F := cmF) rfl)).2
    have e : "[" ++ FieldType.byte.toString = "[B" := by decide +kernel
    show s.vm.findClass "[B" = _
    rw [← e]; exact h
  · have h := (hW.1.1.2 3 _ (g_T_at (F := cmF) rfl)).2
    have e : "[" ++ FieldType.short.toString = "[S" := by decide +kernel
    show s.vm.findClass "[S" = _
    rw [← e]; exact h
  · have h := (hW.1.1.2 4 _ (g_T_at (F := cmF) rfl)).2
    have e : "[" ++ FieldType.long.toString = "[J" := by decide +kernel
    show s.vm.findClass "[J" = _
    rw [← e]; exact h
theorem z_cellA (hW : z_W gp D K A s Z H locs) (h : zTy Z a = some t) : ∃ cell : Cell, H[a]? = some cell ∧ cell.vm.isStatics = false ∧ cell.cls = K t := by
  obtain ⟨-, d, hs, ⟨n, rfl⟩ | ⟨n, rfl⟩⟩ := zTy_some h
  · exact ⟨vp_cell (K t) (n, .inl (Z.V a)), hW.1.2.1.1 a _ hs, rfl, rfl⟩
  · exact ⟨vp_cell (K t) (n, .inr (.inl (Z.L a))), hW.1.2.1.1 a _ hs, rfl, rfl⟩
theorem zw_castA {o : Option Nat} {k : Option ρ} (S : CallFix p m c cc nL s args lw_all own) (hW : z_W gp D K A s Z H locs) (hcl : Cond.classLink own index (zNm t) ∈ lw_all) (hdg : decode cc pc = .ok (.checkcast index, 3)) (h : zCa Z o t k = some r)
    (kk : k = some r → W p l e R s m args below meth c H locs cells slots Q (F0 m (pc + 3) ls (va_rf o :: rest))) : W p l e R s m args below meth c H locs cells slots Q (F0 m pc ls (va_rf o :: rest)) := by
  cases o with
  | none => exact lv_castN S.1 S.2.1 hdg (kk h)
  | some b =>
    have h : (if zTy Z b = some t then k else none) = some r := h
    split at h
    · rename_i hc
      obtain ⟨cell, g1, g2, g3⟩ := z_cellA hW hc
      have hk := kk h
      intro T hT X
      obtain ⟨vm', X', st⟩ := X.checkcastYes S.1 S.2.2.2.1 (S.2.2.2.2 _ hcl) (by rw [hT]; exact g1) g2 (z_nm hW (zTy_some hc).1) (by rw [g3]; exact vz_refl _ _) (g := F0 m pc ls (.ref b :: rest)) rfl rfl (by rw [S.2.1]; exact hdg)
      obtain ⟨t, a1, b1⟩ := hk (T.setVm vm') hT X'
      exact ⟨t, st t a1, b1⟩
    · cases h
theorem zw_inst {o : Option Nat} {k : Int32 → Option ρ} (S : CallFix p m c cc nL s args lw_all own) (hW : z_W gp D K A s Z H locs) (ht : t = 0 ∨ t = 1 ∨ t = 3 ∨ t = 4) (hcl : Cond.classLink own index (zNm t) ∈ lw_all) (hdg : decode cc pc = .ok (.instanceof index, 3)) (h : zIs Z o t k = some r)
    (kk : ∀ x, k x = some r → W p l e R s m args below meth c H locs cells slots Q (F0 m (pc + 3) ls (.int x :: rest))) : W p l e R s m args below meth c H locs cells slots Q (F0 m pc ls (va_rf o :: rest)) := by
  cases o with
  | none => exact lv_instN S.1 S.2.1 hdg (kk 0 h)
  | some b =>
    have h2 : (match zTy Z b with
      | some t' => if t' = t then k 1 else k 0
      | none => none) = some r := h
    clear h
    have h := h2
    clear h2
    split at h
    · rename_i t' hc
      obtain ⟨cell, g1, g2, g3⟩ := z_cellA hW hc
      split at h
      · rename_i e
        subst e
        have hk := kk 1 h
        intro T hT X
        obtain ⟨vm', X', st⟩ := X.instanceofYes S.1 S.2.2.2.1 (S.2.2.2.2 _ hcl) (by rw [hT]; exact g1) g2 (z_nm hW (zTy_some hc).1) (by rw [g3]; exact vz_refl _ _) (g := F0 m pc ls (.ref b :: rest)) rfl rfl (by rw [S.2.1]; exact hdg)
        obtain ⟨t, a1, b1⟩ := hk (T.setVm vm') hT X'
        exact ⟨t, st t a1, b1⟩
      · rename_i hne
        have hm : (zNm t', zNm t) ∈ ncW := by
          rcases (zTy_some hc).1 with rfl | rfl | rfl | rfl <;> rcases ht with rfl | rfl | rfl | rfl <;> first | exact absurd rfl hne | (simp [zNm, ncW])
        exact va_instNo S.1 S.2.1 S.2.2.2.1 (S.2.2.2.2 _ hcl) (hW.1.2.2.2.2.1.2.2.2.2.2.2.2.1 _ hm) ⟨cell, g1, g2, by rw [g3]; exact z_nm hW (zTy_some hc).1⟩ hdg (kk 0 h)
    · cases h
theorem zw_gets1 (S : CallFix p m c cc nL s args lw_all own) (hW : z_W gp D K A s Z H locs) (hq : Cond.fieldLink own index "java/lang/Throwable" "UNASSIGNED_STACK" "[Ljava/lang/StackTraceElement;" ∈ lw_all) (hdg : decode cc pc = .ok (.getstatic index, 3))
    (kk : W p l e R s m args below meth c H locs cells slots Q (F0 m (pc + 3) ls (va_rf (gq gp 201) :: rest))) : W p l e R s m args below meth c H locs cells slots Q (F0 m pc ls rest) :=
  va_gets S.1 S.2.1 hW.1.2.2.2.2.1.2.2.2.2.2.2.2.2.2.1 hW.1.2.2.2.1 S.2.2.2.1 (S.2.2.2.2 _ hq) (fun _ h => h) hdg kk
theorem zw_gets2 (S : CallFix p m c cc nL s args lw_all own) (hW : z_W gp D K A s Z H locs) (hq : Cond.fieldLink own index "java/lang/Throwable" "SUPPRESSED_SENTINEL" "Ljava/util/List;" ∈ lw_all) (hdg : decode cc pc = .ok (.getstatic index, 3))
    (kk : W p l e R s m args below meth c H locs cells slots Q (F0 m (pc + 3) ls (va_rf (gq gp 202) :: rest))) : W p l e R s m args below meth c H locs cells slots Q (F0 m pc ls rest) :=
  va_gets S.1 S.2.1 hW.1.2.2.2.2.1.2.2.2.2.2.2.2.2.2.2.1 hW.1.2.2.2.1 S.2.2.2.1 (S.2.2.2.2 _ hq) (fun _ h => h) hdg kk
theorem zw_ldcM (S : CallFix p m c cc nL s args lw_all own) (hW : z_W gp D K A s Z H locs) (hq : Cond.classLink own index "[Ljava/lang/Object;" ∈ lw_all) (hdg : decode cc pc = .ok (.ldc index, 2))
    (kk : W p l e R s m args below meth c H locs cells slots Q (F0 m (pc + 2) ls (.ref (gp 200) :: rest))) : W p l e R s m args below meth c H locs cells slots Q (F0 m pc ls rest) :=
  va_ldcM S.1 S.2.1 S.2.2.2.1 (S.2.2.2.2 _ hq) hW.1.2.2.2.2.1.2.2.2.2.2.2.2.2.1 hdg kk
theorem zw_getC {k : Nat → Option ρ} (S : CallFix p m c cc nL s args lw_all own) (hW : z_W gp D K A s Z H locs) (hq : Cond.methodLink own index ⟨"java/lang/Object", "getClass", "()Ljava/lang/Class;"⟩ ∈ lw_all) (hsize : ls.size = nL) (hframes : 1 ≤ R.frames) (hro : (rest.map fun v => v.category).sum ≤ 8) (hlo : 22 ≤ R.locals) (hdg : decode cc pc = .ok (.invokevirtual index, 3)) (h : zGc gp Z a k = some r)
    (kk : k (gp 200) = some r → W p l e R s m args below meth c H locs cells slots Q (F0 m (pc + 3) ls (.ref (gp 200) :: rest))) : W p l e R s m args below meth c H locs cells slots Q (F0 m pc ls (.ref a :: rest)) := by
  unfold zGc at h
  split at h
  · rename_i q hs
    split at h
    · rename_i hc
      obtain ⟨t', n, f⟩ := q
      cases hc
      have h0 : H[a]? = some (vp_cell (K 5) (n, .inr (.inr (.inr (.inr (fun i => (f i).map idn)))))) := hW.1.2.1.1 a _ hs
      refine va_getC S.1 S.2.1 (S.2.2.1.trans hsize.symm) S.2.2.2.1 (S.2.2.2.2 _ hq) (va_Nw.use rfl (hW.1.2.2.2.2.1.2.2.2.2.1 _ (nestW_in q2064 rfl))) (S.2.2.2.2 _ q2063) (S.2.2.2.2 _ q605) (S.2.2.2.2 _ q626) hW.1.2.2.2.2.1.2.2.2.2.2.2.2.2.1 ⟨_, h0, rfl, ?_⟩ hframes (by omega) hdg (kk h)
      exact va_nmO (hW.1.1.2 5 _ (g_T_at (F := cmF) rfl)).2 (by decide +kernel)
    · cases h
  · cases h
theorem zw_copy {ety : FieldType} {sp dp n : Int32} {k : c_S → Option ρ} (S : CallFix p m c cc nL s args lw_all own) (hW : z_W gp D K A s Z H locs) (hsize : ls.size = nL) (ht : cmF[t]? = some ety) (hprim : refKind ety = false) (hfitI : ∀ x, (t = 0 ∨ isB x = true) → fits ety (.int x) = true) (hlink : Cond.methodLink own index arraycopyName ∈ lw_all) (hframes : 1 ≤ R.frames) (hlocals : (rest.map fun v => v.category).sum + (nativeFrameWords "java/lang/System" "arraycopy" 5 + 11) ≤ R.locals) (hdg : decode cc pc = .ok (.invokestatic index, 3)) (h : zCpI Z t a0 sp a dp n k = some r)
    (kk : ∀ Z', k Z' = some r → ∀ (H1 : Heap) (locs1 : List Loc), z_W gp D K A s Z' H1 locs1 → W p l e R s m args below meth c H1 locs1 cells slots Q (F0 m (pc + 3) ls rest)) : W p l e R s m args below meth c H locs cells slots Q (F0 m pc ls (.int n :: .int dp :: .ref a :: .int sp :: .ref a0 :: rest)) := by
  unfold zCpI at h
  split at h
  · rename_i q0 q1 hs0 hs1
    split at h
    · rename_i hc
      obtain ⟨t0, n0⟩ := q0
      obtain ⟨t1, n1⟩ := q1
      obtain ⟨h1, h2, h3, h4, h5, h6, h7, h8⟩ := hc
      cases h1; cases h2
      refine d_copyi S hW hs0 hs1 ht hprim hlink h3 h4 h5 h6 h7 (fun i hi => hfitI _ ?_) hsize hframes hlocals hdg rfl (fun H1 locs1 hW1 => kk _ h H1 locs1 hW1)
      rcases h8 with h8 | h8
      · exact Or.inl h8
      · exact Or.inr (List.all_eq_true.mp h8 i (List.mem_range.mpr hi))
    · cases h
  · cases h
theorem zw_copyR {sp dp n : Int32} {k : c_S → Option ρ} (S : CallFix p m c cc nL s args lw_all own) (hW : z_W gp D K A s Z H locs) (hsize : ls.size = nL) (hlink : Cond.methodLink own index arraycopyName ∈ lw_all) (hframes : 1 ≤ R.frames) (hlocals : (rest.map fun v => v.category).sum + (nativeFrameWords "java/lang/System" "arraycopy" 5 + 11) ≤ R.locals) (hdg : decode cc pc = .ok (.invokestatic index, 3)) (h : zCpR Z a0 sp a dp n k = some r)
    (kk : ∀ Z', k Z' = some r → ∀ (H1 : Heap) (locs1 : List Loc), z_W gp D K A s Z' H1 locs1 → W p l e R s m args below meth c H1 locs1 cells slots Q (F0 m (pc + 3) ls rest)) : W p l e R s m args below meth c H locs cells slots Q (F0 m pc ls (.int n :: .int dp :: .ref a :: .int sp :: .ref a0 :: rest)) := by
  unfold zCpR at h
  split at h
  · rename_i q0 q1 hs0 hs1
    split at h
    · rename_i hc
      obtain ⟨t0, n0, f⟩ := q0
      obtain ⟨t1, n1, g⟩ := q1
      obtain ⟨h1, h2, h3, h4, h5, h6, h7, h8⟩ := hc
      cases h1; cases h2
      have hk := kk _ h
      clear h
      obtain ⟨hexec, hb, hml, hown, hts⟩ := S
      intro T hT X
      have hid : ∀ f : Nat → Option Nat, (fun i => (f i).map idn) = f := fun f => by funext i; cases f i <;> rfl
      have hc0 : H[a0]? = some (vp_cell (K 5) (n0, .inr (.inr (.inr (.inr f))))) := by have h0 := hW.1.2.1.1 a0 _ hs0; rw [← hid f]; exact h0
      have hc1 : H[a]? = some (vp_cell (K 5) (n1, .inr (.inr (.inr (.inr g))))) := by have h0 := hW.1.2.1.1 a _ hs1; rw [← hid g]; exact h0
      obtain ⟨-, k0, hk0, cm0, hkk0⟩ := (hW.1.1.2 5 _ (g_T_at (F := cmF) rfl)).1 n0 (fun j => va_rf (f j))
      obtain ⟨-, k1, hk1, cm1, hkk1⟩ := (hW.1.1.2 5 _ (g_T_at (F := cmF) rfl)).1 n1 (fun j => va_rf (g j))
      obtain ⟨vm', X', step⟩ := X.arraycopy hexec hown (hts _ hlink) (hts _ q341) (hts _ q340) (hts _ q119) (src := a0) (dst := a) (cs := vp_cell (K 5) (n0, .inr (.inr (.inr (.inr f))))) (cd := vp_cell (K 5) (n1, .inr (.inr (.inr (.inr g))))) (srcPos := sp) (destPos := dp) (n := n) (by rw [hT]; exact hc0) (by rw [hT]; exact hc1)
        (fun _ h => by cases h) (fun _ h => by cases h) (fun h => by cases h) (fun h => by cases h) hk0 hk1 hkk0 hkk1 rfl h3 h4 h5
        (by rw [z_nat h3, z_nat h5]; show ¬ _ > ((arrV (K 5) n0 (fun j => va_rf (f j))).slots.size : Int); rw [arrV_size]; have h6 : sp.toNatClampNeg + n.toNatClampNeg ≤ n0 := h6; omega)
        (by rw [z_nat h4, z_nat h5]; show ¬ _ > ((arrV (K 5) n1 (fun j => va_rf (g j))).slots.size : Int); rw [arrV_size]; have h7 : dp.toNatClampNeg + n.toNatClampNeg ≤ n1 := h7; omega)
        (fun vm₁ hal i hi => by
          have h6 : sp.toNatClampNeg + n.toNatClampNeg ≤ n0 := h6
          have e : (vp_cell (K 5) (n0, .inr (.inr (.inr (.inr f))))).slots.getD (sp.toNatClampNeg + i) .null = va_rf (f (sp.toNatClampNeg + i)) := by
            show (arrV (K 5) n0 (fun j => va_rf (f j))).slots.getD _ _ = _
            rw [Array.getD_eq_getD_getElem?, arrV_read _ _ (by omega)]
            rfl
          rw [e]
          have h8i : (match f (sp.toNatClampNeg + i) with
            | none => true
            | some y => zAl [4, 5, 6, 10] Z y) = true := List.all_eq_true.mp h8 i (List.mem_range.mpr hi)
          cases hy : f (sp.toNatClampNeg + i) with
          | none => exact ⟨rfl, trivial⟩
          | some y =>
            rw [hy] at h8i
            have hv : zAl [4, 5, 6, 10] Z y = true := h8i
            unfold zAl at hv
            split at hv
            · rename_i q hq
              obtain ⟨ci, N, rf⟩ := q
              simp only [Bool.and_eq_true, beq_iff_eq] at hv
              obtain ⟨v1, v2⟩ := hv
              obtain ⟨⟨C', T', N'⟩, e1, e2, e3⟩ := zal_5 ci (by simpa using v1)
              have e2 : N' = cmN ci := e2
              subst v2
              subst e2
              obtain ⟨cellV, g1, g2, g3⟩ := d_recv hW hq e1
              obtain ⟨kA, comp, r1, r2, r3, -⟩ := (hW.1.1.2 5 _ (g_T_at (F := cmF) rfl)).2
              cases hk1.symm.trans r1
              cases hkk1.symm.trans r2
              obtain ⟨kC, hkC, -⟩ := Vm.findClass_spec g3
              obtain ⟨kE, hkE, -⟩ := Vm.findClass_spec r3
              obtain ⟨kC', hkC', -⟩ := hal.2.2 _ _ hkC
              obtain ⟨kE', hkE', -⟩ := hal.2.2 _ _ hkE
              refine ⟨rfl, cellV, (show T.heap[y]? = some cellV by rw [hT]; exact g1), (fun q h => by rw [h] at g2; cases g2), ⟨kC', hkC'⟩, ⟨kE', hkE'⟩, ?_⟩
              show vm₁.assignable _ _ = true
              rw [hal.assignable]
              rcases e3 with e3 | e3
              · have e3 : C' = "java/lang/Object" := e3
                rw [e3] at g3
                cases g3.symm.trans r3
                exact vz_refl _ _
              · exact vb_asgC (hW.1.2.2.2.2.1.2.2.2.2.1 _ e3) _ _ r3 g3
            · cases hv)
        (g := F0 m pc ls (.int n :: .int dp :: .ref a :: .int sp :: .ref a0 :: rest)) rfl (by rw [hml, ← hsize]) (rest := rest) rfl (by rw [hb]; exact hdg) hframes (by show 2 * 0 + _ + _ ≤ _; omega)
      have e1 : copied (vp_cell (K 5) (n0, .inr (.inr (.inr (.inr f))))) (vp_cell (K 5) (n1, .inr (.inr (.inr (.inr g))))) sp dp n = vp_cell (K 5) (n1, .inr (.inr (.inr (.inr (va_cpy f g sp.toNatClampNeg dp.toNatClampNeg n.toNatClampNeg))))) := by
        rw [vp_cell_q, vp_cell_q, vp_cell_q]
        exact va_copied (fun z => va_rf z) (K 5) (K 5) f g h6
      rw [e1] at X' step
      have hheap : ((T.setVm vm').setCell a (vp_cell (K 5) (n1, .inr (.inr (.inr (.inr (va_cpy f g sp.toNatClampNeg dp.toNatClampNeg n.toNatClampNeg))))))).heap = H.setIfInBounds a (vp_cell (K 5) (n1, .inr (.inr (.inr (.inr (va_cpy f g sp.toNatClampNeg dp.toNatClampNeg n.toNatClampNeg)))))) := by rw [← hT]; rfl
      have hW1 : ∀ Lx : List Loc, (∀ q ∈ Lx, q.base = a) → d_W gp D cmCl cmF K A s (updS Z.Sh a (d_ref 5 n1 (va_cpy f g sp.toNatClampNeg dp.toNatClampNeg n.toNatClampNeg))) Z.V Z.L Z.n (H.setIfInBounds a (vp_cell (K 5) (n1, .inr (.inr (.inr (.inr (va_cpy f g sp.toNatClampNeg dp.toNatClampNeg n.toNatClampNeg))))))) (locs ++ Lx) := by
        intro Lx hLx
        refine d_set (V' := Z.V) (L' := Z.L) hW hs1 (fun _ _ => rfl) (fun _ _ => rfl) (fun H1 h => ?_) hLx
        show H1[a]? = some (vp_cell (K 5) (n1, .inr (.inr (.inr (.inr (fun i => (va_cpy f g sp.toNatClampNeg dp.toNatClampNeg n.toNatClampNeg i).map idn))))))
        rw [hid]; exact h
      obtain ⟨t, a1, b1⟩ := hk _ _ (hW1 _ (fun q hq => by
        obtain ⟨z, -, hz⟩ := List.mem_map.mp hq
        rw [← hz])) _ hheap X'
      exact ⟨t, step t a1, b1⟩
    · cases h
  · cases h
end ZR3
theorem zAl_11 {Z : c_S} {a : Nat} (h : zAl [11] Z a = true) : ∃ rf, Z.Sh a = some (d_obj 11 0 rf) := by
  unfold zAl at h
  split at h
  · rename_i q hq
    obtain ⟨ci, N, rf⟩ := q
    simp only [Bool.and_eq_true, beq_iff_eq] at h
    obtain ⟨h1, h2⟩ := h
    have h1 : ci = 11 := by simpa using h1
    subst h1
    have h2 : 0 = N := h2
    subst h2
    exact ⟨rf, hq⟩
  · cases h
theorem zfit_0 : ∀ x : Int32, ((0 : Nat) = 0 ∨ isB x = true) → fits .int (.int x) = true := fun _ _ => rfl
theorem zfit_2 : ∀ x : Int32, ((2 : Nat) = 0 ∨ isB x = true) → fits .boolean (.int x) = true := by
  rintro x (h | h)
  · cases h
  · exact isB_fits h
