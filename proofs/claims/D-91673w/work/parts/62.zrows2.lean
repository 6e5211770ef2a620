/-! more rows of the component: casts, String constants in arrays, copies, calls that may throw -/
set_option maxRecDepth 100000
theorem vz_refl (vm : Vm) (c : ClassId) : vm.assignable c c = true := by
  show vm.assignableAux (255 + 1) c c = true
  rw [Vm.assignableAux]
  simp only [beq_self_eq_true, Bool.true_or]
theorem nsucc {a n b E : Nat} (h : a + (n + 1) * b ≤ E) : a + n * b + b ≤ E := by rw [Nat.succ_mul] at h; omega
theorem zm_lo {x n : Nat} (h : x ≤ 8) (h2 : 8 + 13 ≤ n) : x + 13 ≤ n := by omega
theorem zm_lo2 {x n : Nat} (h : x ≤ 8) (h2 : 60 ≤ n) : x + (nativeFrameWords "java/lang/System" "arraycopy" 5 + 11) ≤ n := by
  have hw : nativeFrameWords "java/lang/System" "arraycopy" 5 ≤ 40 := by decide
  omega
theorem zal_5 : ∀ ci ∈ [4, 5, 6, 10], ∃ q, cmCl[ci]? = some q ∧ q.2.2 = cmN ci ∧ (q.1 = "java/lang/Object" ∨ (Cond.castable q.1 "java/lang/Object") ∈ nestW) := by
  intro ci h
  simp only [List.mem_cons, List.not_mem_nil, or_false] at h
  rcases h with rfl | rfl | rfl | rfl
  · exact ⟨_, rfl, rfl, Or.inr (nestW_in q2039 rfl)⟩
  · exact ⟨_, rfl, rfl, Or.inr (nestW_in q2046 rfl)⟩
  · exact ⟨_, rfl, rfl, Or.inr (nestW_in q2047 rfl)⟩
  · exact ⟨_, rfl, rfl, Or.inr (nestW_in q2051 rfl)⟩
theorem zal_7 : ∀ ci ∈ [7], ∃ q, cmCl[ci]? = some q ∧ q.2.2 = cmN ci ∧ (q.1 = "FrostRing$Slot" ∨ (Cond.castable q.1 "FrostRing$Slot") ∈ nestW) := by
  intro ci h
  simp only [List.mem_cons, List.not_mem_nil, or_false] at h
  subst h
  exact ⟨_, rfl, rfl, Or.inl rfl⟩
theorem zal_8 : ∀ ci ∈ [4], ∃ q, cmCl[ci]? = some q ∧ q.2.2 = cmN ci ∧ (q.1 = "FrostRing$Ground" ∨ (Cond.castable q.1 "FrostRing$Ground") ∈ nestW) := by
  intro ci h
  simp only [List.mem_cons, List.not_mem_nil, or_false] at h
  subst h
  exact ⟨_, rfl, rfl, Or.inl rfl⟩
theorem zal_9 : ∀ ci ∈ [1], ∃ q, cmCl[ci]? = some q ∧ q.2.2 = cmN ci ∧ (q.1 = "FrostRing$Field" ∨ (Cond.castable q.1 "FrostRing$Field") ∈ nestW) := by
  intro ci h
  simp only [List.mem_cons, List.not_mem_nil, or_false] at h
  subst h
  exact ⟨_, rfl, rfl, Or.inl rfl⟩
theorem zal_10 : ∀ ci ∈ [11, 12], ∃ q, cmCl[ci]? = some q ∧ q.2.2 = cmN ci ∧ (q.1 = "FrostRing$Cond" ∨ (Cond.castable q.1 "FrostRing$Cond") ∈ nestW) := by
  intro ci h
  simp only [List.mem_cons, List.not_mem_nil, or_false] at h
  rcases h with rfl | rfl
  · exact ⟨_, rfl, rfl, Or.inr (nestW_in q2060 rfl)⟩
  · exact ⟨_, rfl, rfl, Or.inr (nestW_in q2061 rfl)⟩
def oI (o : (Int32 × c_S) ⊕ (Nat × c_S)) : Outcome := match o with
  | .inl q => .returned (some (.int q.1))
  | .inr q => .threw q.1
def oIs (o : (Int32 × c_S) ⊕ (Nat × c_S)) : c_S := match o with
  | .inl q => q.2
  | .inr q => q.2
def oV (o : c_S ⊕ (Nat × c_S)) : Outcome := match o with
  | .inl _ => .returned none
  | .inr q => .threw q.1
def oVs (o : c_S ⊕ (Nat × c_S)) : c_S := match o with
  | .inl q => q
  | .inr q => q.2
def oR (o : ((Option Nat) × c_S) ⊕ (Nat × c_S)) : Outcome := match o with
  | .inl q => .returned (some (va_rf q.1))
  | .inr q => .threw q.1
def oRs (o : ((Option Nat) × c_S) ⊕ (Nat × c_S)) : c_S := match o with
  | .inl q => q.2
  | .inr q => q.2
section ZS2
variable {ρ : Type}
def zsS (Z : c_S) (t a : Nat) (i : Int32) (v : Nat) (k : c_S → Option ρ) : Option ρ := csR Z.Sh t a i (some v) fun Sh => k ⟨Sh, Z.V, Z.L, Z.n⟩
/-- ints copied between arrays of one type (booleans: their contents are 0 or 1) -/
def zCpI (Z : c_S) (t a0 : Nat) (sp : Int32) (a : Nat) (dp n : Int32) (k : c_S → Option ρ) : Option ρ := match Z.Sh a0, Z.Sh a with
  | some (.inl q0), some (.inl q1) => if q0.1 = t ∧ q1.1 = t ∧ ¬ sp < 0 ∧ ¬ dp < 0 ∧ ¬ n < 0 ∧ sp.toNatClampNeg + n.toNatClampNeg ≤ q0.2 ∧ dp.toNatClampNeg + n.toNatClampNeg ≤ q1.2 ∧ (t = 0 ∨ (List.range n.toNatClampNeg).all (fun i => isB (Z.V a0 (sp.toNatClampNeg + i))) = true) then k ⟨Z.Sh, rowV Z.V a (va_cpy (Z.V a0) (Z.V a) sp.toNatClampNeg dp.toNatClampNeg n.toNatClampNeg), Z.L, Z.n⟩ else none
  | _, _ => none
end ZS2
section ZR2
variable {p : Program} {l : Launch} {e : Env} {R : Room} {s : State} {m : MethodId} {args : Array Value} {below : List Frame} {meth : Method} {c : Code} {H : Heap} {locs : List Loc} {cells slots : Nat} {Q : State → Prop}
variable {gp : Nat → Nat} {own : String} {cc : ByteArray} {pc nL : Nat} {ls : Array Slot} {rest st0 st1 : List Value} {D : va_G} {K : Nat → ClassId} {A : Nat → Prop} {Z : c_S} {a : Nat} {ρ : Type} {r : ρ}
variable {C ref : String} {T : u_T} {N ci index i : Nat} {ty : Nat → FieldType}
theorem zsame_mod (S : CallFix p m c cc nL s args lw_all own) : zSame s "java/util/ArrayList" TJ2 0 := by
  intro x h
  exact u_same (S.2.2.2.2 _ q380) x h
theorem zw_oinit (S : CallFix p m c cc nL s args lw_all own) (hlk : Cond.methodLink own index yJ20_init ∈ lw_all) (hsize : ls.size = nL) (hframes : 1 ≤ R.frames) (hro : (rest.map fun v => v.category).sum ≤ 8) (hlo : 20 ≤ R.locals) (hdg : decode cc pc = .ok (.invokespecial index, 3))
    (kk : W p l e R s m args below meth c H locs cells slots Q (F0 m (pc + 3) ls rest)) : W p l e R s m args below meth c H locs cells slots Q (F0 m pc ls (.ref a :: rest)) :=
  W.objInit S.1 S.2.1 S.2.2.2.1 (S.2.2.2.2 _ hlk) (S.2.2.2.2 _ q170) (S.2.2.2.2 _ q171) (g := F0 m pc ls (.ref a :: rest)) rfl (hsize.trans S.2.2.1.symm) rfl hdg hframes (by show 2 * 0 + _ + 12 ≤ _; omega) kk
theorem z_eqA0 {b : Nat} (h : a = b) (kk : W p l e R s m args below meth c H locs cells slots Q (F0 m pc ls (.ref b :: rest))) : W p l e R s m args below meth c H locs cells slots Q (F0 m pc ls (.ref a :: rest)) := by rw [h]; exact kk
theorem z_eqA1 {b : Nat} {x : Value} (h : a = b) (kk : W p l e R s m args below meth c H locs cells slots Q (F0 m pc ls (x :: .ref b :: rest))) : W p l e R s m args below meth c H locs cells slots Q (F0 m pc ls (x :: .ref a :: rest)) := by rw [h]; exact kk
theorem zw_ck {o : Option Nat} {k : Option ρ} (S : CallFix p m c cc nL s args lw_all own) (hW : z_W gp D K A s Z H locs) (hC : zC ci C T N ty) (hcl : Cond.classLink own index C ∈ lw_all) (hdg : decode cc pc = .ok (.checkcast index, 3)) (h : zCk Z o ci N k = some r)
    (kk : k = some r → W p l e R s m args below meth c H locs cells slots Q (F0 m (pc + 3) ls (va_rf o :: rest))) : W p l e R s m args below meth c H locs cells slots Q (F0 m pc ls (va_rf o :: rest)) := by
  cases o with
  | none => exact lv_castN S.1 S.2.1 hdg (kk h)
  | some b =>
    obtain ⟨⟨rf, hs⟩, h⟩ := zK_some (show zK Z b ci N k = some r from h)
    exact va_castS S.1 S.2.1 S.2.2.2.1 (S.2.2.2.2 _ hcl) (hW.1.1.1 ci _ hC.1).2 (d_recv hW hs hC.1) hdg (kk h)
theorem zw_aastS {i : Int32} {w : Nat} {k : c_S → Option ρ} (S : CallFix p m c cc nL s args lw_all own) (hW : z_W gp D K A s Z H locs) (hw : w < 24) (hdg : decode cc pc = .ok (.aastore, 1)) (h : zsS Z 6 a i (gp w) k = some r)
    (kk : ∀ Z', k Z' = some r → ∀ (H1 : Heap) (locs1 : List Loc), z_W gp D K A s Z' H1 locs1 → W p l e R s m args below meth c H1 locs1 cells slots Q (F0 m (pc + 1) ls rest)) : W p l e R s m args below meth c H locs cells slots Q (F0 m pc ls (.ref (gp w) :: .int i :: .ref a :: rest)) := by
  obtain ⟨n, f, hs, hin, Sh', eS, h⟩ := csR_some h
  obtain ⟨hx, hb, -, hown, hts⟩ := S
  subst eS
  have hlt : i.toNatClampNeg < n := Nat.not_le.mp fun q => hin (Or.inr q)
  have h00 : ¬ i < 0 := fun q => hin (Or.inl q)
  have h0 : H[a]? = some (vp_cell (K 6) (n, .inr (.inr (.inr (.inr (fun i => (f i).map idn)))))) := hW.1.2.1.1 a _ hs
  obtain ⟨cellV, g1, g2, g3⟩ := va_Orecv (hW.1.2.2.2.2.1.1 w hw).1 hW.1.2.2.2.1
  obtain ⟨kA, comp, k1, k2, k3, -⟩ := (hW.1.1.2 6 _ (g_T_at (F := cmF) rfl)).2
  have hcomp : comp = cellV.cls := Option.some.inj (k3.symm.trans g3)
  obtain ⟨kD, hkD, -⟩ := Vm.findClass_spec k3
  refine W.aast hx hb h0 (fun q h => by cases h) (fun h => by cases h) k1 k2 rfl hkD ⟨h00, by show _ < (arrV _ _ _).slots.size; rw [arrV_size]; exact hlt⟩ g1 (fun q h => by rw [h] at g2; cases g2) (by rw [← hcomp]; exact hkD) (by rw [← hcomp]; exact vz_refl _ _) rfl rfl hdg fun H1 e z oq => ?_
  refine kk _ h H1 _ ⟨⟨hW.1.1, d_put hW.1.2.1 (fun _ _ => rfl) (fun _ _ => rfl) ?_ (fun j d' hj _ => oq j hj), ?_, hW.1.2.2.2.1.put z oq (hW.1.2.2.1 a _ hs), hW.1.2.2.2.2.1, rfl, z.trans hW.1.2.2.2.2.2.2⟩, hW.2⟩
  · show H1[a]? = some (vp_cell (K 6) (n, .inr (.inr (.inr (.inr (fun j => (va_up f i.toNatClampNeg (some (gp w)) j).map idn))))))
    rw [e, vp_cell_q, vp_cell_q, arrV_store]
    congr 2
    funext q
    by_cases hq : q = i.toNatClampNeg
    · subst hq
      simp [updV, va_up, va_rf]
    · simp [updV, va_up, hq]
  · intro k d hk
    by_cases hka : k = a
    · subst hka; exact hW.1.2.2.1 k _ hs
    · have hk : updS Z.Sh a (d_ref 6 n (va_up f i.toNatClampNeg (some (gp w)))) k = some d := hk
      simp [updS, hka] at hk; exact hW.1.2.2.1 k _ hk
end ZR2
