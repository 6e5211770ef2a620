/-! THE COMPONENT's STATE in one piece: rows driven by what is computed -/
set_option maxRecDepth 100000
abbrev c_S : Type := g_Sh × g_V × g_L × Nat
abbrev c_S.Sh (Z : c_S) : g_Sh := Z.1
abbrev c_S.V (Z : c_S) : g_V := Z.2.1
abbrev c_S.L (Z : c_S) : g_L := Z.2.2.1
abbrev c_S.n (Z : c_S) : Nat := Z.2.2.2
abbrev z_W (gp : Nat → Nat) (D : va_G) (K : Nat → ClassId) (A : Nat → Prop) (s : State) (Z : c_S) (H : Heap) (locs : List Loc) : Prop := d_W gp D cmCl cmF K A s Z.Sh Z.V Z.L Z.n H locs
abbrev z_Pc (gp : Nat → Nat) (av : List Value) (D : va_G) (K : Nat → ClassId) (Z : c_S) : Array Value → State → Prop := d_Pc gp av D cmCl cmF K Z.Sh Z.V Z.L Z.n
abbrev z_Q (o : Outcome) (D : va_G) (K : Nat → ClassId) (A : Nat → Prop) (Z : c_S) : Array Value → State → Outcome → State → Prop := d_Q o D cmCl cmF K A Z.Sh Z.V Z.L Z.n
abbrev z_A (Z : c_S) : Nat → Prop := d_A Z.Sh Z.n
def zRef : FieldType → Bool
  | .object _ => true
  | .array _ => true
  | _ => false
def zOk : FieldType → Bool
  | .long => false
  | .double => false
  | .float => false
  | _ => true
def zrf (ty : Nat → FieldType) : Nat → Option (Option Nat) := fun i => if zRef (ty i) = true then some none else none
theorem z_dv {ty : Nat → FieldType} {j : Nat} (h : zOk (ty j) = true) : defaultValue (ty j) = g_fv idn (zrf ty) (fun _ => 0) j := by
  unfold g_fv zrf
  cases hty : ty j <;> simp_all [zRef, zOk, defaultValue]
def zC (ci : Nat) (C : String) (T : u_T) (N : Nat) (ty : Nat → FieldType) : Prop := cmCl[ci]? = some (C, T, N) ∧ (∀ w ∈ u_ws C T N, w ∈ lw_all) ∧ (∀ k, k < N → parseFieldDescriptor (T k).2.2.1 = some (ty k)) ∧ (∀ a, a < N → ∀ b, b < N → a ≠ b → (T a).2.1 ≠ (T b).2.1) ∧ ∀ k, k < N → zOk (ty k) = true
theorem zC_X0 : zC 0 RX0 TX0 11 tyX0 := ⟨rfl, in_X0, tyX0_ok, nmX0, by decide⟩
theorem zC_X1 : zC 1 RX1 TX1 20 tyX1 := ⟨rfl, in_X1, tyX1_ok, nmX1, by decide⟩
theorem zC_X2 : zC 2 RX2 TX2 13 tyX2 := ⟨rfl, in_X2, tyX2_ok, nmX2, by decide⟩
theorem zC_X3 : zC 3 RX3 TX3 11 tyX3 := ⟨rfl, in_X3, tyX3_ok, nmX3, by decide⟩
theorem zC_X4 : zC 4 RX4 TX4 4 tyX4 := ⟨rfl, in_X4, tyX4_ok, nmX4, by decide⟩
theorem zC_X5 : zC 5 RX5 TX5 6 tyX5 := ⟨rfl, in_X5, tyX5_ok, nmX5, by decide⟩
theorem zC_X6 : zC 6 RX6 TX6 3 tyX6 := ⟨rfl, in_X6, tyX6_ok, nmX6, by decide⟩
theorem zC_X7 : zC 7 RX7 TX7 1 tyX7 := ⟨rfl, in_X7, tyX7_ok, nmX7, by decide⟩
theorem zC_X8 : zC 8 RX8 TX8 40 tyX8 := ⟨rfl, in_X8, tyX8_ok, nmX8, by decide⟩
theorem zC_X9 : zC 9 RX9 TX9 8 tyX9 := ⟨rfl, in_X9, tyX9_ok, nmX9, by decide⟩
theorem zC_X10 : zC 10 RX10 TX10 2 tyX10 := ⟨rfl, in_X10, tyX10_ok, nmX10, by decide⟩
def tyX12 : Nat → FieldType := fun _ => .int
theorem zC_X12 : zC 11 RX12 T0 0 tyX12 := ⟨rfl, fun w h => absurd h List.not_mem_nil, fun k h => absurd h (Nat.not_lt_zero k), fun k h => absurd h (Nat.not_lt_zero k), fun k h => absurd h (Nat.not_lt_zero k)⟩
theorem zC_X13 : zC 12 RX13 TX13 3 tyX13 := ⟨rfl, in_X13, tyX13_ok, nmX13, by decide⟩
theorem zC_X14 : zC 13 RX14 TX14 9 tyX14 := ⟨rfl, in_X14, tyX14_ok, nmX14, by decide⟩
theorem zC_J2 : zC 14 RJ2 TJ2 3 tyJ2 := ⟨rfl, in_J2, tyJ2_ok, nmJ2, by decide⟩
def zSame (s : State) (ref : String) (T : u_T) (i : Nat) : Prop := ∀ x, s.fieldFound? (T i).1 (T i).2.1 (T i).2.2.1 = some x → s.fieldFound? ref (T i).2.1 (T i).2.2.1 = some x
def cmN : Nat → Nat := fun i => [11, 20, 13, 11, 4, 6, 3, 1, 40, 8, 2, 0, 3, 9, 3, 6, 8, 6, 6].getD i 0
theorem updS_self {Sh : g_Sh} {a : Nat} {d : g_D} (h : Sh a = some d) : Sh = updS Sh a d := by
  funext k
  unfold updS
  by_cases e : k = a
  · rw [if_pos e, e, h]
  · rw [if_neg e]
theorem z_nr {ty : FieldType} {o : Option Nat} (h : zRef ty = true) : narrow ty (va_rf o) = va_rf o ∧ fits ty (va_rf o) = true := by
  cases ty <;> first | (cases o <;> exact ⟨rfl, rfl⟩) | cases h
theorem z_cat {o : Option Nat} : (va_rf o).category = 1 := by cases o <;> rfl
theorem z_ro {rest : List Value} (h : rest.length ≤ 4) : (rest.map fun v => v.category).sum ≤ 8 := by
  have hc : ∀ v : Value, v.category ≤ 2 := by intro v; cases v <;> exact Nat.le_of_ble_eq_true rfl
  have : ∀ l : List Value, (l.map fun v => v.category).sum ≤ 2 * l.length := by
    intro l
    induction l with
    | nil => simp
    | cons a l ih => simp only [List.map_cons, List.sum_cons, List.length_cons]; have := hc a; omega
  have := this rest
  omega
/-! the words -/
section ZS
variable {ρ : Type}
/-- a reference field that is not null -/
def cA (Sh : g_Sh) (a ci N i : Nat) (k : Nat → Option ρ) : Option ρ := cR Sh a ci N i fun o => nn o k
def zPI (Z : c_S) (a ci N i : Nat) (x : Int32) (k : c_S → Option ρ) : Option ρ := cPI Z.Sh Z.V a ci N i x fun V => k ⟨Z.Sh, V, Z.L, Z.n⟩
def zPR (Z : c_S) (a ci N i : Nat) (o : Option Nat) (k : c_S → Option ρ) : Option ρ := cPR Z.Sh a ci N i o fun Sh => k ⟨Sh, Z.V, Z.L, Z.n⟩
def zsI (Z : c_S) (t a : Nat) (i x : Int32) (k : c_S → Option ρ) : Option ρ := csI Z.Sh Z.V t a i x fun V => k ⟨Z.Sh, V, Z.L, Z.n⟩
def zsL (Z : c_S) (t a : Nat) (i : Int32) (x : Int64) (k : c_S → Option ρ) : Option ρ := csL Z.Sh Z.L t a i x fun L => k ⟨Z.Sh, Z.V, L, Z.n⟩
def zAl (al : List Nat) (Z : c_S) (v : Nat) : Bool := match Z.Sh v with
  | some (.inr (.inr (.inr q))) => al.contains q.1 && (cmN q.1 == q.2.1)
  | _ => false
def zsR (al : List Nat) (Z : c_S) (t a : Nat) (i : Int32) (o : Option Nat) (k : c_S → Option ρ) : Option ρ := match o with
  | none => csR Z.Sh t a i none fun Sh => k ⟨Sh, Z.V, Z.L, Z.n⟩
  | some v => okI (zAl al Z v) <| csR Z.Sh t a i (some v) fun Sh => k ⟨Sh, Z.V, Z.L, Z.n⟩
def zK (Z : c_S) (a ci N : Nat) (k : Option ρ) : Option ρ := match Z.Sh a with
  | some (.inr (.inr (.inr q))) => if q.1 = ci ∧ q.2.1 = N then k else none
  | _ => none
def zLen (Z : c_S) (a : Nat) (k : Int32 → Option ρ) : Option ρ := match Z.Sh a with
  | some (.inl q) => if q.1 < 12 then k (Int32.ofNat q.2) else none
  | some (.inr (.inl q)) => if q.1 < 12 then k (Int32.ofNat q.2) else none
  | some (.inr (.inr (.inl q))) => if q.1 < 12 then k (Int32.ofNat q.2.1) else none
  | _ => none
def zNew (Z : c_S) (ci N : Nat) (ty : Nat → FieldType) (k : c_S → Nat → Option ρ) : Option ρ := k ⟨updS Z.Sh Z.n (d_obj ci N (zrf ty)), rowV Z.V Z.n (fun _ => 0), Z.L, Z.n + 1⟩ Z.n
def zNewI (Z : c_S) (t N : Nat) (k : c_S → Nat → Option ρ) : Option ρ := k ⟨updS Z.Sh Z.n (d_int t N), rowV Z.V Z.n (fun _ => 0), Z.L, Z.n + 1⟩ Z.n
def zNewL (Z : c_S) (t N : Nat) (k : c_S → Nat → Option ρ) : Option ρ := k ⟨updS Z.Sh Z.n (d_lng t N), Z.V, rowL Z.L Z.n (fun _ => 0), Z.n + 1⟩ Z.n
def zNewR (Z : c_S) (t B : Nat) (n : Int32) (k : c_S → Nat → Option ρ) : Option ρ := if n < 0 ∨ B < n.toNatClampNeg then none else k ⟨updS Z.Sh Z.n (d_ref t n.toNatClampNeg (fun _ => none)), Z.V, Z.L, Z.n + 1⟩ Z.n
/-- a cast to a class: null, or exactly that class -/
def zCk (Z : c_S) (o : Option Nat) (ci N : Nat) (k : Option ρ) : Option ρ := match o with
  | none => k
  | some a => zK Z a ci N k
def zNl (o : Option Nat) (k0 : Option ρ) (k1 : Nat → Option ρ) : Option ρ := match o with
  | none => k0
  | some a => k1 a
/-- an address that is a String constant's -/
def zSt (gp : Nat → Nat) (a : Nat) (k : Nat → Option ρ) : Option ρ := match (List.range 24).find? (fun w => gp w == a) with
  | some w => k w
  | none => none
variable {r : ρ}
theorem cA_some {Sh : g_Sh} {a ci N i : Nat} {k : Nat → Option ρ} (h : cA Sh a ci N i k = some r) : ∃ rf b, Sh a = some (d_obj ci N rf) ∧ rf i = some (some b) ∧ k b = some r := by
  obtain ⟨rf, o, h1, h2, h3⟩ := cR_some h
  obtain ⟨b, rfl, h4⟩ := nn_some h3
  exact ⟨rf, b, h1, h2, h4⟩
theorem zK_some {Z : c_S} {a ci N : Nat} {k : Option ρ} (h : zK Z a ci N k = some r) : (∃ rf, Z.Sh a = some (d_obj ci N rf)) ∧ k = some r := by
  unfold zK at h
  split at h
  · rename_i q hq
    split at h
    · rename_i hc
      obtain ⟨c', n', rf⟩ := q
      obtain ⟨h1, h2⟩ := hc
      cases h1; cases h2
      exact ⟨⟨rf, hq⟩, h⟩
    · cases h
  · cases h
theorem zNew_some {Z : c_S} {ci N : Nat} {ty : Nat → FieldType} {k : c_S → Nat → Option ρ} (h : zNew Z ci N ty k = some r) : ∃ Z' a, Z' = ⟨updS Z.Sh Z.n (d_obj ci N (zrf ty)), rowV Z.V Z.n (fun _ => 0), Z.L, Z.n + 1⟩ ∧ a = Z.n ∧ k Z' a = some r := ⟨_, _, rfl, rfl, h⟩
theorem zSt_some {gp : Nat → Nat} {a : Nat} {k : Nat → Option ρ} (h : zSt gp a k = some r) : ∃ w, w < 24 ∧ a = gp w ∧ k w = some r := by
  unfold zSt at h
  split at h
  · rename_i w hw
    have h1 := List.find?_some hw
    have h2 := List.mem_of_find?_eq_some hw
    exact ⟨w, List.mem_range.mp h2, (by simpa using h1 : gp w = a).symm, h⟩
  · cases h
end ZS
/-! rows -/
section ZR
variable {p : Program} {l : Launch} {e : Env} {R : Room} {s : State} {m : MethodId} {args : Array Value} {below : List Frame} {meth : Method} {c : Code} {H : Heap} {locs : List Loc} {cells slots : Nat} {Q : State → Prop}
variable {gp : Nat → Nat} {own : String} {cc : ByteArray} {pc nL : Nat} {ls : Array Slot} {rest st0 : List Value} {D : va_G} {K : Nat → ClassId} {A : Nat → Prop} {Z : c_S} {a : Nat} {ρ : Type} {r : ρ}
variable {C ref : String} {T : u_T} {N ci index i : Nat} {ty : Nat → FieldType}
theorem zw_getI {k : Int32 → Option ρ} (S : CallFix p m c cc nL s args lw_all own) (hW : z_W gp D K A s Z H locs) (hC : zC ci C T N ty) (hi : i < N) (hq : d_lk own index ref (T i).2.1 (T i).2.2.1) (hsame : zSame s ref T i) (hdg : decode cc pc = .ok (.getfield index, 3)) (h : cI Z.Sh Z.V a ci N i k = some r)
    (kk : ∀ x, k x = some r → W p l e R s m args below meth c H locs cells slots Q (F0 m (pc + 3) ls (.int x :: rest))) : W p l e R s m args below meth c H locs cells slots Q (F0 m pc ls (.ref a :: rest)) := by
  obtain ⟨rf, hs, hn, x, ex, h⟩ := cI_some h
  exact d_getv S hW hs hC.1 hC.2.1 i hi hq hsame (by subst ex; simp [g_fv, hn]) hdg (kk x h)
theorem zw_getR {k : Option Nat → Option ρ} (S : CallFix p m c cc nL s args lw_all own) (hW : z_W gp D K A s Z H locs) (hC : zC ci C T N ty) (hi : i < N) (hq : d_lk own index ref (T i).2.1 (T i).2.2.1) (hsame : zSame s ref T i) (hdg : decode cc pc = .ok (.getfield index, 3)) (h : cR Z.Sh a ci N i k = some r)
    (kk : ∀ o, k o = some r → W p l e R s m args below meth c H locs cells slots Q (F0 m (pc + 3) ls (va_rf o :: rest))) : W p l e R s m args below meth c H locs cells slots Q (F0 m pc ls (.ref a :: rest)) := by
  obtain ⟨rf, o, hs, hn, h⟩ := cR_some h
  exact d_getv S hW hs hC.1 hC.2.1 i hi hq hsame (d_fv hn) hdg (kk o h)
theorem zw_getA {k : Nat → Option ρ} (S : CallFix p m c cc nL s args lw_all own) (hW : z_W gp D K A s Z H locs) (hC : zC ci C T N ty) (hi : i < N) (hq : d_lk own index ref (T i).2.1 (T i).2.2.1) (hsame : zSame s ref T i) (hdg : decode cc pc = .ok (.getfield index, 3)) (h : cA Z.Sh a ci N i k = some r)
    (kk : ∀ b, k b = some r → W p l e R s m args below meth c H locs cells slots Q (F0 m (pc + 3) ls (.ref b :: rest))) : W p l e R s m args below meth c H locs cells slots Q (F0 m pc ls (.ref a :: rest)) := by
  obtain ⟨rf, b, hs, hn, h⟩ := cA_some h
  exact d_getv S hW hs hC.1 hC.2.1 i hi hq hsame (d_fv hn) hdg (kk b h)
theorem zw_putI {x : Int32} {fty : FieldType} {k : c_S → Option ρ} (S : CallFix p m c cc nL s args lw_all own) (hW : z_W gp D K A s Z H locs) (hC : zC ci C T N ty) (hi : i < N) (hfin : (T i).2.2.2 = false ∨ ((T i).2.2.2 = true ∧ meth.name = "<init>" ∧ (T i).1 = own ∧ Cond.fieldLink own index ref (T i).2.1 (T i).2.2.1 ∈ lw_all)) (hty : ty i = fty) (hn : narrow fty (.int x) = .int x) (hfit : fits fty (.int x) = true)
    (hq : d_lk own index ref (T i).2.1 (T i).2.2.1) (hsame : zSame s ref T i) (hdg : decode cc pc = .ok (.putfield index, 3)) (h : zPI Z a ci N i x k = some r)
    (kk : ∀ Z', k Z' = some r → ∀ (H1 : Heap) (locs1 : List Loc), z_W gp D K A s Z' H1 locs1 → W p l e R s m args below meth c H1 locs1 cells slots Q (F0 m (pc + 3) ls rest)) : W p l e R s m args below meth c H locs cells slots Q (F0 m pc ls (.int x :: .ref a :: rest)) := by
  unfold zPI at h
  obtain ⟨rf, hs, hr, V', eV, h⟩ := cPI_some h
  subst eV
  exact d_putv S hW hs hC.1 hC.2.1 ty hC.2.2.1 hC.2.2.2.1 i hi hfin hty hn hfit hq hsame (V' := upd2 Z.V a i x) (rf' := rf) upd2_ne (by simp [g_fv, hr, upd2_eq, upd]) (fun j hj => by simp [g_fv, upd2_eq, upd, hj]) (Sh' := Z.Sh) (updS_self hs) hdg (fun H1 locs1 hW1 => kk _ h H1 locs1 hW1)
theorem zw_putR {o : Option Nat} {k : c_S → Option ρ} (S : CallFix p m c cc nL s args lw_all own) (hW : z_W gp D K A s Z H locs) (hC : zC ci C T N ty) (hi : i < N) (hfin : (T i).2.2.2 = false ∨ ((T i).2.2.2 = true ∧ meth.name = "<init>" ∧ (T i).1 = own ∧ Cond.fieldLink own index ref (T i).2.1 (T i).2.2.1 ∈ lw_all)) (hty : zRef (ty i) = true)
    (hq : d_lk own index ref (T i).2.1 (T i).2.2.1) (hsame : zSame s ref T i) (hdg : decode cc pc = .ok (.putfield index, 3)) (h : zPR Z a ci N i o k = some r)
    (kk : ∀ Z', k Z' = some r → ∀ (H1 : Heap) (locs1 : List Loc), z_W gp D K A s Z' H1 locs1 → W p l e R s m args below meth c H1 locs1 cells slots Q (F0 m (pc + 3) ls rest)) : W p l e R s m args below meth c H locs cells slots Q (F0 m pc ls (va_rf o :: .ref a :: rest)) := by
  unfold zPR at h
  obtain ⟨rf, o0, hs, hr, Sh', eS, h⟩ := cPR_some h
  subst eS
  exact d_putv S hW hs hC.1 hC.2.1 ty hC.2.2.1 hC.2.2.2.1 i hi hfin rfl (z_nr hty).1 (z_nr hty).2 hq hsame (V' := Z.V) (rf' := updR rf i o) (fun _ _ => rfl) (d_fv (by simp [updR])) (fun j hj => by simp [g_fv, updR, hj]) rfl hdg (fun H1 locs1 hW1 => kk _ h H1 locs1 hW1)
theorem zw_iald {i : Int32} {k : Int32 → Option ρ} (S : CallFix p m c cc nL s args lw_all own) (hW : z_W gp D K A s Z H locs) (hdg : decode cc pc = .ok (.iaload, 1)) (h : caI Z.Sh Z.V 0 a i k = some r)
    (kk : ∀ x, k x = some r → W p l e R s m args below meth c H locs cells slots Q (F0 m (pc + 1) ls (.int x :: rest))) : W p l e R s m args below meth c H locs cells slots Q (F0 m pc ls (.int i :: .ref a :: rest)) := by
  obtain ⟨n, hs, hin, x, ex, h⟩ := caI_some h
  exact g_iald S hW.1 (k := a) hs rfl hin ex hdg (kk x h)
theorem zw_bald {i : Int32} {k : Int32 → Option ρ} (S : CallFix p m c cc nL s args lw_all own) (hW : z_W gp D K A s Z H locs) (hdg : decode cc pc = .ok (.baload, 1)) (h : caI Z.Sh Z.V 1 a i k = some r)
    (kk : ∀ x, k x = some r → W p l e R s m args below meth c H locs cells slots Q (F0 m (pc + 1) ls (.int x :: rest))) : W p l e R s m args below meth c H locs cells slots Q (F0 m pc ls (.int i :: .ref a :: rest)) := by
  obtain ⟨n, hs, hin, x, ex, h⟩ := caI_some h
  exact g_bald S hW.1 (k := a) hs rfl hin ex hdg (kk x h)
theorem zw_zald {i : Int32} {k : Int32 → Option ρ} (S : CallFix p m c cc nL s args lw_all own) (hW : z_W gp D K A s Z H locs) (hdg : decode cc pc = .ok (.baload, 1)) (h : caI Z.Sh Z.V 2 a i k = some r)
    (kk : ∀ x, k x = some r → W p l e R s m args below meth c H locs cells slots Q (F0 m (pc + 1) ls (.int x :: rest))) : W p l e R s m args below meth c H locs cells slots Q (F0 m pc ls (.int i :: .ref a :: rest)) := by
  obtain ⟨n, hs, hin, x, ex, h⟩ := caI_some h
  exact g_zald S hW.1 (k := a) hs rfl hin ex hdg (kk x h)
theorem zw_sald {i : Int32} {k : Int32 → Option ρ} (S : CallFix p m c cc nL s args lw_all own) (hW : z_W gp D K A s Z H locs) (hdg : decode cc pc = .ok (.saload, 1)) (h : caI Z.Sh Z.V 3 a i k = some r)
    (kk : ∀ x, k x = some r → W p l e R s m args below meth c H locs cells slots Q (F0 m (pc + 1) ls (.int x :: rest))) : W p l e R s m args below meth c H locs cells slots Q (F0 m pc ls (.int i :: .ref a :: rest)) := by
  obtain ⟨n, hs, hin, x, ex, h⟩ := caI_some h
  exact d_sald S hW hs rfl hin ex hdg (kk x h)
theorem zw_lald {i : Int32} {k : Int64 → Option ρ} (S : CallFix p m c cc nL s args lw_all own) (hW : z_W gp D K A s Z H locs) (hdg : decode cc pc = .ok (.laload, 1)) (h : caL Z.Sh Z.L 4 a i k = some r)
    (kk : ∀ x, k x = some r → W p l e R s m args below meth c H locs cells slots Q (F0 m (pc + 1) ls (.long x :: rest))) : W p l e R s m args below meth c H locs cells slots Q (F0 m pc ls (.int i :: .ref a :: rest)) := by
  obtain ⟨n, hs, hin, x, ex, h⟩ := caL_some h
  exact g_lald S hW.1 (k := a) hs rfl hin ex hdg (kk x h)
theorem zw_aald {i : Int32} {t : Nat} {E : String} {k : Option Nat → Option ρ} (S : CallFix p m c cc nL s args lw_all own) (hW : z_W gp D K A s Z H locs) (ht : cmF[t]? = some (.object E)) (hdg : decode cc pc = .ok (.aaload, 1)) (h : caR Z.Sh t a i k = some r)
    (kk : ∀ o, k o = some r → W p l e R s m args below meth c H locs cells slots Q (F0 m (pc + 1) ls (va_rf o :: rest))) : W p l e R s m args below meth c H locs cells slots Q (F0 m pc ls (.int i :: .ref a :: rest)) := by
  obtain ⟨n, f, hs, hin, o, eo, h⟩ := caR_some h
  exact d_aald S hW hs ht hin eo hdg (kk o h)
theorem zw_aaldA {i : Int32} {t : Nat} {E : FieldType} {k : Option Nat → Option ρ} (S : CallFix p m c cc nL s args lw_all own) (hW : z_W gp D K A s Z H locs) (ht : cmF[t]? = some (.array E)) (hdg : decode cc pc = .ok (.aaload, 1)) (h : caR Z.Sh t a i k = some r)
    (kk : ∀ o, k o = some r → W p l e R s m args below meth c H locs cells slots Q (F0 m (pc + 1) ls (va_rf o :: rest))) : W p l e R s m args below meth c H locs cells slots Q (F0 m pc ls (.int i :: .ref a :: rest)) := by
  obtain ⟨n, f, hs, hin, o, eo, h⟩ := caR_some h
  exact d_aaldA S hW hs ht hin eo hdg (kk o h)
theorem zw_iast {i x : Int32} {k : c_S → Option ρ} (S : CallFix p m c cc nL s args lw_all own) (hW : z_W gp D K A s Z H locs) (hdg : decode cc pc = .ok (.iastore, 1)) (h : zsI Z 0 a i x k = some r)
    (kk : ∀ Z', k Z' = some r → ∀ (H1 : Heap) (locs1 : List Loc), z_W gp D K A s Z' H1 locs1 → W p l e R s m args below meth c H1 locs1 cells slots Q (F0 m (pc + 1) ls rest)) : W p l e R s m args below meth c H locs cells slots Q (F0 m pc ls (.int x :: .int i :: .ref a :: rest)) := by
  obtain ⟨n, hs, hin, V', eV, h⟩ := csI_some h
  exact g_iast S hW.1 (k := a) hs rfl hin eV hdg (fun H1 locs1 h1 => kk _ h H1 locs1 ⟨h1, hW.2⟩)
theorem zw_bast {i x : Int32} {k : c_S → Option ρ} (S : CallFix p m c cc nL s args lw_all own) (hW : z_W gp D K A s Z H locs) (hx8 : vp_nar .byte x = x) (hdg : decode cc pc = .ok (.bastore, 1)) (h : zsI Z 1 a i x k = some r)
    (kk : ∀ Z', k Z' = some r → ∀ (H1 : Heap) (locs1 : List Loc), z_W gp D K A s Z' H1 locs1 → W p l e R s m args below meth c H1 locs1 cells slots Q (F0 m (pc + 1) ls rest)) : W p l e R s m args below meth c H locs cells slots Q (F0 m pc ls (.int x :: .int i :: .ref a :: rest)) := by
  obtain ⟨n, hs, hin, V', eV, h⟩ := csI_some h
  exact g_bast S hW.1 (k := a) hs rfl hin eV hx8 hdg (fun H1 locs1 h1 => kk _ h H1 locs1 ⟨h1, hW.2⟩)
theorem zw_zast {i x : Int32} {k : c_S → Option ρ} (S : CallFix p m c cc nL s args lw_all own) (hW : z_W gp D K A s Z H locs) (hx8 : vp_nar .boolean x = x) (hdg : decode cc pc = .ok (.bastore, 1)) (h : zsI Z 2 a i x k = some r)
    (kk : ∀ Z', k Z' = some r → ∀ (H1 : Heap) (locs1 : List Loc), z_W gp D K A s Z' H1 locs1 → W p l e R s m args below meth c H1 locs1 cells slots Q (F0 m (pc + 1) ls rest)) : W p l e R s m args below meth c H locs cells slots Q (F0 m pc ls (.int x :: .int i :: .ref a :: rest)) := by
  obtain ⟨n, hs, hin, V', eV, h⟩ := csI_some h
  exact g_zast S hW.1 (k := a) hs rfl hin eV hx8 hdg (fun H1 locs1 h1 => kk _ h H1 locs1 ⟨h1, hW.2⟩)
theorem zw_sast {i x : Int32} {k : c_S → Option ρ} (S : CallFix p m c cc nL s args lw_all own) (hW : z_W gp D K A s Z H locs) (hx8 : vp_nar .short x = x) (hdg : decode cc pc = .ok (.sastore, 1)) (h : zsI Z 3 a i x k = some r)
    (kk : ∀ Z', k Z' = some r → ∀ (H1 : Heap) (locs1 : List Loc), z_W gp D K A s Z' H1 locs1 → W p l e R s m args below meth c H1 locs1 cells slots Q (F0 m (pc + 1) ls rest)) : W p l e R s m args below meth c H locs cells slots Q (F0 m pc ls (.int x :: .int i :: .ref a :: rest)) := by
  obtain ⟨n, hs, hin, V', eV, h⟩ := csI_some h
  exact d_sast S hW hs rfl hin eV hx8 hdg (fun H1 locs1 h1 => kk _ h H1 locs1 h1)
theorem zw_last {i : Int32} {x : Int64} {k : c_S → Option ρ} (S : CallFix p m c cc nL s args lw_all own) (hW : z_W gp D K A s Z H locs) (hdg : decode cc pc = .ok (.lastore, 1)) (h : zsL Z 4 a i x k = some r)
    (kk : ∀ Z', k Z' = some r → ∀ (H1 : Heap) (locs1 : List Loc), z_W gp D K A s Z' H1 locs1 → W p l e R s m args below meth c H1 locs1 cells slots Q (F0 m (pc + 1) ls rest)) : W p l e R s m args below meth c H locs cells slots Q (F0 m pc ls (.long x :: .int i :: .ref a :: rest)) := by
  obtain ⟨n, hs, hin, L', eL, h⟩ := csL_some h
  exact g_last S hW.1 (k := a) hs rfl hin eL hdg (fun H1 locs1 h1 => kk _ h H1 locs1 ⟨h1, hW.2⟩)
theorem zw_aast {i : Int32} {t : Nat} {E : String} {al : List Nat} {o : Option Nat} {k : c_S → Option ρ} (S : CallFix p m c cc nL s args lw_all own) (hW : z_W gp D K A s Z H locs) (ht : cmF[t]? = some (.object E)) (hal : ∀ ci ∈ al, ∃ q, cmCl[ci]? = some q ∧ q.2.2 = cmN ci ∧ (q.1 = E ∨ (Cond.castable q.1 E) ∈ nestW)) (hdg : decode cc pc = .ok (.aastore, 1)) (h : zsR al Z t a i o k = some r)
    (kk : ∀ Z', k Z' = some r → ∀ (H1 : Heap) (locs1 : List Loc), z_W gp D K A s Z' H1 locs1 → W p l e R s m args below meth c H1 locs1 cells slots Q (F0 m (pc + 1) ls rest)) : W p l e R s m args below meth c H locs cells slots Q (F0 m pc ls (va_rf o :: .int i :: .ref a :: rest)) := by
  cases o with
  | none =>
    obtain ⟨n, f, hs, hin, Sh', eS, h⟩ := csR_some (show csR Z.Sh t a i none (fun Sh => k ⟨Sh, Z.V, Z.L, Z.n⟩) = some r from h)
    exact d_aastN S hW hs ht hin eS hdg (fun H1 locs1 h1 => kk _ h H1 locs1 h1)
  | some v =>
    obtain ⟨hv, h⟩ := okI_some (show okI (zAl al Z v) (csR Z.Sh t a i (some v) (fun Sh => k ⟨Sh, Z.V, Z.L, Z.n⟩)) = some r from h)
    obtain ⟨n, f, hs, hin, Sh', eS, h⟩ := csR_some h
    unfold zAl at hv
    split at hv
    · rename_i q hq
      obtain ⟨ci, N, rf⟩ := q
      simp only [Bool.and_eq_true, beq_iff_eq] at hv
      obtain ⟨h1, h2⟩ := hv
      obtain ⟨⟨C', T', N'⟩, e1, e2, e3⟩ := hal ci (by simpa using h1)
      have e2 : N' = cmN ci := e2
      subst h2
      subst e2
      refine d_aast S hW hs ht hq e1 ?_ hin eS hdg (fun H1 locs1 h1 => kk _ h H1 locs1 h1)
      rcases e3 with e3 | e3
      · exact Or.inl e3
      · exact Or.inr (hW.1.2.2.2.2.1.2.2.2.2.1 _ e3)
    · cases hv
theorem zw_len {k : Int32 → Option ρ} (S : CallFix p m c cc nL s args lw_all own) (hW : z_W gp D K A s Z H locs) (hdg : decode cc pc = .ok (.arraylength, 1)) (h : zLen Z a k = some r)
    (kk : ∀ x, k x = some r → W p l e R s m args below meth c H locs cells slots Q (F0 m (pc + 1) ls (.int x :: rest))) : W p l e R s m args below meth c H locs cells slots Q (F0 m pc ls (.ref a :: rest)) := by
  have hF : ∀ t, t < 12 → ∃ ty, cmF[t]? = some ty := fun t ht => ⟨_, List.getElem?_eq_getElem (show t < cmF.length from ht)⟩
  unfold zLen at h
  split at h
  · rename_i q hq
    split at h
    · rename_i hc
      obtain ⟨ty, hty⟩ := hF _ hc
      exact d_alen S hW hq (Or.inl rfl) hty rfl hdg (kk _ h)
    · cases h
  · rename_i q hq
    split at h
    · rename_i hc
      obtain ⟨ty, hty⟩ := hF _ hc
      exact d_alen S hW hq (Or.inr (Or.inl rfl)) hty rfl hdg (kk _ h)
    · cases h
  · rename_i q hq
    split at h
    · rename_i hc
      obtain ⟨ty, hty⟩ := hF _ hc
      exact d_alen S hW hq (Or.inr (Or.inr ⟨_, rfl⟩)) hty rfl hdg (kk _ h)
    · cases h
  · cases h
theorem zw_new {k : c_S → Nat → Option ρ} (S : CallFix p m c cc nL s args lw_all own) (hW : z_W gp D K A s Z H locs) (hC : zC ci C T N ty) (hcl : Cond.classLink own index C ∈ lw_all) (hinst : Cond.instantiable C N ∈ lw_all) (hini : Cond.initialized C ∈ lw_all) (hcells : cells + 1 ≤ R.cells) (hslots : slots + N ≤ R.slots) (hdg : decode cc pc = .ok (.new index, 3)) (h : zNew Z ci N ty k = some r)
    (kk : ∀ Z' b, k Z' b = some r → ∀ H1 : Heap, z_W gp D K A s Z' H1 locs → W p l e R s m args below meth c H1 locs (cells + 1) (slots + N) Q (F0 m (pc + 3) ls (.ref b :: rest))) : W p l e R s m args below meth c H locs cells slots Q (F0 m pc ls rest) :=
  d_new S hW hC.1 hC.2.1 ty hC.2.2.1 hcl hinst hini (fun j hj => z_dv (hC.2.2.2.2 j hj)) rfl rfl rfl hcells hslots hdg (fun H1 h1 => kk _ _ h H1 h1)
theorem zw_newi {atype : ArrayType} {t : Nat} {n : Int32} {k : c_S → Nat → Option ρ} (S : CallFix p m c cc nL s args lw_all own) (hW : z_W gp D K A s Z H locs) (harr : Cond.arrayClass (newarray.typeOf atype) ∈ lw_all) (ht : cmF[t]? = some (newarray.typeOf atype)) (hdv : defaultValue (newarray.typeOf atype) = .int 0) (hra : va_RA s (K t) (newarray.typeOf atype) → s.vm.findClass ("[" ++ (newarray.typeOf atype).toString) = some (K t)) (hn : ¬ n < 0) (hN : n.toNatClampNeg = N) (hbytes : N * componentBytes (newarray.typeOf atype) ≤ 536870912)
    (hcells : cells + 1 ≤ R.cells) (hslots : slots + N ≤ R.slots) (hdg : decode cc pc = .ok (.newarray atype, 2)) (h : zNewI Z t N k = some r)
    (kk : ∀ Z' b, k Z' b = some r → ∀ H1 : Heap, z_W gp D K A s Z' H1 locs → W p l e R s m args below meth c H1 locs (cells + 1) (slots + N) Q (F0 m (pc + 2) ls (.ref b :: rest))) : W p l e R s m args below meth c H locs cells slots Q (F0 m pc ls (.int n :: rest)) :=
  d_newi S hW harr ht hdv hra hn hN hbytes rfl rfl rfl hcells hslots hdg (fun H1 h1 => kk _ _ h H1 h1)
theorem zw_newr {t B : Nat} {n : Int32} {k : c_S → Nat → Option ρ} (S : CallFix p m c cc nL s args lw_all own) (hW : z_W gp D K A s Z H locs) (hclink : Cond.classLink own index C ∈ lw_all) (hao : C ∈ aoW) (ht : cmF[t]? = some (.object C)) (hB : B ≤ 100000) (hcells : cells + 1 ≤ R.cells) (hslots : slots + B ≤ R.slots) (hdg : decode cc pc = .ok (.anewarray index, 3)) (h : zNewR Z t B n k = some r)
    (kk : ∀ Z' b, k Z' b = some r → ∀ H1 : Heap, z_W gp D K A s Z' H1 locs → W p l e R s m args below meth c H1 locs (cells + 1) (slots + B) Q (F0 m (pc + 3) ls (.ref b :: rest))) : W p l e R s m args below meth c H locs cells slots Q (F0 m pc ls (.int n :: rest)) := by
  unfold zNewR at h
  split at h
  · cases h
  · rename_i hc
    refine d_newr S hW hclink (hW.1.2.2.2.2.1.2.2.2.2.2.1 _ hao) ht (fun q => hc (Or.inl q)) rfl (by have : ¬ B < n.toNatClampNeg := fun q => hc (Or.inr q); omega) rfl rfl hcells (by have : ¬ B < n.toNatClampNeg := fun q => hc (Or.inr q); omega) hdg (fun H1 h1 => W.widen (Nat.le_refl _) (by have : ¬ B < n.toNatClampNeg := fun q => hc (Or.inr q); omega) (kk _ _ h H1 h1))
/-! references on the stack and in locals that may be null -/
theorem z_aload_n {o : Option Nat} {k : Fin 4} {i : Nat} (hexec : p.tables.exec = Jvm.exec) (hb : c.code = cc) (hdg : decode cc pc = .ok (.aload_n k, 1)) (hi : (k : Nat) = i) (hl : ls[i]? = some (.val (va_rf o)))
    (kk : W p l e R s m args below meth c H locs cells slots Q (F0 m (pc + 1) ls (va_rf o :: rest))) : W p l e R s m args below meth c H locs cells slots Q (F0 m pc ls rest) := by
  cases o with
  | none => exact lv_aload_nN hexec hb hdg hi hl kk
  | some x => exact lv_aload_n hexec hb hdg hi hl kk
theorem z_aload {o : Option Nat} {i : Nat} (hexec : p.tables.exec = Jvm.exec) (hb : c.code = cc) (hdg : decode cc pc = .ok (.aload i, 2)) (hl : ls[i]? = some (.val (va_rf o)))
    (kk : W p l e R s m args below meth c H locs cells slots Q (F0 m (pc + 2) ls (va_rf o :: rest))) : W p l e R s m args below meth c H locs cells slots Q (F0 m pc ls rest) := by
  cases o with
  | none => exact lv_aloadN hexec hb hdg hl kk
  | some x => exact lv_aload hexec hb hdg hl kk
theorem z_null {o : Option Nat} (ho : o = none) (hexec : p.tables.exec = Jvm.exec) (hb : c.code = cc) (hdg : decode cc pc = .ok (.aconst_null, 1)) (kk : W p l e R s m args below meth c H locs cells slots Q (F0 m (pc + 1) ls (va_rf o :: rest))) : W p l e R s m args below meth c H locs cells slots Q (F0 m pc ls rest) := by
  subst ho
  exact lv_null hexec hb hdg kk
theorem z_ifnull {o : Option Nat} {off : Int} {tgt : Nat} {k0 : Option ρ} {k1 : Nat → Option ρ} (hexec : p.tables.exec = Jvm.exec) (hb : c.code = cc) (hdg : decode cc pc = .ok (.ifnull off, 3)) (ht : (pc : Int) + off = (tgt : Int)) (h : zNl o k0 k1 = some r)
    (kt : o = none → k0 = some r → W p l e R s m args below meth c H locs cells slots Q (F0 m tgt ls rest)) (kf : ∀ b, o = some b → k1 b = some r → W p l e R s m args below meth c H locs cells slots Q (F0 m (pc + 3) ls rest)) : W p l e R s m args below meth c H locs cells slots Q (F0 m pc ls (va_rf o :: rest)) := by
  cases o with
  | none => exact lv_ifnullN hexec hb hdg ht (kt rfl h)
  | some x => exact lv_ifnull hexec hb hdg (kf x rfl h)
theorem z_ifnonnull {o : Option Nat} {off : Int} {tgt : Nat} {k0 : Option ρ} {k1 : Nat → Option ρ} (hexec : p.tables.exec = Jvm.exec) (hb : c.code = cc) (hdg : decode cc pc = .ok (.ifnonnull off, 3)) (ht : (pc : Int) + off = (tgt : Int)) (h : zNl o k0 k1 = some r)
    (kf : ∀ b, o = some b → k1 b = some r → W p l e R s m args below meth c H locs cells slots Q (F0 m tgt ls rest)) (kt : o = none → k0 = some r → W p l e R s m args below meth c H locs cells slots Q (F0 m (pc + 3) ls rest)) : W p l e R s m args below meth c H locs cells slots Q (F0 m pc ls (va_rf o :: rest)) := by
  cases o with
  | none => exact lv_ifnonnullN hexec hb hdg (kt rfl h)
  | some x => exact lv_ifnonnull hexec hb hdg ht (kf x rfl h)
end ZR
