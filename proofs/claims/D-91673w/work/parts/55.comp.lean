/-! THE COMPONENT's CLASSES AND ARRAYS, and the words of what is computed in a dynamic world -/
set_option maxRecDepth 100000
def T0 : u_T := fun _ => ("", "", "", false)
abbrev cmCl : List vw_C := [(RX0, TX0, 11), (RX1, TX1, 20), (RX2, TX2, 13), (RX3, TX3, 11), (RX4, TX4, 4), (RX5, TX5, 6), (RX6, TX6, 3), (RX7, TX7, 1), (RX8, TX8, 40), (RX9, TX9, 8), (RX10, TX10, 2), (RX12, T0, 0), (RX13, TX13, 3), (RX14, TX14, 9), (RJ2, TJ2, 3), (RJ15, TJ15, 6), (RJ16, TJ16, 8), (RJ18, TJ18, 6), (RJ19, TJ19, 6)]
abbrev cmF : List FieldType := [.int, .byte, .boolean, .short, .long, .object "java/lang/Object", .object "java/lang/String", .object "FrostRing$Slot", .object "FrostRing$Ground", .object "FrostRing$Field", .object "FrostRing$Cond", .array .boolean]
section CS
variable {ρ : Type}
def cI (Sh : g_Sh) (V : g_V) (a ci N i : Nat) (k : Int32 → Option ρ) : Option ρ := match Sh a with
  | some (.inr (.inr (.inr q))) => if q.1 = ci ∧ q.2.1 = N ∧ q.2.2 i = none then k (V a i) else none
  | _ => none
def cR (Sh : g_Sh) (a ci N i : Nat) (k : Option Nat → Option ρ) : Option ρ := match Sh a with
  | some (.inr (.inr (.inr q))) => if q.1 = ci ∧ q.2.1 = N then (match q.2.2 i with
    | some o => k o
    | none => none) else none
  | _ => none
def nn (o : Option Nat) (k : Nat → Option ρ) : Option ρ := match o with
  | some a => k a
  | none => none
def cPI (Sh : g_Sh) (V : g_V) (a ci N i : Nat) (x : Int32) (k : g_V → Option ρ) : Option ρ := match Sh a with
  | some (.inr (.inr (.inr q))) => if q.1 = ci ∧ q.2.1 = N ∧ q.2.2 i = none then k (upd2 V a i x) else none
  | _ => none
def cPR (Sh : g_Sh) (a ci N i : Nat) (o : Option Nat) (k : g_Sh → Option ρ) : Option ρ := match Sh a with
  | some (.inr (.inr (.inr q))) => if q.1 = ci ∧ q.2.1 = N ∧ (q.2.2 i).isSome = true then k (updS Sh a (d_obj ci N (updR q.2.2 i o))) else none
  | _ => none
def caI (Sh : g_Sh) (V : g_V) (t a : Nat) (i : Int32) (k : Int32 → Option ρ) : Option ρ := match Sh a with
  | some (.inl q) => if q.1 = t then rdI (V a) q.2 i k else none
  | _ => none
def csI (Sh : g_Sh) (V : g_V) (t a : Nat) (i x : Int32) (k : g_V → Option ρ) : Option ρ := match Sh a with
  | some (.inl q) => if q.1 = t then wrI V a q.2 i x k else none
  | _ => none
def caL (Sh : g_Sh) (L : g_L) (t a : Nat) (i : Int32) (k : Int64 → Option ρ) : Option ρ := match Sh a with
  | some (.inr (.inl q)) => if q.1 = t then rdL (L a) q.2 i k else none
  | _ => none
def csL (Sh : g_Sh) (L : g_L) (t a : Nat) (i : Int32) (x : Int64) (k : g_L → Option ρ) : Option ρ := match Sh a with
  | some (.inr (.inl q)) => if q.1 = t then wrL L a q.2 i x k else none
  | _ => none
def caR (Sh : g_Sh) (t a : Nat) (i : Int32) (k : Option Nat → Option ρ) : Option ρ := match Sh a with
  | some (.inr (.inr (.inl q))) => if q.1 = t then (if i < 0 ∨ q.2.1 ≤ i.toNatClampNeg then none else k (q.2.2 i.toNatClampNeg)) else none
  | _ => none
def csR (Sh : g_Sh) (t a : Nat) (i : Int32) (o : Option Nat) (k : g_Sh → Option ρ) : Option ρ := match Sh a with
  | some (.inr (.inr (.inl q))) => if q.1 = t then (if i < 0 ∨ q.2.1 ≤ i.toNatClampNeg then none else k (updS Sh a (d_ref t q.2.1 (va_up q.2.2 i.toNatClampNeg o)))) else none
  | _ => none
/-- what is made adds to what is owed -/
def cAl (c d : Nat) (o : Option (ρ × Nat × Nat)) : Option (ρ × Nat × Nat) := match o with
  | none => none
  | some q => some (q.1, q.2.1 + c, q.2.2 + d)
def bndC {σ : Type} (o : Option (σ × Nat × Nat)) (k : σ → Option (ρ × Nat × Nat)) : Option (ρ × Nat × Nat) := match o with
  | none => none
  | some q => cAl q.2.1 q.2.2 (k q.1)
variable {r : ρ}
theorem cI_some {Sh : g_Sh} {V : g_V} {a ci N i : Nat} {k : Int32 → Option ρ} (h : cI Sh V a ci N i k = some r) : ∃ rf, Sh a = some (d_obj ci N rf) ∧ rf i = none ∧ ∃ x, x = V a i ∧ k x = some r := by
  unfold cI at h
  split at h
  · rename_i q hq
    split at h
    · rename_i hc
      obtain ⟨h1, h2, h3⟩ := hc
      obtain ⟨c', n', rf⟩ := q
      cases h1; cases h2
      exact ⟨rf, hq, h3, _, rfl, h⟩
    · cases h
  · cases h
theorem cR_some {Sh : g_Sh} {a ci N i : Nat} {k : Option Nat → Option ρ} (h : cR Sh a ci N i k = some r) : ∃ rf o, Sh a = some (d_obj ci N rf) ∧ rf i = some o ∧ k o = some r := by
  unfold cR at h
  split at h
  · rename_i q hq
    split at h
    · rename_i hc
      obtain ⟨h1, h2⟩ := hc
      obtain ⟨c', n', rf⟩ := q
      cases h1; cases h2
      split at h
      · rename_i o ho
        exact ⟨rf, o, hq, ho, h⟩
      · cases h
    · cases h
  · cases h
theorem nn_some {o : Option Nat} {k : Nat → Option ρ} (h : nn o k = some r) : ∃ a, o = some a ∧ k a = some r := by
  cases o with
  | none => cases h
  | some a => exact ⟨a, rfl, h⟩
theorem cPI_some {Sh : g_Sh} {V : g_V} {a ci N i : Nat} {x : Int32} {k : g_V → Option ρ} (h : cPI Sh V a ci N i x k = some r) : ∃ rf, Sh a = some (d_obj ci N rf) ∧ rf i = none ∧ ∃ V', V' = upd2 V a i x ∧ k V' = some r := by
  unfold cPI at h
  split at h
  · rename_i q hq
    split at h
    · rename_i hc
      obtain ⟨h1, h2, h3⟩ := hc
      obtain ⟨c', n', rf⟩ := q
      cases h1; cases h2
      exact ⟨rf, hq, h3, _, rfl, h⟩
    · cases h
  · cases h
theorem cPR_some {Sh : g_Sh} {a ci N i : Nat} {o : Option Nat} {k : g_Sh → Option ρ} (h : cPR Sh a ci N i o k = some r) : ∃ rf o0, Sh a = some (d_obj ci N rf) ∧ rf i = some o0 ∧ ∃ Sh', Sh' = updS Sh a (d_obj ci N (updR rf i o)) ∧ k Sh' = some r := by
  unfold cPR at h
  split at h
  · rename_i q hq
    split at h
    · rename_i hc
      obtain ⟨h1, h2, h3⟩ := hc
      obtain ⟨c', n', rf⟩ := q
      cases h1; cases h2
      obtain ⟨o0, h3⟩ := Option.isSome_iff_exists.mp h3
      exact ⟨rf, o0, hq, h3, _, rfl, h⟩
    · cases h
  · cases h
theorem caI_some {Sh : g_Sh} {V : g_V} {t a : Nat} {i : Int32} {k : Int32 → Option ρ} (h : caI Sh V t a i k = some r) : ∃ n, Sh a = some (d_int t n) ∧ vp_in i n ∧ ∃ x, x = V a i.toNatClampNeg ∧ k x = some r := by
  unfold caI at h
  split at h
  · rename_i q hq
    split at h
    · rename_i hc
      obtain ⟨t', n⟩ := q
      cases hc
      obtain ⟨h1, h2⟩ := rdI_some h
      exact ⟨n, hq, h1, h2⟩
    · cases h
  · cases h
theorem csI_some {Sh : g_Sh} {V : g_V} {t a : Nat} {i x : Int32} {k : g_V → Option ρ} (h : csI Sh V t a i x k = some r) : ∃ n, Sh a = some (d_int t n) ∧ vp_in i n ∧ ∃ V', V' = upd2 V a i.toNatClampNeg x ∧ k V' = some r := by
  unfold csI at h
  split at h
  · rename_i q hq
    split at h
    · rename_i hc
      obtain ⟨t', n⟩ := q
      cases hc
      obtain ⟨h1, h2⟩ := wrI_some h
      exact ⟨n, hq, h1, h2⟩
    · cases h
  · cases h
theorem caL_some {Sh : g_Sh} {L : g_L} {t a : Nat} {i : Int32} {k : Int64 → Option ρ} (h : caL Sh L t a i k = some r) : ∃ n, Sh a = some (d_lng t n) ∧ vp_in i n ∧ ∃ x, x = L a i.toNatClampNeg ∧ k x = some r := by
  unfold caL at h
  split at h
  · rename_i q hq
    split at h
    · rename_i hc
      obtain ⟨t', n⟩ := q
      cases hc
      obtain ⟨h1, h2⟩ := rdL_some h
      exact ⟨n, hq, h1, h2⟩
    · cases h
  · cases h
theorem csL_some {Sh : g_Sh} {L : g_L} {t a : Nat} {i : Int32} {x : Int64} {k : g_L → Option ρ} (h : csL Sh L t a i x k = some r) : ∃ n, Sh a = some (d_lng t n) ∧ vp_in i n ∧ ∃ L', L' = updL2 L a i.toNatClampNeg x ∧ k L' = some r := by
  unfold csL at h
  split at h
  · rename_i q hq
    split at h
    · rename_i hc
      obtain ⟨t', n⟩ := q
      cases hc
      obtain ⟨h1, h2⟩ := wrL_some h
      exact ⟨n, hq, h1, h2⟩
    · cases h
  · cases h
theorem caR_some {Sh : g_Sh} {t a : Nat} {i : Int32} {k : Option Nat → Option ρ} (h : caR Sh t a i k = some r) : ∃ n f, Sh a = some (d_ref t n f) ∧ vp_in i n ∧ ∃ o, o = f i.toNatClampNeg ∧ k o = some r := by
  unfold caR at h
  split at h
  · rename_i q hq
    split at h
    · rename_i hc
      obtain ⟨t', n, f⟩ := q
      cases hc
      split at h
      · cases h
      · rename_i hb
        exact ⟨n, f, hq, hb, _, rfl, h⟩
    · cases h
  · cases h
theorem csR_some {Sh : g_Sh} {t a : Nat} {i : Int32} {o : Option Nat} {k : g_Sh → Option ρ} (h : csR Sh t a i o k = some r) : ∃ n f, Sh a = some (d_ref t n f) ∧ vp_in i n ∧ ∃ Sh', Sh' = updS Sh a (d_ref t n (va_up f i.toNatClampNeg o)) ∧ k Sh' = some r := by
  unfold csR at h
  split at h
  · rename_i q hq
    split at h
    · rename_i hc
      obtain ⟨t', n, f⟩ := q
      cases hc
      split at h
      · cases h
      · rename_i hb
        exact ⟨n, f, hq, hb, _, rfl, h⟩
    · cases h
  · cases h
theorem cAl_some {c d x y : Nat} {o : Option (ρ × Nat × Nat)} (h : cAl c d o = some (r, x, y)) : ∃ x1 y1, o = some (r, x1, y1) ∧ x = x1 + c ∧ y = y1 + d := by
  unfold cAl at h
  split at h
  · cases h
  · rename_i q
    obtain ⟨q1, q2, q3⟩ := q
    cases h
    exact ⟨q2, q3, rfl, rfl, rfl⟩
theorem bndC_some {σ : Type} {x y : Nat} {o : Option (σ × Nat × Nat)} {k : σ → Option (ρ × Nat × Nat)} (h : bndC o k = some (r, x, y)) : ∃ z c d x1 y1, o = some (z, c, d) ∧ k z = some (r, x1, y1) ∧ x = x1 + c ∧ y = y1 + d := by
  unfold bndC at h
  split at h
  · cases h
  · rename_i q
    obtain ⟨q1, q2, q3⟩ := q
    obtain ⟨x1, y1, h1, h2, h3⟩ := cAl_some h
    exact ⟨q1, q2, q3, x1, y1, rfl, h1, h2, h3⟩
end CS
