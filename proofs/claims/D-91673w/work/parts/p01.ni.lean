/-! PURE: small numbers in Int32, for simp (disch := omega) -/
set_option maxRecDepth 100000
theorem L_add (n a : Nat) : (no_index (OfNat.ofNat n) : Int32) + nI a = nI (n + a) := nI_add n a
theorem L_addR (n a : Nat) : nI a + (no_index (OfNat.ofNat n) : Int32) = nI (a + n) := nI_add a n
theorem L_mul (n a : Nat) : (no_index (OfNat.ofNat n) : Int32) * nI a = nI (n * a) := nI_mul n a
theorem L_mulR (n a : Nat) : nI a * (no_index (OfNat.ofNat n) : Int32) = nI (a * n) := nI_mul a n
theorem L_div (n a : Nat) : nI a / (no_index (OfNat.ofNat n) : Int32) = nI a / nI n := Eq.trans rfl rfl
theorem N_div {n a : Nat} (h : a < 2 ^ 31) (hn : n < 2 ^ 31) : nI a / nI n = nI (a / n) := nI_div h hn
theorem N_rem (a n : Nat) : a - a / n * n = a % n := by have h := Nat.div_add_mod' a n; omega
theorem L_sub (n a : Nat) : nI a - (no_index (OfNat.ofNat n) : Int32) = nI a - nI n := Eq.trans rfl rfl
theorem L_subN {n a : Nat} (h : n ≤ a) : nI a - nI n = nI (a - n) := pk_sub h
theorem L_m1 {a : Nat} (h : 0 < a) : nI a + (-1) = nI (a - 1) := nI_dec h
theorem L_le (n a : Nat) : ((no_index (OfNat.ofNat n) : Int32) ≤ nI a) = (nI n ≤ nI a) := Eq.trans rfl rfl
theorem L_leR (n a : Nat) : (nI a ≤ (no_index (OfNat.ofNat n) : Int32)) = (nI a ≤ nI n) := Eq.trans rfl rfl
theorem L_lt (n a : Nat) : ((no_index (OfNat.ofNat n) : Int32) < nI a) = (nI n < nI a) := Eq.trans rfl rfl
theorem L_ltR (n a : Nat) : (nI a < (no_index (OfNat.ofNat n) : Int32)) = (nI a < nI n) := Eq.trans rfl rfl
theorem L_eq (n a : Nat) : (nI a = (no_index (OfNat.ofNat n) : Int32)) = (nI a = nI n) := Eq.trans rfl rfl
theorem N_leT {a b : Nat} (h : a ≤ b) (hb : b < 2 ^ 31) : (nI a ≤ nI b) = True := eq_true (nI_le h hb)
theorem N_leF {a b : Nat} (h : b < a) (hb : a < 2 ^ 31) : (nI a ≤ nI b) = False := eq_false (nI_ge h hb)
theorem N_ltT {a b : Nat} (h : a < b) (hb : b < 2 ^ 31) : (nI a < nI b) = True := eq_true (nI_lt h hb)
theorem N_ltF {a b : Nat} (h : b ≤ a) (hb : a < 2 ^ 31) : (nI a < nI b) = False := eq_false (nI_nlt h hb)
theorem N_eqT {a b : Nat} (h : a = b) : (nI a = nI b) = True := eq_true (by rw [h])
theorem N_eqF {a b : Nat} (h : a ≠ b) (ha : a < 2 ^ 31) (hb : b < 2 ^ 31) : (nI a = nI b) = False := eq_false (fun z => h ((nI_eq ha hb).mp z))
theorem N_le {a b : Nat} (ha : a < 2 ^ 31) (hb : b < 2 ^ 31) : (nI a ≤ nI b) = (a ≤ b) := propext (nI_leI ha hb)
theorem N_lt {a b : Nat} (ha : a < 2 ^ 31) (hb : b < 2 ^ 31) : (nI a < nI b) = (a < b) := propext (nI_ltI ha hb)
theorem N_eq {a b : Nat} (ha : a < 2 ^ 31) (hb : b < 2 ^ 31) : (nI a = nI b) = (a = b) := propext (nI_eq ha hb)
theorem N_m1 {a : Nat} (h : a < 2 ^ 31) : (nI a = -1) = False := by
  apply eq_false
  intro z
  have h1 := congrArg Int32.toInt z
  rw [nI_toInt h] at h1
  have h2 : (-1 : Int32).toInt = -1 := by decide
  rw [h2] at h1
  omega
theorem bnd_S {σ ρ : Type} (x : σ) (k : σ → Option ρ) : bnd (some x) k = k x := rfl
theorem un2_S {a1 a2 ρ : Type} (k : a1 → a2 → Option ρ) (x : a1) (y : a2) : un2 k (x, y) = k x y := rfl
theorem un3_S {a1 a2 a3 ρ : Type} (k : a1 → a2 → a3 → Option ρ) (x : a1) (y : a2) (z : a3) : un3 k (x, y, z) = k x y z := rfl
theorem cs2_L {a1 a2 ρ : Type} (k1 : a1 → Option ρ) (k2 : a2 → Option ρ) (x : a1) : cs2 k1 k2 (.inl x) = k1 x := rfl
theorem cs2_R {a1 a2 ρ : Type} (k1 : a1 → Option ρ) (k2 : a2 → Option ρ) (x : a2) : cs2 k1 k2 (.inr x) = k2 x := rfl
theorem nmI_S {ρ : Type} (x : Int32) (k : Int32 → Option ρ) : nmI x k = k x := rfl
theorem nmL_S {ρ : Type} (x : Int64) (k : Int64 → Option ρ) : nmL x k = k x := rfl
theorem ptI_S {ρ : Type} (V : g_V) (a i : Nat) (x : Int32) (k : g_V → Option ρ) : ptI V a i x k = k (upd2 V a i x) := rfl
theorem okI_b {ρ : Type} (b : Bool) (k : Option ρ) : okI (isB (b2i b)) k = k := by cases b <;> rfl
theorem okI_1 {ρ : Type} (k : Option ρ) : okI (isB 1) k = k := rfl
theorem okI_0 {ρ : Type} (k : Option ρ) : okI (isB 0) k = k := rfl
theorem rdI_L {ρ : Type} {f : Nat → Int32} {n j : Nat} {k : Int32 → Option ρ} : rdI f n (no_index (OfNat.ofNat j) : Int32) k = rdI f n (nI j) k := Eq.trans rfl rfl
theorem wrI_L {ρ : Type} {V : g_V} {a n j : Nat} {x : Int32} {k : g_V → Option ρ} : wrI V a n (no_index (OfNat.ofNat j) : Int32) x k = wrI V a n (nI j) x k := Eq.trans rfl rfl
theorem rdL_in {ρ : Type} {f : Nat → Int64} {n j : Nat} {k : Int64 → Option ρ} (h : j < n) (hn : n < 2 ^ 31) : rdL f n (nI j) k = k (f j) := by
  have h1 := nI_in h hn
  unfold rdL
  rw [if_neg h1, nI_clamp (by omega)]
theorem wrL_in {ρ : Type} {L : g_L} {a n j : Nat} {x : Int64} {k : g_L → Option ρ} (h : j < n) (hn : n < 2 ^ 31) : wrL L a n (nI j) x k = k (updL2 L a j x) := by
  have h1 := nI_in h hn
  unfold wrL
  rw [if_neg h1, nI_clamp (by omega)]
theorem b2iF (b : Bool) : (b2i b = 0) = (b = false) := b2i_0 b
theorem b2iT (b : Bool) : (b2i b = 1) = (b = true) := b2i_1 b
theorem ite_b {α : Type} (b : Bool) (x y : α) : (if b = false then x else y) = if b = true then y else x := by cases b <;> rfl
theorem some_ite {α : Type} {P : Prop} [Decidable P] (x y : α) : (if P then some x else some y) = some (if P then x else y) := by split <;> rfl
theorem b2i_if (b : Bool) : (if b = true then (1 : Int32) else 0) = b2i b := by cases b <;> rfl
theorem b2i_dec (P : Prop) [Decidable P] : (if P then (1 : Int32) else 0) = b2i (decide P) := by by_cases h : P <;> simp [h, b2i]
/-! loops that count -/
def itr {α : Type} (f : Nat → α → α) (a : α) : Nat → α
  | 0 => a
  | n + 1 => f n (itr f a n)
theorem itr_0 {α : Type} (f : Nat → α → α) (a : α) : itr f a 0 = a := rfl
theorem itr_s {α : Type} (f : Nat → α → α) (a : α) (n : Nat) : itr f a (n + 1) = f n (itr f a n) := rfl
theorem itr_inv {α : Type} {f : Nat → α → α} {a : α} (I : Nat → α → Prop) (h0 : I 0 a) {N : Nat} (hs : ∀ i x, i < N → I i x → I (i + 1) (f i x)) : ∀ n, n ≤ N → I n (itr f a n) := by
  intro n
  induction n with
  | zero => intro _; exact h0
  | succ n ih => intro h; exact hs n _ (by omega) (ih (by omega))
theorem itr_congr {α : Type} {f g : Nat → α → α} {a : α} (n : Nat) (h : ∀ i x, i < n → f i x = g i x) : itr f a n = itr g a n := by
  have : ∀ m, m ≤ n → itr f a m = itr g a m := by
    intro m
    induction m with
    | zero => intro _; rfl
    | succ m ih => intro hm; rw [itr_s, itr_s, ih (by omega), h m _ (by omega)]
  exact this n (Nat.le_refl n)
section IT
variable {σ ρ α : Type} {F : (σ → Option ρ) → σ → Option ρ}
/-- a loop that counts, with an invariant: what it leaves is known -/
theorem lp_itrI {N : Nat} {mk : α → Nat → σ} {f : Nat → α → α} {out : α → ρ} (I : Nat → α → Prop) (hs : ∀ rec i a, i < N → I i a → F rec (mk a i) = rec (mk (f i a) (i + 1)) ∧ I (i + 1) (f i a)) (he : ∀ rec a, I N a → F rec (mk a N) = some (out a)) {n : Nat} {a : α} (hn : N < n) (h0 : I 0 a) : lp F n (mk a 0) = some (out (itr f a N)) ∧ I N (itr f a N) := by
  have hI : ∀ i, i ≤ N → I i (itr f a i) := itr_inv I h0 (fun i x hi hx => (hs (fun _ => none) i x hi hx).2)
  refine ⟨?_, hI N (Nat.le_refl N)⟩
  exact lp_run (st := fun i => mk (itr f a i) i) (out := out (itr f a N)) (fun rec i hi => (hs rec i _ hi (hI i (by omega))).1) (fun rec => he rec _ (hI N (Nat.le_refl N))) n 0 (by omega) (by omega)
/-- a loop that counts -/
theorem lp_itr {N : Nat} {mk : α → Nat → σ} {f : Nat → α → α} {out : α → ρ} (hs : ∀ rec i a, i < N → F rec (mk a i) = rec (mk (f i a) (i + 1))) (he : ∀ rec a, F rec (mk a N) = some (out a)) {n : Nat} {a : α} (hn : N < n) : lp F n (mk a 0) = some (out (itr f a N)) :=
  (lp_itrI (fun _ _ => True) (fun rec i a hi _ => ⟨hs rec i a hi, trivial⟩) (fun rec a _ => he rec a) hn trivial).1
end IT
