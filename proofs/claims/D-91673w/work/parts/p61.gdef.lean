/-! PURE: what holds between two calls: all -/
set_option maxRecDepth 100000
/-- a row of numbers that is held -/
def Row (Sh : g_Sh) (V : g_V) (L : g_L) (b wd N : Nat) (g : Nat → Int64) : Prop := (wd = 0 ∧ Sh b = some (d_int 1 N) ∧ ∀ i, i < N → (V b i).toInt64 = g i ∧ (V b i).toInt8.toInt32 = V b i) ∨ (wd = 1 ∧ Sh b = some (d_int 3 N) ∧ ∀ i, i < N → (V b i).toInt64 = g i ∧ (V b i).toInt16.toInt32 = V b i) ∨ (wd = 2 ∧ Sh b = some (d_int 0 N) ∧ ∀ i, i < N → (V b i).toInt64 = g i) ∨ (wd = 3 ∧ Sh b = some (d_lng 4 N) ∧ ∀ i, i < N → L b i = g i)
/-- a slot -/
def SlR (Sh : g_Sh) (V : g_V) (L : g_L) (ρ : Nat → Nat) (s a : Nat) (V2 : g_V) (L2 : g_L) : Prop := (V2 36 s = -1 ∧ ∃ rf, Sh a = some (d_obj 7 1 rf) ∧ rf 0 = some none) ∨ ∃ N wd b rf, N ≤ 60 ∧ V2 36 s = nI N ∧ wd < 4 ∧ V2 37 s = nI wd ∧ Sh a = some (d_obj 7 1 rf) ∧ rf 0 = some (some b) ∧ ρ b = 16 + s ∧ Row Sh V L b wd N (fun i => L2 38 (60 * s + i))
/-- an image -/
def ImR (Z : c_S) (ρ : Nat → Nat) (k : Nat) (o : Option Nat) (V2 : g_V) : Prop := (V2 4 k = 0 ∧ o = none) ∨ (V2 4 k = 1 ∧ ∃ m u, o = some (m 0) ∧ Fld Z ρ (4 + k) m u (fun i => V2 3 (810 * k + i)))
/-- the object itself -/
def GM (Sh : g_Sh) (x m0 mt0 : Nat) (q : Nat → Nat) : Prop := ∃ rf, Sh x = some (d_obj 0 11 rf) ∧ rf 0 = some (some (q 1)) ∧ rf 1 = some (some m0) ∧ rf 2 = some (some mt0) ∧ rf 3 = some (some (q 2)) ∧ rf 4 = some (some (q 3)) ∧ rf 8 = some (some (q 4)) ∧ rf 5 = none ∧ rf 6 = none ∧ rf 7 = none ∧ rf 9 = none ∧ rf 10 = none
/-- its numbers, the tape, gaps that were told -/
def GN (Sh : g_Sh) (V : g_V) (x : Nat) (q : Nat → Nat) (V2 : g_V) : Prop := (V x 6 = V2 0 13 ∧ V x 7 = V2 0 14 ∧ V x 10 = V2 0 35) ∧ (∃ t, t ≤ 700 ∧ V x 5 = nI t ∧ V2 0 6 = nI t) ∧ (Sh (q 3) = some (d_int 1 700) ∧ ∀ i, i < 700 → V (q 3) i = V2 5 i ∧ -128 ≤ (V2 5 i).toInt ∧ (V2 5 i).toInt ≤ 127) ∧ Sh (q 4) = some (d_int 0 144) ∧ ∃ t, t ≤ 144 ∧ V x 9 = nI t ∧ V2 0 34 = nI t ∧ ∀ i, i < t → V (q 4) i = V2 33 i
/-- slots, images -/
def GS (Sh : g_Sh) (V : g_V) (L : g_L) (ρ : Nat → Nat) (q : Nat → Nat) (V2 : g_V) (L2 : g_L) : Prop := (∃ el, Sh (q 1) = some (d_ref 7 4 el) ∧ ∀ s, s < 4 → el s = some (q (5 + s))) ∧ ∀ s, s < 4 → SlR Sh V L ρ s (q (5 + s)) V2 L2
def GI (Z : c_S) (ρ : Nat → Nat) (q : Nat → Nat) (V2 : g_V) : Prop := ∃ el, Z.Sh (q 2) = some (d_ref 9 3 el) ∧ ∀ k, k < 3 → ImR Z ρ k (el k) V2
/-- whose an address is -/
def GO (n x : Nat) (ρ q : Nat → Nat) : Prop := (∀ a, ρ a ≠ 0 → a < n) ∧ ρ x = 7 ∧ ρ (q 1) = 8 ∧ ρ (q 2) = 9 ∧ ρ (q 3) = 10 ∧ ρ (q 4) = 11 ∧ ∀ s, s < 4 → ρ (q (5 + s)) = 12 + s
def GG (Z : c_S) (x : Nat) (ρ m u mt q : Nat → Nat) (V2 : g_V) (L2 : g_L) : Prop := Fld Z ρ 2 m u (V2 1) ∧ Tri Z.Sh Z.V Z.n ρ mt ∧ GM Z.Sh x (m 0) (mt 0) q ∧ GN Z.Sh Z.V x q V2 ∧ GS Z.Sh Z.V Z.L ρ q V2 L2 ∧ GI Z ρ q V2 ∧ GO Z.n x ρ q
/-- what holds between two calls -/
def G (Z : c_S) (x : Nat) (V2 : g_V) (L2 : g_L) : Prop := ∃ ρ m u mt q, GG Z x ρ m u mt q V2 L2
/-- what of the reference is kept -/
def TwK (V V' : g_V) : Prop := V' 3 = V 3 ∧ V' 4 = V 4 ∧ V' 5 = V 5 ∧ V' 33 = V 33 ∧ V' 36 = V 36 ∧ V' 37 = V 37 ∧ V' 0 6 = V 0 6 ∧ V' 0 13 = V 0 13 ∧ V' 0 14 = V 0 14 ∧ V' 0 34 = V 0 34 ∧ V' 0 35 = V 0 35
section GK
variable {Sh Sh' : g_Sh} {V V' : g_V} {L L' : g_L} {n n' x : Nat} {m u mt q ρ ρ' : Nat → Nat} {V2 V2' : g_V} {L2 : g_L}
theorem GN_k (h : GN Sh V x q V2) (hs : Sh' (q 3) = Sh (q 3) ∧ Sh' (q 4) = Sh (q 4)) (hv : V' x = V x ∧ V' (q 3) = V (q 3) ∧ V' (q 4) = V (q 4)) (ht : TwK V2 V2') : GN Sh' V' x q V2' := by
  obtain ⟨t3, t4, t5, t33, t36, t37, a6, a13, a14, a34, a35⟩ := ht
  unfold GN
  rw [hs.1, hs.2, hv.1, hv.2.1, hv.2.2, t5, t33, a6, a13, a14, a34, a35]
  exact h
theorem SlR_k {s a : Nat} (h : SlR Sh V L ρ s a V2 L2) (hs : Sh' a = Sh a) (hb : ∀ b, ρ b = 16 + s → Sh' b = Sh b ∧ V' b = V b ∧ L' b = L b ∧ ρ' b = ρ b) (h36 : V2' 36 s = V2 36 s) (h37 : V2' 37 s = V2 37 s) : SlR Sh' V' L' ρ' s a V2' L2 := by
  rcases h with ⟨h1, rf, h2, h3⟩ | ⟨N, wd, b, rf, h1, h2, h3, h4, h5, h6, h7, h8⟩
  · exact Or.inl ⟨by rw [h36]; exact h1, rf, by rw [hs]; exact h2, h3⟩
  · refine Or.inr ⟨N, wd, b, rf, h1, by rw [h36]; exact h2, h3, by rw [h37]; exact h4, by rw [hs]; exact h5, h6, by rw [(hb b h7).2.2.2]; exact h7, ?_⟩
    unfold Row
    rw [(hb b h7).1, (hb b h7).2.1, (hb b h7).2.2.1]
    exact h8
theorem GS_k (h : GS Sh V L ρ q V2 L2) (ho : GO n x ρ q) (hz : ∀ a, 8 ≤ ρ a → Sh' a = Sh a ∧ ρ' a = ρ a ∧ V' a = V a ∧ L' a = L a) (ht : V2' 36 = V2 36 ∧ V2' 37 = V2 37) : GS Sh' V' L' ρ' q V2' L2 := by
  obtain ⟨⟨el, h1, h2⟩, h3⟩ := h
  obtain ⟨o1, o2, o3, o4, o5, o6, o7⟩ := ho
  refine ⟨⟨el, by rw [(hz _ (by omega)).1]; exact h1, h2⟩, fun s hs => ?_⟩
  have := o7 s hs
  exact SlR_k (h3 s hs) (hz _ (by omega)).1 (fun b hb => ⟨(hz b (by omega)).1, (hz b (by omega)).2.2.1, (hz b (by omega)).2.2.2, (hz b (by omega)).2.1⟩) (by rw [ht.1]) (by rw [ht.2])
theorem GI_k (h : GI (Sh, V, L, n) ρ q V2) (ho : GO n x ρ q) (hz : ∀ a, ρ a = 1 ∨ ρ a = 4 ∨ ρ a = 5 ∨ ρ a = 6 ∨ ρ a = 9 → Sh' a = Sh a ∧ ρ' a = ρ a ∧ V' a = V a) (ht : V2' 3 = V2 3 ∧ V2' 4 = V2 4) : GI (Sh', V', L', n') ρ' q V2' := by
  obtain ⟨el, h1, h2⟩ := h
  obtain ⟨o1, o2, o3, o4, o5, o6, o7⟩ := ho
  refine ⟨el, by show Sh' (q 2) = _; rw [(hz _ (by omega)).1]; exact h1, fun k hk => ?_⟩
  unfold ImR
  rw [ht.1, ht.2]
  rcases h2 k hk with h3 | ⟨h3, mk, uk, h4, h5⟩
  · exact Or.inl h3
  · exact Or.inr ⟨h3, mk, uk, h4, Fld_k h5 (by omega) (fun a ha => ⟨(hz a (by omega)).1, (hz a (by omega)).2.1⟩) (fun a ha _ _ _ => (hz a (by omega)).2.2)⟩
/-- a question: scratch alone changes -/
theorem GG_scr (h : GG (Sh, V, L, n) x ρ m u mt q V2 L2) (hn : n ≤ n') (hs : ∀ a, a < n → Sh' a = Sh a) (hv : ∀ a, a < n → a ≠ m 3 → a ≠ m 9 → a ≠ m 10 → V' a = V a) (hL : ∀ a, a < n → L' a = L a) (ht : TwK V2 V2') (h1 : ∀ j, j < 810 → V2' 1 j = V2 1 j) : GG (Sh', V', L', n') x ρ m u mt q V2' L2 := by
  obtain ⟨hF, hT, hM, hN, hS, hI, hO⟩ := h
  simp only [zSh_T, zV_T, zL_T, zn_T] at hT hM hN hS hO
  have hO' := hO
  obtain ⟨o1, o2, o3, o4, o5, o6, o7⟩ := hO'
  have lt : ∀ a, 1 ≤ ρ a → a < n := fun a ha => o1 a (by omega)
  have mr : ∀ i, i < 13 → ρ (m i) = 2 := fun i hi => hF.2.1 i (by omega)
  have m3 := mr 3 (by omega)
  have m9 := mr 9 (by omega)
  have m10 := mr 10 (by omega)
  have vv : ∀ a, 1 ≤ ρ a → ρ a ≠ 2 → V' a = V a := fun a h1 h2 => hv a (lt a h1) (fun e => h2 (by rw [e]; exact m3)) (fun e => h2 (by rw [e]; exact m9)) (fun e => h2 (by rw [e]; exact m10))
  refine ⟨Fld_w (Fld_k hF (by omega) (fun a ha => ⟨hs a (lt a (by omega)), rfl⟩) (fun a ha e3 e9 e10 => hv a (lt a (by omega)) e3 e9 e10)) h1, Tri_k hT hn (fun a ha => ⟨hs a (lt a (by omega)), vv a (by omega) (by omega), rfl⟩), ?_, GN_k hN ⟨hs _ (lt _ (by omega)), hs _ (lt _ (by omega))⟩ ⟨vv _ (by omega) (by omega), vv _ (by omega) (by omega), vv _ (by omega) (by omega)⟩ ht, GS_k hS hO (fun a ha => ⟨hs a (lt a (by omega)), rfl, vv a (by omega) (by omega), hL a (lt a (by omega))⟩) ⟨ht.2.2.2.2.1, ht.2.2.2.2.2.1⟩, GI_k hI hO (fun a ha => ⟨hs a (lt a (by omega)), rfl, vv a (by omega) (by omega)⟩) ⟨ht.1, ht.2.1⟩, ⟨fun a ha => Nat.lt_of_lt_of_le (o1 a ha) hn, o2, o3, o4, o5, o6, o7⟩⟩
  show GM Sh' x (m 0) (mt 0) q
  unfold GM
  rw [hs x (lt x (by omega))]
  exact hM
end GK
section GA
variable {ρ' : Type} {Sh : g_Sh} {V : g_V} {L : g_L} {n x : Nat} {m0 mt0 : Nat} {q : Nat → Nat}
theorem x_sl (h : GM Sh x m0 mt0 q) {k : Nat → Option ρ'} : cA Sh x 0 11 0 k = k (q 1) := by obtain ⟨rf, h1, h2, -⟩ := h; exact cA_eq h1 h2
theorem x_now (h : GM Sh x m0 mt0 q) {k : Nat → Option ρ'} : cA Sh x 0 11 1 k = k m0 := by obtain ⟨rf, h1, -, h2, -⟩ := h; exact cA_eq h1 h2
theorem x_tri (h : GM Sh x m0 mt0 q) {k : Nat → Option ρ'} : cA Sh x 0 11 2 k = k mt0 := by obtain ⟨rf, h1, -, -, h2, -⟩ := h; exact cA_eq h1 h2
theorem x_img (h : GM Sh x m0 mt0 q) {k : Nat → Option ρ'} : cA Sh x 0 11 3 k = k (q 2) := by obtain ⟨rf, h1, -, -, -, h2, -⟩ := h; exact cA_eq h1 h2
theorem x_tp (h : GM Sh x m0 mt0 q) {k : Nat → Option ρ'} : cA Sh x 0 11 4 k = k (q 3) := by obtain ⟨rf, h1, -, -, -, -, h2, -⟩ := h; exact cA_eq h1 h2
theorem x_tg (h : GM Sh x m0 mt0 q) {k : Nat → Option ρ'} : cA Sh x 0 11 8 k = k (q 4) := by obtain ⟨rf, h1, -, -, -, -, -, h2, -⟩ := h; exact cA_eq h1 h2
theorem x_ri {i : Nat} (hi : i = 5 ∨ i = 6 ∨ i = 7 ∨ i = 9 ∨ i = 10) (h : GM Sh x m0 mt0 q) : ∃ rf, Sh x = some (d_obj 0 11 rf) ∧ rf i = none := by
  obtain ⟨rf, h1, -, -, -, -, -, -, h5, h6, h7, h9, h10⟩ := h
  rcases hi with rfl | rfl | rfl | rfl | rfl
  · exact ⟨rf, h1, h5⟩
  · exact ⟨rf, h1, h6⟩
  · exact ⟨rf, h1, h7⟩
  · exact ⟨rf, h1, h9⟩
  · exact ⟨rf, h1, h10⟩
theorem x_I {i : Nat} (h : GM Sh x m0 mt0 q) (hi : i = 5 ∨ i = 6 ∨ i = 7 ∨ i = 9 ∨ i = 10) {k : Int32 → Option ρ'} : cI Sh V x 0 11 i k = k (V x i) := by obtain ⟨rf, h1, h2⟩ := x_ri hi h; exact cI_eq h1 h2
theorem x_P {i : Nat} (h : GM Sh x m0 mt0 q) (hi : i = 5 ∨ i = 6 ∨ i = 7 ∨ i = 9 ∨ i = 10) {y : Int32} {k : c_S → Option ρ'} : zPI (Sh, V, L, n) x 0 11 i y k = k (Sh, upd2 V x i y, L, n) := by obtain ⟨rf, h1, h2⟩ := x_ri hi h; exact zPI_T h1 h2
theorem x_K (h : GM Sh x m0 mt0 q) {k : Option ρ'} : zK (Sh, V, L, n) x 0 11 k = k := by obtain ⟨rf, h1, -⟩ := h; exact zK_T h1
end GA
