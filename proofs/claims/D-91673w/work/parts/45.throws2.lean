/-! throwing: rows -/
set_option maxRecDepth 100000
def WT (p : Program) (l : Launch) (e : Env) (R : Room) (s : State) (m : MethodId) (args : Array Value) (below : List Frame) (meth : Method) (c : Code) (H : Heap) (locs : List Loc) (cells slots : Nat) (Q : State → Prop) (g : JFrame) (x : Addr) : Prop :=
  ∀ T : State, T.heap = H → Stand p l e R s m args below meth c T locs cells slots → ∃ t, Steps p.tables e below ((T.setTop g).pushFrame (.throwing x)) t ∧ Q t
section TR
variable {p : Program} {l : Launch} {e : Env} {R : Room} {s : State} {m : MethodId} {args : Array Value} {below : List Frame} {meth : Method} {c : Code} {H : Heap} {locs : List Loc} {cells slots : Nat} {Q : State → Prop}
variable {gp : Nat → Nat} {own : String} {cc : ByteArray} {pc nL : Nat} {ls : Array Slot} {rest st0 st1 : List Value} {D : va_G} {cl : List vw_C} {F : List FieldType} {K : Nat → ClassId} {Sh Sh' : g_Sh} {A : Nat → Prop} {V V' : g_V} {L L' : g_L} {nx nx' : Nat} {a x : Nat}
theorem W.mono {Q' : State → Prop} {g : JFrame} (hQ : ∀ t, Q t → Q' t) (k : W p l e R s m args below meth c H locs cells slots Q g) : W p l e R s m args below meth c H locs cells slots Q' g := by
  intro T hT X
  obtain ⟨t, h1, h2⟩ := k T hT X
  exact ⟨t, h1, hQ t h2⟩
theorem W.toT {Qc : Array Value → State → Outcome → State → Prop} {mc ms : Nat} {free : Addr → Prop} {g : JFrame} (k : W p l e R s m args below meth c H locs cells slots (MQ below Qc args s mc ms free) g) : W p l e R s m args below meth c H locs cells slots (MQT below Qc args s mc ms free) g := by
  refine W.mono ?_ k
  rintro t ⟨o, h1, h2, h3, Lc, h4, h5⟩
  exact ⟨o, h1, h2, h3, Lc, h4.2, h5⟩
theorem W.athrow (hexec : p.tables.exec = Jvm.exec) (hb : c.code = cc) (hdg : decode cc pc = .ok (.athrow, 1)) (k : WT p l e R s m args below meth c H locs cells slots Q (F0 m pc ls rest) x) : W p l e R s m args below meth c H locs cells slots Q (F0 m pc ls (.ref x :: rest)) := by
  intro T hT X
  obtain ⟨t, h1, h2⟩ := k T hT X
  refine ⟨t, ?_, h2⟩
  subst hb
  jvm_step X.here [X.here.top, hexec, hdg, athrow.wp_sem]
  exact h1
theorem WT.widen {g : JFrame} {k n : Nat} (h1 : cells ≤ k) (h2 : slots ≤ n) (kk : WT p l e R s m args below meth c H locs k n Q g x) : WT p l e R s m args below meth c H locs cells slots Q g x := fun T hT X => kk T hT (stand_widen X h1 h2)
/-- no handler covers it: the method ends by it -/
theorem WT.leave {Qc : Array Value → State → Outcome → State → Prop} {free : Addr → Prop} (hlocks : meth.locks = false) (hout : ∀ z ∈ c.exceptionTable.toList, covers z pc = false) (hq : ∀ t : State, t.heap = H → s.WarmedH t.vm → Qc args s (.threw x) t) (hf : ∀ q ∈ locs, free q.base) :
    WT p l e R s m args below meth c H locs cells slots (MQT below Qc args s cells slots free) (F0 m pc ls st0) x := by
  intro T hT X
  obtain ⟨h1, h2, h3, h4, h5⟩ := X.leaveThrown x (g := F0 m pc ls st0) rfl rfl rfl hout hlocks
  exact ⟨_, h1, _, h2, h3, hq _ hT h4, locs, ⟨h4, h5⟩, hf⟩
theorem d_leave {mc ms : Nat} (hlocks : meth.locks = false) (hne : c.exceptionTable.isEmpty = true) (hW : d_W gp D cl F K A s Sh V L nx H locs) (h1 : cells ≤ mc) (h2 : slots ≤ ms) :
    WT p l e R s m args below meth c H locs cells slots (MQT below (d_Q (.threw x) D cl F K A Sh V L nx) args s mc ms A) (F0 m pc ls st0) x :=
  WT.widen h1 h2 (WT.leave hlocks (fun z hz => by simp [Array.isEmpty] at hne; simp [hne] at hz) (fun t ht hw => ⟨⟨rfl, hW.Rr ht hw, hW.1.2.2.1⟩, hW.1.2.2.2.1.F ht⟩) hW.1.2.2.2.1.2.2)
variable {y : MethodName} {bytes : ByteArray} {maxL n index mc ms : Nat} {ret : Option FieldType} {ws : List Cond} {rm : Room} {C : String} {As : List Value} {ci N : Nat} {rf : Nat → Option (Option Nat)} {T : u_T} {v : Option Value}
/-- a call of a method that may throw, through an object -/
theorem runVT {Pc : Array Value → State → Prop} {Qc : Array Value → State → Outcome → State → Prop} {free : Addr → Prop} {b : Addr} (S : CallFix p m c cc nL s args lw_all own) (hM : MetT l y ws rm Pc Qc mc ms free) (cw : CallW R s args own C index y bytes maxL ret ws rm mc ms n) (hp : PreV s H C b Pc As)
    (hn : As.length = n) (hsize : ls.size = nL) (hro : (rest.map fun v => v.category).sum ≤ 8) (hdg : decode cc pc = .ok (.invokevirtual index, 3)) (hf : cells + mc ≤ R.cells ∧ slots + ms ≤ R.slots) {T0 : State} (hT : T0.heap = H) (X : Stand p l e R s m args below meth c T0 locs cells slots) :
    ∃ (o : Outcome) (st t B : State) (Lc : List Loc), st.heap = H ∧ Stand p l e R s m args below meth c B (locs ++ Lc) (cells + mc) (slots + ms) ∧ (∀ q ∈ Lc, free q.base) ∧ B.heap = t.heap ∧ B.vm = t.vm ∧ Qc (Value.ref b :: As).toArray st o t ∧
      ∀ target, Steps p.tables e below (cameT B (F0 m pc ls rest) 3 o) target → Steps p.tables e below (T0.setTop (F0 m pc ls (As.reverse ++ .ref b :: rest))) target := by
  obtain ⟨⟨hrc, hrs, hfr, hlo, hws, hcw, hcode, hini, hy, hlen, hlink⟩, hinst, hsel⟩ := cw
  obtain ⟨hexec, hb, hml, hown, -⟩ := S
  obtain ⟨hbl, ⟨cellB, hcell, hobj, hcls⟩, hPc⟩ := hp
  obtain ⟨mk, methM, hnamed, hmethM, hstM, habM⟩ := Cond.instanceMethod_spec hinst
  obtain ⟨methM', cM, hmethM', -, -, -, -, -, -, hsigM⟩ := Cond.code_spec hnamed hcode
  cases hmethM.symm.trans hmethM'
  obtain ⟨c2, r2, m2, q1, q2, q3, q4, kP, hkP, hkPi⟩ := Cond.selects_spec hsel
  cases hcls.symm.trans q1
  cases (State.methodFound?_of_named hnamed hy).symm.trans q2
  cases hnamed.symm.trans q3
  have hselP : selectMethod e.platform s.vm cellB.cls mk = .method mk := by rw [Launch.admits_selectMethod X.admits]; exact q4
  obtain ⟨vm₁, X₁, hstep₁⟩ := X.invokevirtual hexec hown hlink hnamed hmethM hstM hkP hkPi hy (a := b) (cell := cellB) (by rw [hT]; exact hcell)
    (fun z h => by rw [h] at hobj; cases hobj) hselP hmethM habM hkP hkPi (g := F0 m pc ls (As.reverse ++ .ref b :: rest)) rfl (argsL := As) (rest := rest) (hn.trans (hlen _ hsigM)) rfl (by rw [hb]; exact hdg)
  obtain ⟨o, t, B, Lc, X', hL, e1, e2, hq, hsteps⟩ := backT (R := R) (len := 3) (W := 8) (bytes := bytes) (maxL := maxL) (ret := ret) hM hbl hrc hrs hfr hlo hws hcw (fun a' U hW => word_at hW (Or.inl (by first | rfl | simp [Cond.onTables, Cond.keeps, Cond.steady])) hini)
    (g := F0 m pc ls rest) (ig := .invokevirtual index) (mk := mk) (a := (Value.ref b :: As).toArray) X₁ rfl (hsize.trans hml.symm) (by rw [hb]; exact hdg) (lv_room hro) (X₁.named hnamed) hf.1 hf.2 (hPc _ (by exact hT) X₁.warmed)
  exact ⟨o, _, t, B, Lc, by exact hT, X', hL, e1, e2, hq, fun target h => hstep₁ _ fun acts => by rw [doInvoke_state]; exact hsteps.trans h⟩
end TR
