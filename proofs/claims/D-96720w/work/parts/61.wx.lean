set_option maxRecDepth 100000
/-! the judgement at the note of an exception over the frame g; contracts of a method that throws -/
def WX (p : Program) (l : Launch) (e : Env) (R : Room) (s : State) (m : MethodId) (args : Array Value) (below : List Frame) (meth : Method) (c : Code) (H : Heap) (locs : List Loc) (cells slots : Nat) (Q : State → Prop) (x : Addr) (g : JFrame) : Prop :=
  ∀ T : State, T.heap = H → Stand p l e R s m args below meth c T locs cells slots → ∃ t, Steps p.tables e below ((T.setTop g).pushFrame (.throwing x)) t ∧ Q t
def MQT (below : List Frame) (Qc : Array Value → State → Outcome → State → Prop) (a : Array Value) (s : State) (mc ms : Nat) (free : Addr → Prop) : State → Prop := fun t =>
  ∃ o, t.status = .running ∧ Ended t below o ∧ Qc a s o t ∧ ∃ L, FrT s o t L mc ms ∧ ∀ q ∈ L, free q.base
def MetT (l : Launch) (y : MethodName) (ws : List Cond) (rm : Room) (Pc : Array Value → State → Prop) (Qc : Array Value → State → Outcome → State → Prop) (mc ms : Nat) (free : Addr → Prop) : Prop :=
  MetFree l y (headSpec ws rm) Pc (fun _ _ _ _ _ => True) (fun a st o t => Qc a st o t ∧ ∃ L, FrT st o t L mc ms ∧ ∀ q ∈ L, free q.base)
section WXA
variable {p : Program} {l : Launch} {e : Env} {R : Room} {s : State} {m : MethodId} {args : Array Value} {below : List Frame} {meth : Method} {c : Code} {H : Heap} {locs : List Loc} {cells slots : Nat} {Q : State → Prop}
theorem MetT.ofW {y : MethodName} {ws ws' : List Cond} {rm : Room} {Pc : Array Value → State → Prop} {Qc : Array Value → State → Outcome → State → Prop} {mc ms : Nat} {free : Addr → Prop} {cc : ByteArray} {maxL : Nat} {ret : Option FieldType}
    (hy : plainName y.cls = true) (hw : ws = Cond.code y cc maxL ret :: ws')
    (body : ∀ p e s m args below meth c s₁, BodyLoose p l y (headSpec ws rm) cc maxL ret e s m args below meth c s₁ → c.maxLocals = maxL → c.exceptionTable.toList = [] → Pc args s →
      W p l e (headSpec ws rm).room s m args below meth c s.heap [] 0 0 (MQT below Qc args s mc ms free) (entryFrame m args maxL)) : MetT l y ws rm Pc Qc mc ms free := by
  refine MetFree.of_bodyS (code := cc) (maxLocals := maxL) (ret := ret) hy ?_ ?_
  · intro args s m h hn
    obtain ⟨meth, c, h1, h2, h3, h4, h5, h6, -, -⟩ := Cond.code_spec hn (atoms_spec (ws := ws) h _ (by rw [hw]; exact List.mem_cons_self))
    exact ⟨meth, c, h1, h2, h3, h4, h5, h6⟩
  · intro p e s m args below meth c s₁ B hml hP _
    have hh0 : s₁.heap = s.heap := by rw [B.state]; rfl
    have hx : c.exceptionTable.toList = [] := by
      obtain ⟨meth', c', h1, h2, -, -, -, -, h7, -⟩ := Cond.code_spec B.named (atoms_spec (ws := ws) B.pre _ (by rw [hw]; exact List.mem_cons_self))
      cases h1.symm.trans (Stand.of_body B).method
      cases h2.symm.trans (Stand.of_body B).code
      exact Array.toList_eq_nil_iff.mpr (Array.isEmpty_iff.mp h7)
    obtain ⟨t, a1, o, b1, b2, b3⟩ := body p e s m args below meth c s₁ B hml hx hP s₁ hh0 (Stand.of_body B)
    exact ⟨t, o, a1, b1, b2, ⟨b3.1, b3.2⟩⟩
/-- out of the method -/
theorem WX.leave {Qc : Array Value → State → Outcome → State → Prop} {free : Addr → Prop} {x : Addr} {pc : Nat} {ls : Array Slot} {st : List Value}
    (hq : ∀ t : State, t.heap = H → s.WarmedH t.vm → Qc args s (.threw x) t) (hf : ∀ q ∈ locs, free q.base) (hout : ∀ z ∈ c.exceptionTable.toList, covers z pc = false) (hlocks : meth.locks = false) :
    WX p l e R s m args below meth c H locs cells slots (MQT below Qc args s cells slots free) x (F0 m pc ls st) := by
  intro T hT X
  obtain ⟨a1, a2, a3, a4, a5⟩ := X.leaveThrown x (g := F0 m pc ls st) rfl rfl rfl hout hlocks
  exact ⟨_, a1, .threw x, a2, a3, hq _ hT a4, locs, ⟨⟨x, rfl⟩, a4, a5⟩, hf⟩
/-- athrow -/
theorem W.athr {cc : ByteArray} (hexec : p.tables.exec = Jvm.exec) (hb : c.code = cc) {x : Addr} {pc : Nat} {ls : Array Slot} {st : List Value} (hdg : decode cc pc = .ok (.athrow, 1))
    (kk : WX p l e R s m args below meth c H locs cells slots Q x (F0 m pc ls st)) : W p l e R s m args below meth c H locs cells slots Q (F0 m pc ls (.ref x :: st)) := by
  intro T hT X
  obtain ⟨t, a1, b1⟩ := kk T hT X
  refine ⟨t, ?_, b1⟩
  jvm_step X.here [hexec, hb, hdg, athrow.wp_sem]
  exact a1
/-- into a handler: the search ends there -/
theorem WX.catch {x : Addr} {pc pc2 : Nat} {ls : Array Slot} {st : List Value}
    (hfind : ∀ T : State, T.heap = H → s.WarmedH T.vm → T.vm.method? m = some meth → meth.code = some c → Finds e ((T.setTop (F0 m pc ls st)).pushFrame (.throwing x)) (F0 m pc ls st) x (.found pc2))
    (kk : W p l e R s m args below meth c H locs cells slots Q (F0 m pc2 ls [.ref x])) : WX p l e R s m args below meth c H locs cells slots Q x (F0 m pc ls st) := by
  intro T hT X
  obtain ⟨t, a1, b1⟩ := kk T hT X
  exact ⟨t, X.catchAt x (g := F0 m pc ls st) rfl (hfind T hT X.warmed X.method' X.code) a1, b1⟩
end WXA
/-- how a run of a method that throws meets its caller -/
def va_RunT (p : Program) (l : Launch) (e : Env) (R : Room) (s : State) (m : MethodId) (args : Array Value) (below : List Frame) (meth : Method) (c : Code) (H : Heap) (locs : List Loc) (cells slots mc ms : Nat) (g : JFrame) (rest : List Value) (Qa : State → Outcome → State → Prop) (free : Addr → Prop) : Prop :=
  ∀ T : State, T.heap = H → Stand p l e R s m args below meth c T locs cells slots → ∃ (x : Addr) (st₀ t T' : State) (L : List Loc), st₀.heap = H ∧ Stand p l e R s m args below meth c T' (locs ++ L) (cells + mc) (slots + ms) ∧ (∀ q ∈ L, free q.base) ∧ T'.heap = t.heap ∧ T'.vm = t.vm ∧ Qa st₀ (.threw x) t ∧
    ∀ tg, Steps p.tables e below ((T'.setTop { g with stack := rest }).pushFrame (.throwing x)) tg → Steps p.tables e below (T.setTop g) tg
