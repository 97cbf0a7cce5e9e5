set_option maxRecDepth 100000
/-! contracts of methods that throw, in worlds; handlers -/
def QT {S : Type} (X : CX) (post : Nat → Heap → S → Prop) (wsOf : S → va_W) : Array Value → State → Outcome → State → Prop := fun _ st o t => ∃ (x : Nat) (u : S), o = .threw x ∧ post x t.heap u ∧ va_P X.2.2.1 vwCl (wsOf u) t.heap ∧ va_D (Az X) (wsOf u) ∧ va_F (Az X) st t
abbrev TX {S : Type} (l : Launch) (y : MethodName) (code : ByteArray) (nl : Nat) (ret : Option FieldType) (fr mc ms lo : Nat) (av : List Value) (X : CX) (ws : va_W) (post : Nat → Heap → S → Prop) (wsOf : S → va_W) : Prop :=
  MetT l y (ws_ y code nl ret) (RMw fr mc ms lo) (va_Pc av (PRW X ws)) (QT X post wsOf) mc ms (Az X)
theorem TX.mk {S : Type} {l : Launch} {y : MethodName} {code : ByteArray} {nl : Nat} {ret : Option FieldType} {fr mc ms lo : Nat} {av : List Value} {X : CX} {ws : va_W} {post : Nat → Heap → S → Prop} {wsOf : S → va_W} (hy : plainName y.cls = true) (hn : (lg_sl av).length ≤ nl)
    (body : ∀ (p : Program) (e : Env) (s : State) (m : MethodId) (below : List Frame) (meth : Method) (c : Code), CallFix p m c code nl s av.toArray lw_all y.cls → meth.locks = false → c.exceptionTable.toList = [] → KK X s → GG X ws s.heap s.heap [] → ∀ ls : Array Slot, lv_has ls nl (lv_args 0 av) →
      W p l e (RMw fr mc ms lo) s m av.toArray below meth c s.heap [] 0 0 (MQT below (QT X post wsOf) av.toArray s mc ms (Az X)) (F0 m 0 ls [])) : TX l y code nl ret fr mc ms lo av X ws post wsOf := by
  refine MetT.ofW (cc := code) (maxL := nl) (ret := ret) hy rfl ?_
  intro p e s m args below meth c s₁ B hml hx hv
  obtain ⟨rfl, hK, hP, hD⟩ := hv
  have hts := atoms_spec (ws := ws_ y code nl ret) B.pre
  have hts : ∀ w ∈ lw_all, w.before _ s = true := fun w h => hts w (List.mem_cons_of_mem _ h)
  have hown : s.vm.findClass y.cls = some m.cls := findClass_of_methodNamed B.named
  have hl := lv_entry av (n := nl) hn
  rw [lg_entry_eq]
  exact body p e s m below meth c ⟨B.exec, B.bytes, hml, hown, hts⟩ B.notSynchronized hx hK ⟨hP, hD, va_S.rf⟩ _ hl
/-- a method with handlers: its table at hand -/
theorem MetH.ofW {l : Launch} {y : MethodName} {ws ws' : List Cond} {rm : Room} {Pc : Array Value → State → Prop} {Qc : Array Value → State → Outcome → State → Prop} {mc ms : Nat} {free : Addr → Prop} {cc : ByteArray} {maxL : Nat} {ret : Option FieldType} {hh : List (Nat × Nat × Nat × Nat)}
    (hy : plainName y.cls = true) (hw : ws = Cond.codeWith y cc maxL ret hh :: ws')
    (body : ∀ p e s m args below meth c s₁, BodyLoose p l y (headSpec ws rm) cc maxL ret e s m args below meth c s₁ → c.maxLocals = maxL → c.exceptionTable.toList.map (fun h => (h.startPc, h.endPc, h.handlerPc, h.catchType)) = hh → Pc args s →
      W p l e (headSpec ws rm).room s m args below meth c s.heap [] 0 0 (MQ below Qc args s mc ms free) (entryFrame m args maxL)) : Met l y ws rm Pc Qc mc ms free := by
  refine va_MetW hy hw ?_
  intro p e s m args below meth c s₁ B hml hP
  refine body p e s m args below meth c s₁ B hml ?_ hP
  obtain ⟨m9, meth', c', hn9, h1, h2, -, -, h5, -⟩ := Cond.codeWith_spec (atoms_spec (ws := ws) B.pre _ (by rw [hw]; exact List.mem_cons_self))
  cases B.named.symm.trans hn9
  cases h1.symm.trans (Stand.of_body B).method
  cases h2.symm.trans (Stand.of_body B).code
  exact h5
abbrev wsH_ (y : MethodName) (b : ByteArray) (L : Nat) (r : Option FieldType) (hh : List (Nat × Nat × Nat × Nat)) : List Cond := Cond.codeWith y b L r hh :: lw_all
abbrev HX {S : Type} (l : Launch) (y : MethodName) (code : ByteArray) (nl : Nat) (ret : Option FieldType) (hh : List (Nat × Nat × Nat × Nat)) (fr mc ms lo : Nat) (av : List Value) (X : CX) (ws : va_W) (post : Option Value → S → Prop) (wsOf : S → va_W) : Prop :=
  Met l y (wsH_ y code nl ret hh) (RMw fr mc ms lo) (va_Pc av (PRW X ws)) (QX X post wsOf) mc ms (Az X)
theorem HX.mk {S : Type} {l : Launch} {y : MethodName} {code : ByteArray} {nl : Nat} {ret : Option FieldType} {hh : List (Nat × Nat × Nat × Nat)} {fr mc ms lo : Nat} {av : List Value} {X : CX} {ws : va_W} {post : Option Value → S → Prop} {wsOf : S → va_W} (hy : plainName y.cls = true) (hn : (lg_sl av).length ≤ nl)
    (body : ∀ (p : Program) (e : Env) (s : State) (m : MethodId) (below : List Frame) (meth : Method) (c : Code), CallFix p m c code nl s av.toArray lw_all y.cls → meth.sig.returnType = ret → meth.locks = false → c.exceptionTable.toList.map (fun h => (h.startPc, h.endPc, h.handlerPc, h.catchType)) = hh → KK X s → GG X ws s.heap s.heap [] → ∀ ls : Array Slot, lv_has ls nl (lv_args 0 av) →
      W p l e (RMw fr mc ms lo) s m av.toArray below meth c s.heap [] 0 0 (MQ below (QX X post wsOf) av.toArray s mc ms (Az X)) (F0 m 0 ls [])) : HX l y code nl ret hh fr mc ms lo av X ws post wsOf := by
  refine MetH.ofW (cc := code) (maxL := nl) (ret := ret) hy rfl ?_
  intro p e s m args below meth c s₁ B hml hx hv
  obtain ⟨rfl, hK, hP, hD⟩ := hv
  have hts := atoms_spec (ws := wsH_ y code nl ret hh) B.pre
  have hts : ∀ w ∈ lw_all, w.before _ s = true := fun w h => hts w (List.mem_cons_of_mem _ h)
  have hown : s.vm.findClass y.cls = some m.cls := findClass_of_methodNamed B.named
  have hl := lv_entry av (n := nl) hn
  rw [lg_entry_eq]
  exact body p e s m below meth c ⟨B.exec, B.bytes, hml, hown, hts⟩ B.returns B.notSynchronized hx hK ⟨hP, hD, va_S.rf⟩ _ hl
theorem tab_1 {L : List ExceptionTableEntry} {a : Nat × Nat × Nat × Nat} (h : L.map (fun h => (h.startPc, h.endPc, h.handlerPc, h.catchType)) = [a]) : ∃ x, L = [x] ∧ (x.startPc, x.endPc, x.handlerPc, x.catchType) = a := by
  match L, h with
  | [x], h => exact ⟨x, rfl, (List.cons.inj h).1⟩
theorem tab_2 {L : List ExceptionTableEntry} {a b : Nat × Nat × Nat × Nat} (h : L.map (fun h => (h.startPc, h.endPc, h.handlerPc, h.catchType)) = [a, b]) : ∃ x y, L = [x, y] ∧ (x.startPc, x.endPc, x.handlerPc, x.catchType) = a ∧ (y.startPc, y.endPc, y.handlerPc, y.catchType) = b := by
  match L, h with
  | [x, y], h => exact ⟨x, y, rfl, (List.cons.inj h).1, (List.cons.inj (List.cons.inj h).2).1⟩
theorem tab_3 {L : List ExceptionTableEntry} {a b d : Nat × Nat × Nat × Nat} (h : L.map (fun h => (h.startPc, h.endPc, h.handlerPc, h.catchType)) = [a, b, d]) : ∃ x y z, L = [x, y, z] ∧ (x.startPc, x.endPc, x.handlerPc, x.catchType) = a ∧ (y.startPc, y.endPc, y.handlerPc, y.catchType) = b ∧ (z.startPc, z.endPc, z.handlerPc, z.catchType) = d := by
  match L, h with
  | [x, y, z], h => exact ⟨x, y, z, rfl, (List.cons.inj h).1, (List.cons.inj (List.cons.inj h).2).1, (List.cons.inj (List.cons.inj (List.cons.inj h).2).2).1⟩
theorem ExC.at0 {X : CX} {s : State} {cls : String} {x : Nat} {H : Heap} (hK : KK X s) (h : ExC s cls x H) : ExC X.1 cls x H := by
  obtain ⟨ce, h1, h2, h3⟩ := h
  exact ⟨ce, h1, h2, by rw [← hK.2.1.alike.findClass]; exact h3⟩
theorem ExC.at1 {X : CX} {s : State} {cls : String} {x : Nat} {H : Heap} (hK : KK X s) (h : ExC X.1 cls x H) : ExC s cls x H := by
  obtain ⟨ce, h1, h2, h3⟩ := h
  exact ⟨ce, h1, h2, by rw [hK.2.1.alike.findClass]; exact h3⟩
section TXS
variable {p : Program} {l : Launch} {e : Env} {R : Room} {s : State} {m : MethodId} {args : Array Value} {below : List Frame} {meth : Method} {c : Code} {H : Heap} {locs : List Loc} {cells slots cells' slots' : Nat} {Q : State → Prop} {cc : ByteArray} {nL pc : Nat} {ls : Array Slot} {st st0 : List Value} {own : String} {X : CX} {ws : va_W}
theorem WX.more {x : Addr} {g : JFrame} (h : cells ≤ cells') (h' : slots ≤ slots') (kk : WX p l e R s m args below meth c H locs cells' slots' Q x g) : WX p l e R s m args below meth c H locs cells slots Q x g := fun T hT X => kk T hT (X.more h h')
theorem w_leaveT {S : Type} {post : Nat → Heap → S → Prop} {wsOf : S → va_W} {x : Nat} (u : S) (hp : post x H u) (hG : GG X (wsOf u) s.heap H locs) (htab : c.exceptionTable.toList = []) (hlk : meth.locks = false) :
    WX p l e R s m args below meth c H locs cells slots (MQT below (QT X post wsOf) args s cells slots (Az X)) x (F0 m pc ls st) :=
  WX.leave (fun t ht _ => ⟨x, u, rfl, by rw [ht]; exact hp, by rw [ht]; exact hG.1, hG.2.1, hG.2.2.F ht⟩) hG.2.2.2.2 (by rw [htab]; exact fun z hz => nomatch hz) hlk
theorem w_afterT {S : Type} {post : Nat → Heap → S → Prop} {wsOf : S → va_W} {mc ms : Nat} {a : Array Value} (hr : va_RunT p l e R s m args below meth c H locs cells slots mc ms (F0 m pc ls st0) st (QT X post wsOf a) (Az X)) (hS : va_S (Az X) s.heap H locs)
    (kk : ∀ (x : Nat) (u : S) (H1 : Heap) (locs1 : List Loc), post x H1 u → GG X (wsOf u) s.heap H1 locs1 → WX p l e R s m args below meth c H1 locs1 (cells + mc) (slots + ms) Q x (F0 m pc ls st)) : W p l e R s m args below meth c H locs cells slots Q (F0 m pc ls st0) := by
  intro T hT X0
  obtain ⟨x', st₀, t, T', L, h0, X', hL, e1, e2, ⟨x, u, hv, hpo, hP, hD, hz, hk⟩, stp⟩ := hr T hT X0
  cases hv
  rw [h0] at hz hk
  obtain ⟨t2, a1, b1⟩ := kk x' u T'.heap (locs ++ L) (by rw [e1]; exact hpo) ⟨by rw [e1]; exact hP, hD, Nat.le_trans hS.1 (by rw [e1]; exact hz), fun q h1 h2 => by rw [e1, hk q (Nat.lt_of_lt_of_le h1 hS.1) h2]; exact hS.2.1 q h1 h2, fun q hq => by
      rcases List.mem_append.mp hq with h | h
      · exact hS.2.2 q h
      · exact hL q h⟩ T' rfl X'
  exact ⟨t2, stp t2 a1, b1⟩
/-- one entry that takes it -/
theorem w_catch1 (B : CallFix p m c cc nL s args lw_all own) (hK : KK X s) {cls name : String} {x a b h ct : Nat} (htab : c.exceptionTable.toList.map (fun h => (h.startPc, h.endPc, h.handlerPc, h.catchType)) = [(a, b, h, ct)]) (hct : ct ≠ 0) (hin : a ≤ pc ∧ pc < b) (hlink : Cond.classLink own ct name ∈ lw_all) (hex : ExC s cls x H) (hcast : Cond.castable cls name ∈ lw_tbl) {N : Nat} (hI : Cond.instantiable cls N ∈ lw_all)
    (kk : W p l e R s m args below meth c H locs cells slots Q (F0 m h ls [.ref x])) : WX p l e R s m args below meth c H locs cells slots Q x (F0 m pc ls st) := by
  intro T0 hT0 X0
  obtain ⟨z, hz, hz2⟩ := tab_1 htab
  obtain ⟨ce, hce, hvm, hfc⟩ := hex
  obtain ⟨e1, e2, e3, e4⟩ := (show z.startPc = a ∧ z.endPc = b ∧ z.handlerPc = h ∧ z.catchType = ct by
    have := hz2
    simp only [Prod.mk.injEq] at this
    exact this)
  refine WX.takes (pc2 := h) (fun T hT hW => ?_) kk T0 hT0 X0
  obtain ⟨ca, cb, hca, hcb, hasg⟩ := Cond.castable_spec (show (Cond.castable cls name).before #[] s = true from hK.castB hcast)
  cases Option.some.inj (hca.symm.trans hfc)
  have hkc : ∃ k, s.vm.classes[ce.cls]? = some k := by
    obtain ⟨c1, k, hc1, hk1, -⟩ := Cond.instantiable_spec (B.2.2.2.2 _ hI)
    cases Option.some.inj (hc1.symm.trans hfc)
    exact ⟨k, hk1⟩
  obtain ⟨w1, w2, w3⟩ := goTo_link (m := m) (x := z) (f := F0 m pc ls st) X0.admits B.2.2.2.1 (by rw [e4]; exact hct) (by rw [e4]; exact B.2.2.2.2 _ hlink) hW hcb (a := x) (by rw [hT]; exact hce) (by rw [hvm]; rfl) hkc rfl (by
    simp only [covers, e1, e2, F0]
    simp [hin.1, hin.2])
  rw [hz, ← e3]
  exact ⟨_, w1, w2 [] hasg⟩
end TXS
