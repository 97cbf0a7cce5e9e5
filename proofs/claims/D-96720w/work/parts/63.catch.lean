set_option maxRecDepth 100000
/-! the search for a handler, its kinds linked (cold or warm) -/
def GoTo (e : Env) (s : State) (f : JFrame) (a : Addr) (t : List ExceptionTableEntry) (h : Handler) (vm' : Vm) : Prop :=
  ∀ (Q : Handler → Pre) (E : CtlPost) (d : Bool) (acts : List Action), wp (findHandler.go f a t) Q E e d acts s ↔ Q h d acts (s.setVm vm')
section GOTO
variable {e : Env} {s : State} {f : JFrame} {a : Addr}
theorem GoTo.skip {x : ExceptionTableEntry} {t : List ExceptionTableEntry} {h : Handler} {vm' : Vm} (hx : covers x f.pc = false) (k : GoTo e s f a t h vm') : GoTo e s f a (x :: t) h vm' := by
  intro Q E d acts
  rw [W.findHandler_go_skip hx]
  exact k Q E d acts
theorem GoTo.nil : GoTo e s f a [] .none s.vm := by
  intro Q E d acts
  have : s.setVm s.vm = s := State.setVm_self s
  rw [this]
  simp [findHandler.go]
theorem GoTo.hit {x : ExceptionTableEntry} {t : List ExceptionTableEntry} {c : ClassId} {cell : Cell} (hx : covers x f.pc = true) (h0 : x.catchType ≠ 0)
    (hl : s.vm.ClassLinks e.platform f.method.cls x.catchType c) (hcell : s.heap[a]? = some cell) (hobj : ∀ k, cell.vm ≠ .statics k)
    (hk : ∃ k, s.vm.classes[cell.cls]? = some k) (hc : ∃ k, s.vm.classes[c]? = some k) (hfit : s.vm.assignable cell.cls c = true) :
    GoTo e s f a (x :: t) (.found x.handlerPc) (s.vm.noted f.method.cls x.catchType (.cls c)) := by
  intro Q E d acts
  simp only [covers] at hx
  obtain ⟨ha, ht⟩ := (resolveClass_links e.toSetting hl).op (op := VmOp.resolveClass f.method.cls x.catchType) rfl
  have hal : s.vm.Alike (s.vm.noted f.method.cls x.catchType (.cls c)) := (Vm.Alike.refl s.vm).noted _ _ _
  obtain ⟨k1, hk1⟩ := hk
  obtain ⟨k2, hk2⟩ := hc
  obtain ⟨k1', hk1', -⟩ := hal.2.2 _ _ hk1
  obtain ⟨k2', hk2', -⟩ := hal.2.2 _ _ hk2
  have hfit' : (s.vm.noted f.method.cls x.catchType (.cls c)).assignable cell.cls c = true := by rw [hal.assignable]; exact hfit
  simp [findHandler.go, hx, h0, ha, ht, hcell, hobj, hk1', hk2', hfit', VmOp.dirties, VmOp.acts]
theorem GoTo.pass {x : ExceptionTableEntry} {t : List ExceptionTableEntry} {c : ClassId} {cell : Cell} {h : Handler} {vm' : Vm} (hx : covers x f.pc = true) (h0 : x.catchType ≠ 0)
    (hl : s.vm.ClassLinks e.platform f.method.cls x.catchType c) (hcell : s.heap[a]? = some cell) (hobj : ∀ k, cell.vm ≠ .statics k)
    (hk : ∃ k, s.vm.classes[cell.cls]? = some k) (hc : ∃ k, s.vm.classes[c]? = some k) (hfit : s.vm.assignable cell.cls c = false)
    (k : GoTo e (s.setVm (s.vm.noted f.method.cls x.catchType (.cls c))) f a t h vm') :
    GoTo e s f a (x :: t) h vm' := by
  intro Q E d acts
  have hk0 := k Q E d acts
  simp only [covers] at hx
  obtain ⟨ha, ht⟩ := (resolveClass_links e.toSetting hl).op (op := VmOp.resolveClass f.method.cls x.catchType) rfl
  have hal : s.vm.Alike (s.vm.noted f.method.cls x.catchType (.cls c)) := (Vm.Alike.refl s.vm).noted _ _ _
  obtain ⟨k1, hk1⟩ := hk
  obtain ⟨k2, hk2⟩ := hc
  obtain ⟨k1', hk1', -⟩ := hal.2.2 _ _ hk1
  obtain ⟨k2', hk2', -⟩ := hal.2.2 _ _ hk2
  have hfit' : (s.vm.noted f.method.cls x.catchType (.cls c)).assignable cell.cls c = false := by rw [hal.assignable]; exact hfit
  refine Iff.trans ?_ hk0
  simp [findHandler.go, hx, h0, ha, ht, hcell, hobj, hk1', hk2', hfit', VmOp.dirties, VmOp.acts]
theorem goTo_step {g : JFrame} {r : List Frame} {pc : Nat} {vm' : Vm} {meth : Method} {code : Code} (hm : s.vm.method? g.method = some meth) (hc : meth.code = some code) (hfind : GoTo e s g a code.exceptionTable.toList (.found pc) vm') :
    (stepThrowing e s a (.java g :: r)).Is ((s.setVm vm').setFrames (.java { g with pc := pc, stack := [.ref a] } :: r)) [] := by
  have hF : ∀ (Q : Handler → Pre) (E : CtlPost) (d : Bool) (acts : List Action), wp (findHandler g a) Q E e d acts s ↔ Q (.found pc) d acts (s.setVm vm') := by
    intro Q E d acts
    rw [W.findHandler_eq hm hc]
    exact hfind Q E d acts
  simp only [stepThrowing, searchFrame, vmDo]
  generalize hr : Sem.go _ e false [] s = res
  obtain ⟨as, rfl, ha⟩ := Sem.eq_ok_of hr (a := Handler.found pc) (s' := s.setVm vm') (acts' := []) (by simp [hF _ _ _ _])
  exact ⟨rfl, ha⟩
theorem goTo_steps {tb : Tables} {T target : State} {g : JFrame} {c : Code} {below : List Frame} (h : At T g.method c below) {pc : Nat} {vm' : Vm} {meth : Method} (hm : T.vm.method? g.method = some meth) (hc : meth.code = some c)
    (hfind : GoTo e ((T.setTop g).pushFrame (.throwing a)) g a c.exceptionTable.toList (.found pc) vm') (hrest : Steps tb e below ((T.setVm vm').setTop { g with pc := pc, stack := [.ref a] }) target) :
    Steps tb e below ((T.setTop g).pushFrame (.throwing a)) target := by
  obtain ⟨hgo, hw⟩ := h.throwing a
  refine Steps.head hgo hw ?_
  rw [stepThread_throwing (frames_entered h.top _), (goTo_step (s := (T.setTop g).pushFrame (.throwing a)) (by rw [Stand.throwing_vm]; exact hm) hc hfind).1]
  obtain ⟨g₀, hg⟩ := Option.isSome_iff_exists.mp h.top
  obtain ⟨r, hr⟩ := State.topJava?_eq_some.mp hg
  have hr' : (T.setVm vm').frames = .java g₀ :: r := hr
  have hsf : ∀ (u : State) (F G : List Frame), ((u.setFrames F).setVm vm').setFrames G = (u.setVm vm').setFrames G := fun u F G => by
    have h1 : (u.setFrames F).setVm vm' = (u.setVm vm').setFrames F := rfl
    rw [h1, State.setFrames_setFrames]
  rw [State.setTop_of_frames _ hr'] at hrest
  rw [hr, List.tail_cons, State.pushFrame, hsf, State.setTop_of_frames _ hr, hsf]
  exact hrest
end GOTO
section CATCH
variable {p : Program} {l : Launch} {e : Env} {R : Room} {s : State} {m : MethodId} {args : Array Value} {below : List Frame} {meth : Method} {c : Code} {H : Heap} {locs : List Loc} {cells slots : Nat} {Q : State → Prop}
/-- an entry of the table, its kind linked: it is passed or it takes -/
theorem goTo_link (hadm : l.admits e) {own name : String} (hown : s.vm.findClass own = some m.cls) {x : ExceptionTableEntry} (h0 : x.catchType ≠ 0) (hlink : (Cond.classLink own x.catchType name).before args s = true) {U : State} (hW : s.WarmedH U.vm)
    {cT : ClassId} (hcT : s.vm.findClass name = some cT) {a : Addr} {cell : Cell} (hcell : U.heap[a]? = some cell) (hobj : cell.vm.isStatics = false) (hkc : ∃ k, s.vm.classes[cell.cls]? = some k) {f : JFrame} (hf : f.method = m) (hx : covers x f.pc = true) :
    s.WarmedH (U.vm.noted m.cls x.catchType (.cls cT)) ∧ (∀ t, s.vm.assignable cell.cls cT = true → GoTo e U f a (x :: t) (.found x.handlerPc) (U.vm.noted m.cls x.catchType (.cls cT))) ∧
      (∀ t h vm', s.vm.assignable cell.cls cT = false → GoTo e (U.setVm (U.vm.noted m.cls x.catchType (.cls cT))) f a t h vm' → GoTo e U f a (x :: t) h vm') := by
  have hpl : e.platform.magicAccessors = ({} : Platform).magicAccessors := by rw [hadm.platform]
  obtain ⟨c', hc', hcl⟩ := Cond.classLink_spec hown hlink e.platform hpl
  cases hcT.symm.trans hc'
  obtain ⟨dk, _, _, kt, hd, _, _, _, _, hkt, _, hopen⟩ := hcl.here
  have hcl₀ := hW.classLinks hcl
  have hW' : s.WarmedH (U.vm.noted m.cls x.catchType (.cls cT)) := hW.noted hd hopen (State.rightAt_cls hcl)
  have hal := hW.alike
  obtain ⟨kt', hkt', -⟩ := hal.2.2 _ _ hkt
  obtain ⟨k1, hk1⟩ := hkc
  obtain ⟨k1', hk1', -⟩ := hal.2.2 _ _ hk1
  subst hf
  refine ⟨hW', fun t hfit => ?_, fun t h vm' hfit k => ?_⟩
  · exact GoTo.hit hx h0 hcl₀ hcell (VmData.ne_statics_of hobj) ⟨k1', hk1'⟩ ⟨kt', hkt'⟩ (by rw [hal.assignable]; exact hfit)
  · exact GoTo.pass hx h0 hcl₀ hcell (VmData.ne_statics_of hobj) ⟨k1', hk1'⟩ ⟨kt', hkt'⟩ (by rw [hal.assignable]; exact hfit) k
/-- into a handler, by a search that may warm the tables -/
theorem WX.takes {x : Addr} {pc pc2 : Nat} {ls : Array Slot} {st : List Value}
    (hfind : ∀ T : State, T.heap = H → s.WarmedH T.vm → ∃ vm', s.WarmedH vm' ∧ GoTo e T (F0 m pc ls st) x c.exceptionTable.toList (.found pc2) vm')
    (kk : W p l e R s m args below meth c H locs cells slots Q (F0 m pc2 ls [.ref x])) : WX p l e R s m args below meth c H locs cells slots Q x (F0 m pc ls st) := by
  intro T hT X
  obtain ⟨vm', hW', hg⟩ := hfind ((T.setTop (F0 m pc ls st)).pushFrame (.throwing x)) (by rw [Stand.throwing_heap]; exact hT) (by rw [Stand.throwing_vm]; exact X.warmed)
  obtain ⟨t, a1, b1⟩ := kk (T.setVm vm') hT (X.noted hW')
  exact ⟨t, goTo_steps (g := F0 m pc ls st) X.here X.method' X.code hg a1, b1⟩
end CATCH
