set_option maxRecDepth 100000
/-! a call that ends in an exception: the note lies over the caller's frame -/
def FrT (s : State) (o : Outcome) (t : State) (L : List Loc) (k n : Nat) : Prop := (∃ x : Addr, o = Outcome.threw x) ∧ s.WarmedH t.vm ∧ s.sameButNew { t with vm := s.vm } L k n
theorem back_threw {l : Launch} {R : Room} {p : Program} {e : Env} {below : List Frame} {s : State} {sargs : Array Value} {y : MethodName} {len W : Nat} {S : Spec} {P : Array Value → State → Prop} {Q : Array Value → State → Outcome → State → Prop} {bytes : ByteArray} {maxL : Nat} {ret : Option FieldType} {hh : List (Nat × Nat × Nat × Nat)}
    {m : MethodId} {meth : Method} {c : Code} {U : State} {Ls : List Loc} {c0 s0 : Nat} {g : JFrame} {ig : Instr} {mk : MethodId} {a : Array Value}
    (hM : MetFree l y S P (fun _ _ _ _ _ => True) Q) (hframes : S.room.frames + 1 ≤ R.frames) (hlocals : W + (maxL + 11) + S.room.locals ≤ R.locals)
    (X : Stand p l e R s m sargs below meth c U Ls c0 s0) (hg : g.method = m) (hsize : g.locals.size = c.maxLocals) (hdg : decode c.code g.pc = .ok (ig, len)) (hW : 2 * g.monitorRoom + (g.stack.map fun v => v.category).sum ≤ W) (hn : U.methodNamed? y = some mk)
    (h1 : S.pre.before a U = true) (h2 : (∃ methY cY, U.vm.method? mk = some methY ∧ methY.code = some cY ∧ cY.maxLocals = maxL)) (h3 : (Cond.initialized y.cls).before a U = true) (h4 : c0 + S.room.cells ≤ R.cells) (h5 : s0 + S.room.slots ≤ R.slots)
    (hP : P a (U.calling g mk a)) {mc ms : Nat} {F : List Loc → Prop} (hQ : ∀ o t, Q a (U.calling g mk a) o t → ∃ L, FrT (U.calling g mk a) o t L mc ms ∧ F L) :
    ∃ (x : Addr) (L : List Loc) (t T' : State), Stand p l e R s m sargs below meth c T' (Ls ++ L) (c0 + mc) (s0 + ms) ∧ T'.heap = t.heap ∧ T'.vm = t.vm ∧ Q a (U.calling g mk a) (.threw x) t ∧ FrT (U.calling g mk a) (.threw x) t L mc ms ∧ F L ∧
      Steps p.tables e below (doInvoke e (U.setTop g) [] mk a).1 ((T'.setTop g).pushFrame (.throwing x)) := by
  obtain ⟨methY, cY, hmY, hcY, hlY⟩ := h2
  obtain ⟨kY, hkY, -⟩ := className_of_methodNamed hn
  have hinitY : kY.init = .initialized := Cond.initialized_spec (findClass_of_methodNamed hn) hkY h3
  have h : At U g.method c below := by rw [hg]; exact X.here
  have happ : S.appliesLoose y e.platform (U.calling g mk a) = true :=
    Spec.appliesLoose_calling (g := g) h hdg hn hkY hinitY
      (X.room_calling (g := g) (R' := S.room) hsize hmY hcY hframes (by rw [hlY]; omega) h4 h5) h1
  obtain ⟨mid, hmid⟩ := h.above
  have hfr : (U.setTop g).frames = (.java g :: mid) ++ below := by rw [State.frames_setTop' g h.top, hmid]; rfl
  obtain ⟨o, s₂, hsteps, -, hend, hq⟩ := Steps.callFree hM p X.admits X.cas X.clock (acts := []) hfr happ hP trivial
  have hq' : Q a (U.calling g mk a) o s₂ := hq
  rw [State.frames_setTop' g h.top] at hend
  obtain ⟨L, hfe, hFL⟩ := hQ _ _ hq'
  obtain ⟨⟨x, rfl⟩, hW₂, e2, q2, q3, q4, q5, q6⟩ := id hfe
  have e3 : s₂ = ({ (U.calling g mk a).setFrames s₂.frames with heap := s₂.heap, slotsUsed := s₂.slotsUsed } : State).setVm s₂.vm := by
    have : s₂ = ({ s₂ with vm := (U.calling g mk a).vm } : State).setVm s₂.vm := rfl
    rw [e2] at this
    exact this
  have hf₂ : s₂.frames = .throwing x :: .java g :: U.frames.tail := hend
  have hW' : U.WarmedH s₂.vm := hW₂
  obtain ⟨g₀, hg₀⟩ := Option.isSome_iff_exists.mp h.top
  obtain ⟨r, hr⟩ := State.topJava?_eq_some.mp hg₀
  have hs₂ : s₂ = ((({ U with heap := s₂.heap, slotsUsed := s₂.slotsUsed } : State).setVm s₂.vm).setTop g).pushFrame (.throwing x) := by
    have hr' : (({ U with heap := s₂.heap, slotsUsed := s₂.slotsUsed } : State).setVm s₂.vm).frames = .java g₀ :: r := hr
    refine e3.trans ?_
    rw [hf₂, State.calling_eq h.top, State.setFrames_setFrames, State.pushFrame, State.frames_setTop _ hr', State.setTop_of_frames _ hr', State.setFrames_setFrames, hr]
    rfl
  have hsame : U.sameButNew { U with heap := s₂.heap, slotsUsed := s₂.slotsUsed } L mc ms := by
    refine ⟨?_, q2, q3, q4, q5, q6⟩
    obtain ⟨t, ht, -⟩ := State.frames_cons hr
    show ({ U with heap := s₂.heap, slotsUsed := s₂.slotsUsed } : State) = { U.setFrames U.frames with heap := s₂.heap, slotsUsed := s₂.slotsUsed }
    rw [State.setFrames_self ht]
  refine ⟨x, L, s₂, ({ U with heap := s₂.heap, slotsUsed := s₂.slotsUsed } : State).setVm s₂.vm, ?_, rfl, rfl, hq', hfe, hFL, ?_⟩
  · subst hg
    exact ⟨X.admits, X.cas, X.clock, X.frames, X.room, X.hears, X.method, X.code, (X.here.setHeapUsed s₂.heap s₂.slotsUsed).setVm hW'.alike, X.tail, State.WarmedH.trans X.warmed hW', X.limits, X.bytes, X.same.trans (hsame.setVm s.vm)⟩
  · rw [← hs₂]; exact hsteps
