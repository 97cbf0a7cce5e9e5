set_option maxRecDepth 100000
/-! making objects and arrays -/
def QX {S : Type} (X : CX) (post : Option Value → S → Prop) (wsOf : S → va_W) : Array Value → State → Outcome → State → Prop := fun _ st o t => ∃ (v : Option Value) (u : S), o = .returned v ∧ post v u ∧ va_P X.2.2.1 vwCl (wsOf u) t.heap ∧ va_D (Az X) (wsOf u) ∧ va_F (Az X) st t
abbrev RX {S : Type} (l : Launch) (y : MethodName) (code : ByteArray) (nl : Nat) (ret : Option FieldType) (fr mc ms lo : Nat) (av : List Value) (X : CX) (ws : va_W) (post : Option Value → S → Prop) (wsOf : S → va_W) : Prop :=
  Met l y (ws_ y code nl ret) (RMw fr mc ms lo) (va_Pc av (PRW X ws)) (QX X post wsOf) mc ms (Az X)
theorem RX.mk {S : Type} {l : Launch} {y : MethodName} {code : ByteArray} {nl : Nat} {ret : Option FieldType} {fr mc ms lo : Nat} {av : List Value} {X : CX} {ws : va_W} {post : Option Value → S → Prop} {wsOf : S → va_W} (hy : plainName y.cls = true) (hn : (lg_sl av).length ≤ nl)
    (body : ∀ (p : Program) (e : Env) (s : State) (m : MethodId) (below : List Frame) (meth : Method) (c : Code), CallFix p m c code nl s av.toArray lw_all y.cls → meth.sig.returnType = ret → meth.locks = false → meth.name = y.name → KK X s → GG X ws s.heap s.heap [] → ∀ ls : Array Slot, lv_has ls nl (lv_args 0 av) →
      W p l e (RMw fr mc ms lo) s m av.toArray below meth c s.heap [] 0 0 (MQ below (QX X post wsOf) av.toArray s mc ms (Az X)) (F0 m 0 ls [])) : RX l y code nl ret fr mc ms lo av X ws post wsOf := by
  refine Met.ofW (cc := code) (maxL := nl) (ret := ret) hy rfl ?_
  intro p e s m args below meth c s₁ B hml hv
  obtain ⟨rfl, hK, hP, hD⟩ := hv
  have hts := atoms_spec (ws := ws_ y code nl ret) B.pre
  have hts : ∀ w ∈ lw_all, w.before _ s = true := fun w h => hts w (List.mem_cons_of_mem _ h)
  have hown : s.vm.findClass y.cls = some m.cls := findClass_of_methodNamed B.named
  have hl := lv_entry av (n := nl) hn
  rw [lg_entry_eq]
  exact body p e s m below meth c ⟨B.exec, B.bytes, hml, hown, hts⟩ B.returns B.notSynchronized (name_of_methodNamed B.named B.method).1 hK ⟨hP, hD, va_S.rf⟩ _ hl
theorem GG.ins {X : CX} {w1 rest : va_W} {x : Nat × va_E} {H0 H : Heap} {locs : List Loc} (h : GG X ((w1 ++ rest) ++ [x]) H0 H locs) : GG X (w1 ++ x :: rest) H0 H locs := by
  refine h.perm ?_
  rw [List.append_assoc]
  exact List.Perm.append_left _ List.perm_append_comm
section WG
variable {p : Program} {l : Launch} {e : Env} {R : Room} {s : State} {m : MethodId} {args : Array Value} {below : List Frame} {meth : Method} {c : Code} {H : Heap} {locs : List Loc} {cells slots : Nat} {Q : State → Prop} {cc : ByteArray} {nL pc : Nat} {ls : Array Slot} {st st0 : List Value} {own : String} {X : CX} {ws ws' w1 rest : va_W}
theorem w_vretX {S : Type} {post : Option Value → S → Prop} {wsOf : S → va_W} (B : CallFix p m c cc nL s args lw_all own) (hr : meth.sig.returnType = none) (hlk : meth.locks = false) (u : S) (hp : post none u) (hG : GG X (wsOf u) s.heap H locs) (hdg : decode cc pc = .ok (.return_, 1)) :
    W p l e R s m args below meth c H locs cells slots (MQ below (QX X post wsOf) args s cells slots (Az X)) (F0 m pc ls []) :=
  W.vret B.1 B.2.1 hr (fun t ht _ => ⟨none, u, rfl, hp, by rw [ht]; exact hG.1, hG.2.1, hG.2.2.F ht⟩) hG.2.2.2.2 hdg (hlocks := hlk)
theorem w_aretX {S : Type} {post : Option Value → S → Prop} {wsOf : S → va_W} (B : CallFix p m c cc nL s args lw_all own) {rt : FieldType} (hr : meth.sig.returnType = some rt) (hrt : (∃ n, rt = .object n) ∨ ∃ t, rt = .array t) (hlk : meth.locks = false) {r : Nat} (u : S) (hp : post (some (.ref r)) u) (hG : GG X (wsOf u) s.heap H locs) (hdg : decode cc pc = .ok (.areturn, 1)) :
    W p l e R s m args below meth c H locs cells slots (MQ below (QX X post wsOf) args s cells slots (Az X)) (F0 m pc ls [.ref r]) :=
  W.aret B.1 B.2.1 hr hrt (Or.inr ⟨r, rfl⟩) (fun t ht _ => ⟨some (.ref r), u, rfl, hp, by rw [ht]; exact hG.1, hG.2.1, hG.2.2.F ht⟩) hG.2.2.2.2 hdg (hlocks := hlk)
theorem w_iretX {S : Type} {post : Option Value → S → Prop} {wsOf : S → va_W} (B : CallFix p m c cc nL s args lw_all own) (hr : meth.sig.returnType = some .int) (hlk : meth.locks = false) {r : Int32} (u : S) (hp : post (some (.int r)) u) (hG : GG X (wsOf u) s.heap H locs) (hdg : decode cc pc = .ok (.ireturn, 1)) :
    W p l e R s m args below meth c H locs cells slots (MQ below (QX X post wsOf) args s cells slots (Az X)) (F0 m pc ls [.int r]) :=
  W.iret B.1 B.2.1 hr (fun t ht _ => ⟨some (.int r), u, rfl, hp, by rw [ht]; exact hG.1, hG.2.1, hG.2.2.F ht⟩) hG.2.2.2.2 hdg (hlocks := hlk)
/-- behind a call that makes something -/
theorem w_afterX {S : Type} {post : Option Value → S → Prop} {wsOf : S → va_W} {mc ms : Nat} {a : Array Value} (hr : va_Run p l e R s m args below meth c H locs cells slots mc ms (F0 m pc ls st0) st (QX X post wsOf a) (Az X)) (hS : va_S (Az X) s.heap H locs)
    (kk : ∀ (v : Option Value) (u : S) (H1 : Heap) (locs1 : List Loc), post v u → GG X (wsOf u) s.heap H1 locs1 → W p l e R s m args below meth c H1 locs1 (cells + mc) (slots + ms) Q (F0 m (pc + 3) ls (v.toList ++ st))) : W p l e R s m args below meth c H locs cells slots Q (F0 m pc ls st0) := by
  intro T hT X0
  obtain ⟨v', st₀, t, T', L, h0, X', hL, e1, e2, ⟨v, u, hv, hpo, hP, hD, hz, hk⟩, stp⟩ := hr T hT X0
  cases hv
  rw [h0] at hz hk
  obtain ⟨t2, a1, b1⟩ := kk v' u T'.heap (locs ++ L) hpo ⟨by rw [e1]; exact hP, hD, Nat.le_trans hS.1 (by rw [e1]; exact hz), fun q h1 h2 => by rw [e1, hk q (Nat.lt_of_lt_of_le h1 hS.1) h2]; exact hS.2.1 q h1 h2, fun q hq => by
      rcases List.mem_append.mp hq with h | h
      · exact hS.2.2 q h
      · exact hL q h⟩ T' rfl X'
  exact ⟨t2, stp t2 a1, b1⟩
theorem w_newa (B : CallFix p m c cc nL s args lw_all own) (hK : KK X s) (hG : GG X (w1 ++ rest) s.heap H locs) {atype : ArrayType} {ty : FieldType} (hty : newarray.typeOf atype = ty) (harr : Cond.arrayClass ty ∈ lw_all) (k : Nat) (hk : (tysX X.2.2.2)[k]? = some (X.2.2.2 k, ty)) (hp : ∀ C, ty ≠ .object C)
    {n : Int32} {N : Nat} {a0 : vp_A} (ha : ∀ cA : ClassId, vp_cell cA a0 = arrV cA N (fun _ => defaultValue ty)) (hn : ¬ n < 0) (hN : n.toNatClampNeg = N) (hbytes : N * componentBytes ty ≤ 536870912) (hcells : cells + 1 ≤ R.cells) (hslots : slots + N ≤ R.slots) (hdg : decode cc pc = .ok (.newarray atype, 2))
    (kk : ∀ (q : Nat) (H1 : Heap), GG X (w1 ++ (q, .inl (X.2.2.2 k, a0)) :: rest) s.heap H1 locs → W p l e R s m args below meth c H1 locs (cells + 1) (slots + N) Q (F0 m (pc + 2) ls (.ref q :: st))) : W p l e R s m args below meth c H locs cells slots Q (F0 m pc ls (.int n :: st)) := by
  subst hty
  refine va_newa B.1 B.2.1 (B.2.2.2.2 _ harr) rfl hK.k hG.1 hG.2.1 hG.2.2 hK.az ha hn hN hbytes hcells hslots hdg (fun q cA H1 hK1 h1 h2 h3 => kk q H1 ?_)
  have e : cA = X.2.2.2 k := by
    have r1 := (hK1.2 ((tysX X.2.2.2).length) (cA, newarray.typeOf atype) (by simp)).2
    have r2 := (hK.k.2 k _ hk).2
    cases atype <;> (have q := r1.symm.trans r2; exact Option.some.inj q)
  rw [e] at h1 h2
  exact GG.ins ⟨h1, h2, h3⟩
theorem w_newq (B : CallFix p m c cc nL s args lw_all own) (hK : KK X s) (hG : GG X (w1 ++ rest) s.heap H locs) {C : String} {index : Nat} (hcl : Cond.classLink own index C ∈ lw_all) (hov : Cond.arrayOver (.object C) ∈ lw_tbl) (k : Nat) (hk : (tysX X.2.2.2)[k]? = some (X.2.2.2 k, .object C))
    {n : Int32} {N : Nat} (hn : ¬ n < 0) (hN : n.toNatClampNeg = N) (hbytes : N * 4 ≤ 536870912) (hcells : cells + 1 ≤ R.cells) (hslots : slots + N ≤ R.slots) (hdg : decode cc pc = .ok (.anewarray index, 3))
    (kk : ∀ (q : Nat) (H1 : Heap), GG X (w1 ++ (q, .inl (X.2.2.2 k, N, .inr (.inr (.inr (.inr (fun _ => none)))))) :: rest) s.heap H1 locs → W p l e R s m args below meth c H1 locs (cells + 1) (slots + N) Q (F0 m (pc + 3) ls (.ref q :: st))) : W p l e R s m args below meth c H locs cells slots Q (F0 m pc ls (.int n :: st)) := by
  refine va_newq B.1 B.2.1 B.2.2.2.1 (B.2.2.2.2 _ hcl) (va_AO.moved hK.2.1.alike (va_AO.of (hK.1.1 _ hov))) hK.k hG.1 hG.2.1 hG.2.2 hK.az hn hN hbytes hcells hslots hdg (fun q cA H1 hK1 h1 h2 h3 => kk q H1 ?_)
  have e : cA = X.2.2.2 k := by
    obtain ⟨_, _, _, _, _, r1⟩ := (hK1.2 ((tysX X.2.2.2).length) (cA, .object C) (by simp)).2
    obtain ⟨_, _, _, _, _, r2⟩ := (hK.k.2 k _ hk).2
    exact Option.some.inj (r1.symm.trans r2)
  rw [e] at h1 h2
  exact GG.ins ⟨h1, h2, h3⟩
theorem w_new (B : CallFix p m c cc nL s args lw_all own) (hK : KK X s) (hG : GG X (w1 ++ rest) s.heap H locs) {C : String} {T : u_T} {N ci index : Nat} (hin : ∀ w ∈ u_ws C T N, w ∈ lw_all) (ty : Nat → FieldType) (hty : ∀ k, k < N → parseFieldDescriptor (T k).2.2.1 = some (ty k)) (hcl : Cond.classLink own index C ∈ lw_all) (hinst : Cond.instantiable C N ∈ lw_all) (hini : Cond.initialized C ∈ lw_all)
    (hc : vwCl[ci]? = some (C, T, N)) {fs : List Value} (hfs : ∀ j, j < N → defaultValue (ty j) = vp_V fs j) (hcells : cells + 1 ≤ R.cells) (hslots : slots + N ≤ R.slots) (hdg : decode cc pc = .ok (.new index, 3))
    (kk : ∀ (q : Nat) (H1 : Heap), GG X (w1 ++ (q, .inr (ci, fs)) :: rest) s.heap H1 locs → W p l e R s m args below meth c H1 locs (cells + 1) (slots + N) Q (F0 m (pc + 3) ls (.ref q :: st))) : W p l e R s m args below meth c H locs cells slots Q (F0 m pc ls st) :=
  va_new B.1 B.2.1 B.2.2.2.2 hin ty hty B.2.2.2.1 (B.2.2.2.2 _ hcl) (B.2.2.2.2 _ hinst) (B.2.2.2.2 _ hini) hK.k hG.1 hG.2.1 hG.2.2 hK.az hc hfs hcells hslots hdg (fun q H1 h1 h2 h3 => kk q H1 (GG.ins ⟨h1, h2, h3⟩))
theorem w_putF (B : CallFix p m c cc nL s args lw_all own) (hK : KK X s) (hG : GG X ws s.heap H locs) {C ref : String} {T : u_T} {N ci index a : Nat} {fs : List Value} (q0 k : Nat) (he : ws[q0]? = some (a, .inr (ci, fs))) (hc : vwCl[ci]? = some (C, T, N)) (hin : ∀ w ∈ u_ws C T N, w ∈ lw_all)
    (ty0 : Nat → FieldType) (hty : ∀ k, k < N → parseFieldDescriptor (T k).2.2.1 = some (ty0 k)) (hnm : ∀ a, a < N → ∀ b, b < N → a ≠ b → (T a).2.1 ≠ (T b).2.1) (hk : k < N)
    (hlink : Cond.fieldLink own index ref (T k).2.1 (T k).2.2.1 ∈ lw_all) (href : ref = (T k).1) (hfin : (T k).2.2.2 = true) (hin2 : meth.name = "<init>") (hdecl : (T k).1 = own) {v : Value} (hn : narrow (ty0 k) v = v) (hfit : fits (ty0 k) v = true) (hl : k < fs.length) (hdg : decode cc pc = .ok (.putfield index, 3))
    (kk : ∀ (H1 : Heap) (locs1 : List Loc), GG X (ws.set q0 (a, .inr (ci, fs.set k v))) s.heap H1 locs1 → W p l e R s m args below meth c H1 locs1 cells slots Q (F0 m (pc + 3) ls st)) : W p l e R s m args below meth c H locs cells slots Q (F0 m pc ls (v :: .ref a :: st)) :=
  va_putF B.1 B.2.1 B.2.2.2.2 hin ty0 hty hnm B.2.2.2.1 hK.k hG.1 hG.2.1 hG.2.2 q0 he hc k hk (B.2.2.2.2 _ hlink) (fun x h => by rw [href]; exact h) hfin hin2 hdecl (hty k hk) hn hfit hl hdg (fun H1 l1 h1 h2 h3 => kk H1 l1 ⟨h1, h2, h3⟩)
theorem w_obj (B : CallFix p m c cc nL s args lw_all own) (hl : ls.size = nL) {index a : Nat} (hlink : Cond.methodLink own index Lib.objectInit ∈ lw_all) (hcat : (st.map fun v => v.category).sum ≤ 8) (hframes : 1 ≤ R.frames) (hlocals : 20 ≤ R.locals) (hdg : decode cc pc = .ok (.invokespecial index, 3))
    (kk : W p l e R s m args below meth c H locs cells slots Q (F0 m (pc + 3) ls st)) : W p l e R s m args below meth c H locs cells slots Q (F0 m pc ls (.ref a :: st)) :=
  W.objInit (a := a) (rest := st) B.1 B.2.1 B.2.2.2.1 (B.2.2.2.2 _ hlink) (B.2.2.2.2 _ q127) (B.2.2.2.2 _ q128) rfl (by rw [B.2.2.1]; exact hl) rfl hdg hframes (by show 2 * 0 + _ + 12 ≤ _; omega) kk
end WG
/-! explicit worlds in another order -/
theorem range_get {α : Type} (w : List α) : (List.range w.length).filterMap (fun i => w[i]?) = w := by
  induction w with
  | nil => rfl
  | cons x t ih =>
    rw [List.length_cons, List.range_succ_eq_map, List.filterMap_cons]
    simp only [List.getElem?_cons_zero, List.filterMap_map]
    congr 1
theorem GG.re {X : CX} {w1 w2 rest : va_W} {H0 H : Heap} {locs : List Loc} (h : GG X (w1 ++ rest) H0 H locs) (is : List Nat) (n : Nat) (hn : w1.length = n) (hp : is.Perm (List.range n)) (hs : is.filterMap (fun i => w1[i]?) = w2) : GG X (w2 ++ rest) H0 H locs := by
  refine h.perm (List.Perm.append_right _ ?_)
  subst hn
  have q := hp.filterMap (fun i => w1[i]?)
  rw [hs, range_get] at q
  exact q.symm
theorem GG.front {X : CX} {w1 rest : va_W} {x : Nat × va_E} {H0 H : Heap} {locs : List Loc} (h : GG X (w1 ++ x :: rest) H0 H locs) : GG X (x :: (w1 ++ rest)) H0 H locs := h.perm List.perm_middle
theorem GG.mid {X : CX} {cs w1 rest : va_W} {H0 H : Heap} {locs : List Loc} (h : GG X (cs ++ (w1 ++ rest)) H0 H locs) : GG X (w1 ++ (cs ++ rest)) H0 H locs := h.perm (List.perm_append_comm_assoc _ _ _)
section WH
variable {p : Program} {l : Launch} {e : Env} {R : Room} {s : State} {m : MethodId} {args : Array Value} {below : List Frame} {meth : Method} {c : Code} {H : Heap} {locs : List Loc} {cells slots : Nat} {Q : State → Prop} {cc : ByteArray} {nL pc : Nat} {ls : Array Slot} {st st0 : List Value} {own : String} {X : CX} {ws : va_W}
variable {S : Type} {post : Option Value → S → Prop} {wsOf : S → va_W} {y : MethodName} {code : ByteArray} {nl : Nat} {fr mc ms lo : Nat} {As : List Value} {b index n : Nat} {host : String}
/-- a constructor's call -/
theorem w_rI_RX (B : CallFix p m c cc nL s args lw_all own) (hK : KK X s) (hG : GG X ws s.heap H locs) (hM : RX l y code nl none fr mc ms lo (.ref b :: As) X ws post wsOf) (h1 : Cond.code y code nl none ∈ lw_all) (h2 : Cond.initialized y.cls ∈ lw_all) (h3 : Cond.methodLink own index y ∈ lw_all) (h4 : Cond.instanceMethod y ∈ lw_all) (hy1 : y.name = "<init>")
    (hd : y.cls ≠ "java/lang/invoke/MethodHandle" ∧ y.cls ≠ "java/lang/invoke/VarHandle" ∧ (parseMethodDescriptor y.desc).map (fun d => d.parameters.length) = some n) (hR : fr + 1 ≤ R.frames ∧ 8 + (nl + 11) + lo ≤ R.locals) (hcs : cells + mc ≤ R.cells ∧ slots + ms ≤ R.slots) (hn : As.length = n) (hsz : ls.size = nL) (hst : st0 = As.reverse ++ .ref b :: st) (hcat : (st.map fun v => v.category).sum ≤ 8)
    (hdg : decode cc pc = .ok (.invokespecial index, 3)) : va_Run p l e R s m args below meth c H locs cells slots mc ms (F0 m pc ls st0) st (QX X post wsOf (Value.ref b :: As).toArray) (Az X) :=
  va_runI B hM (cwI n B.2.2.2.2 (lw_meth h1) rfl rfl rfl (B.2.2.2.2 _ h2) (B.2.2.2.2 _ h3) (B.2.2.2.2 _ h4) hy1 hd hR) ⟨fun _ _ _ _ q => q, fun U hU hW => ⟨rfl, hK.step hG.2.2 hU hW, by rw [hU]; exact hG.1, hG.2.1⟩⟩ rfl hn hsz hst (lv_room hcat) hdg hcs
theorem w_rIN_RX (B : CallFix p m c cc nL s args lw_all own) (hK : KK X s) (hG : GG X ws s.heap H locs) (hM : RX l y code nl none fr mc ms lo (.ref b :: As) X ws post wsOf) (h1 : Cond.code y code nl none ∈ lw_all) (h2 : Cond.initialized y.cls ∈ lw_all) (h3 : Cond.methodLinkNest own index y host ∈ lw_tbl) (h4 : Cond.instanceMethod y ∈ lw_all) (hy1 : y.name = "<init>")
    (hd : y.cls ≠ "java/lang/invoke/MethodHandle" ∧ y.cls ≠ "java/lang/invoke/VarHandle" ∧ (parseMethodDescriptor y.desc).map (fun d => d.parameters.length) = some n) (hR : fr + 1 ≤ R.frames ∧ 8 + (nl + 11) + lo ≤ R.locals) (hcs : cells + mc ≤ R.cells ∧ slots + ms ≤ R.slots) (hn : As.length = n) (hsz : ls.size = nL) (hst : st0 = As.reverse ++ .ref b :: st) (hcat : (st.map fun v => v.category).sum ≤ 8)
    (hdg : decode cc pc = .ok (.invokespecial index, 3)) : va_Run p l e R s m args below meth c H locs cells slots mc ms (F0 m pc ls st0) st (QX X post wsOf (Value.ref b :: As).toArray) (Az X) :=
  va_runIN B hM ⟨va_cnB n B.2.2.2.2 (lw_meth h1) rfl rfl rfl (hK.nestM h3) (B.2.2.2.2 _ h2) hd hR, hy1, B.2.2.2.2 _ h4⟩ ⟨fun _ _ _ _ q => q, fun U hU hW => ⟨rfl, hK.step hG.2.2 hU hW, by rw [hU]; exact hG.1, hG.2.1⟩⟩ rfl hn hsz hst (lv_room hcat) hdg hcs
end WH
