/-! the context of a run, contracts, rows and calls in short form -/
set_option maxRecDepth 100000
/-- the law's start, the script's address, numbers of the object kinds with their slots, numbers of the array kinds -/
abbrev CX : Type := State × Addr × va_G × (Nat → ClassId)
def Az (X : CX) : Nat → Prop := fun q => X.1.heap.size ≤ q
abbrev vwCl : List vw_C := [(RX4, TX4, 28), (RX0, TX0, 8), (RX1, TX1, 11), (RX2, TX2, 2), (RX3, TX3, 1), (RX6, TX6, 3), (RX7, TX7, 3), (RX8, TX8, 3), (RX9, TX9, 3), (RX10, TX10, 3), (RX11, TX11, 3), (RX12, TX12, 7), (RX5, TX5, 7), (RX13, TX13, 7), (RJ12, TJ12, 4), (RJ4, TJ4, 4)]
abbrev tysX (d : Nat → ClassId) : List (ClassId × FieldType) := [(d 0, .int), (d 1, .long), (d 2, .boolean), (d 3, .byte), (d 4, .short), (d 5, .object RX6), (d 6, .object RX3)]
/-- U is a later state of the run that began at X: its tables are warmed, and the old cells are as they were -/
def KK (X : CX) (U : State) : Prop :=
  ((∀ w ∈ lw_tbl, w.before #[Value.ref X.2.1] X.1 = true) ∧ (Jvm.Cond.and given_1 narrow_1).before #[Value.ref X.2.1] X.1 = true ∧ modulesRight_1 X.1 = true ∧ va_K X.2.2.1 vwCl (tysX X.2.2.2) X.1) ∧
    X.1.WarmedH U.vm ∧ X.1.heap.size ≤ U.heap.size ∧ ∀ q : Nat, q < X.1.heap.size → U.heap[q]? = X.1.heap[q]?
theorem KK.k {X : CX} {U : State} (h : KK X U) : va_K X.2.2.1 vwCl (tysX X.2.2.2) U := va_K.moved h.2.1.alike h.1.2.2.2
theorem KK.step {X : CX} {s U : State} {H : Heap} {locs : List Loc} (h : KK X s) (hS : va_S (Az X) s.heap H locs) (hU : U.heap = H) (hW : s.WarmedH U.vm) : KK X U := by
  obtain ⟨h1, h2, h3, h4⟩ := h
  refine ⟨h1, State.WarmedH.trans h2 hW, by rw [hU]; exact Nat.le_trans h3 hS.1, fun q hq => ?_⟩
  rw [hU, hS.2.1 q (Nat.lt_of_lt_of_le hq h3) (fun z => absurd z (Nat.not_le.mpr hq))]
  exact h4 q hq
theorem KK.az {X : CX} {s : State} (h : KK X s) : ∀ q : Nat, s.heap.size ≤ q → Az X q := fun _ hq => Nat.le_trans h.2.2.1 hq
/-- the heap in a walk -/
def GG (X : CX) (ws : va_W) (H0 H : Heap) (locs : List Loc) : Prop := va_P X.2.2.1 vwCl ws H ∧ va_D (Az X) ws ∧ va_S (Az X) H0 H locs
abbrev RM (fr lo : Nat) : Room := { frames := fr, cells := 0, slots := 0, locals := lo }
abbrev RMw (fr mc ms lo : Nat) : Room := { frames := fr, cells := mc, slots := ms, locals := lo }
def PRE (X : CX) (ws : va_W) (U : State) : Prop := KK X U ∧ va_P X.2.2.1 vwCl ws U.heap
def PRW (X : CX) (ws : va_W) (U : State) : Prop := KK X U ∧ va_P X.2.2.1 vwCl ws U.heap ∧ va_D (Az X) ws
def QR (v : Option Value) : Array Value → State → Outcome → State → Prop := fun _ st o t => o = .returned v ∧ t.heap = st.heap
def QW (X : CX) (ws : va_W) (v : Option Value) : Array Value → State → Outcome → State → Prop := fun _ st o t => o = .returned v ∧ va_P X.2.2.1 vwCl ws t.heap ∧ va_D (Az X) ws ∧ va_F (Az X) st t
def NoF : Nat → Prop := fun _ => False
/-- a contract of a method that looks at nothing -/
abbrev ST (l : Launch) (y : MethodName) (code : ByteArray) (nl : Nat) (ret : Option FieldType) (fr lo : Nat) (av : List Value) (v : Value) : Prop :=
  Met l y (ws_ y code nl ret) (RM fr lo) (va_Pc av (fun _ => True)) (QR (some v)) 0 0 NoF
/-- a contract of a method that writes nothing -/
abbrev RO (l : Launch) (y : MethodName) (code : ByteArray) (nl : Nat) (ret : Option FieldType) (fr lo : Nat) (av : List Value) (X : CX) (ws : va_W) (v : Option Value) : Prop :=
  Met l y (ws_ y code nl ret) (RM fr lo) (va_Pc av (PRE X ws)) (QR v) 0 0 NoF
/-- a contract of a method that writes -/
abbrev RW (l : Launch) (y : MethodName) (code : ByteArray) (nl : Nat) (ret : Option FieldType) (fr mc ms lo : Nat) (av : List Value) (X : CX) (ws ws' : va_W) (v : Option Value) : Prop :=
  Met l y (ws_ y code nl ret) (RMw fr mc ms lo) (va_Pc av (PRW X ws)) (QW X ws' v) mc ms (Az X)
section MK
variable {l : Launch} {y : MethodName} {code : ByteArray} {nl : Nat} {ret : Option FieldType} {fr mc ms lo : Nat} {av : List Value} {X : CX} {ws ws' : va_W} {v : Option Value}
theorem ST.mk {v : Value} (hy : plainName y.cls = true) (hn : (lg_sl av).length ≤ nl)
    (body : ∀ (p : Program) (e : Env) (s : State) (m : MethodId) (below : List Frame) (meth : Method) (c : Code), CallFix p m c code nl s av.toArray lw_all y.cls → meth.sig.returnType = ret → meth.locks = false → ∀ ls : Array Slot, lv_has ls nl (lv_args 0 av) →
      W p l e (RM fr lo) s m av.toArray below meth c s.heap [] 0 0 (MQ below (QR (some v)) av.toArray s 0 0 NoF) (F0 m 0 ls [])) : ST l y code nl ret fr lo av v := by
  refine Met.ofW (cc := code) (maxL := nl) (ret := ret) hy rfl ?_
  intro p e s m args below meth c s₁ B hml hv
  obtain ⟨rfl, -⟩ := hv
  have hts := atoms_spec (ws := ws_ y code nl ret) B.pre
  have hts : ∀ w ∈ lw_all, w.before _ s = true := fun w h => hts w (List.mem_cons_of_mem _ h)
  have hown : s.vm.findClass y.cls = some m.cls := findClass_of_methodNamed B.named
  have hl := lv_entry av (n := nl) hn
  rw [lg_entry_eq]
  exact body p e s m below meth c ⟨B.exec, B.bytes, hml, hown, hts⟩ B.returns B.notSynchronized _ hl
theorem RO.mk (hy : plainName y.cls = true) (hn : (lg_sl av).length ≤ nl)
    (body : ∀ (p : Program) (e : Env) (s : State) (m : MethodId) (below : List Frame) (meth : Method) (c : Code), CallFix p m c code nl s av.toArray lw_all y.cls → meth.sig.returnType = ret → meth.locks = false → KK X s → va_P X.2.2.1 vwCl ws s.heap → ∀ ls : Array Slot, lv_has ls nl (lv_args 0 av) →
      W p l e (RM fr lo) s m av.toArray below meth c s.heap [] 0 0 (MQ below (QR v) av.toArray s 0 0 NoF) (F0 m 0 ls [])) : RO l y code nl ret fr lo av X ws v := by
  refine Met.ofW (cc := code) (maxL := nl) (ret := ret) hy rfl ?_
  intro p e s m args below meth c s₁ B hml hv
  obtain ⟨rfl, hK, hP⟩ := hv
  have hts := atoms_spec (ws := ws_ y code nl ret) B.pre
  have hts : ∀ w ∈ lw_all, w.before _ s = true := fun w h => hts w (List.mem_cons_of_mem _ h)
  have hown : s.vm.findClass y.cls = some m.cls := findClass_of_methodNamed B.named
  have hl := lv_entry av (n := nl) hn
  rw [lg_entry_eq]
  exact body p e s m below meth c ⟨B.exec, B.bytes, hml, hown, hts⟩ B.returns B.notSynchronized hK hP _ hl
theorem RW.mk (hy : plainName y.cls = true) (hn : (lg_sl av).length ≤ nl)
    (body : ∀ (p : Program) (e : Env) (s : State) (m : MethodId) (below : List Frame) (meth : Method) (c : Code), CallFix p m c code nl s av.toArray lw_all y.cls → meth.sig.returnType = ret → meth.locks = false → KK X s → GG X ws s.heap s.heap [] → ∀ ls : Array Slot, lv_has ls nl (lv_args 0 av) →
      W p l e (RMw fr mc ms lo) s m av.toArray below meth c s.heap [] 0 0 (MQ below (QW X ws' v) av.toArray s mc ms (Az X)) (F0 m 0 ls [])) : RW l y code nl ret fr mc ms lo av X ws ws' v := by
  refine Met.ofW (cc := code) (maxL := nl) (ret := ret) hy rfl ?_
  intro p e s m args below meth c s₁ B hml hv
  obtain ⟨rfl, hK, hP, hD⟩ := hv
  have hts := atoms_spec (ws := ws_ y code nl ret) B.pre
  have hts : ∀ w ∈ lw_all, w.before _ s = true := fun w h => hts w (List.mem_cons_of_mem _ h)
  have hown : s.vm.findClass y.cls = some m.cls := findClass_of_methodNamed B.named
  have hl := lv_entry av (n := nl) hn
  rw [lg_entry_eq]
  exact body p e s m below meth c ⟨B.exec, B.bytes, hml, hown, hts⟩ B.returns B.notSynchronized hK ⟨hP, hD, va_S.rf⟩ _ hl
end MK
section WR
variable {p : Program} {l : Launch} {e : Env} {R : Room} {s : State} {m : MethodId} {args : Array Value} {below : List Frame} {meth : Method} {c : Code} {H : Heap} {locs : List Loc} {cells slots : Nat} {Q : State → Prop} {cc : ByteArray} {nL pc : Nat} {ls : Array Slot} {st : List Value} {own : String} {X : CX} {ws : va_W}
/-! returns -/
theorem w_iretR (B : CallFix p m c cc nL s args lw_all own) (hr : meth.sig.returnType = some .int) (hlk : meth.locks = false) {r r' : Int32} (hf : some r = some r') (hdg : decode cc pc = .ok (.ireturn, 1)) :
    W p l e R s m args below meth c s.heap [] 0 0 (MQ below (QR (some (.int r'))) args s 0 0 NoF) (F0 m pc ls [.int r]) := by
  cases hf
  exact W.iret B.1 B.2.1 hr (fun t ht _ => ⟨rfl, ht⟩) (fun q h => by cases h) hdg (hlocks := hlk)
theorem w_zretR (B : CallFix p m c cc nL s args lw_all own) (hr : meth.sig.returnType = some .boolean) (hlk : meth.locks = false) {r r' : Int32} (hn : narrow .boolean (.int r) = .int r) (hf : some r = some r') (hdg : decode cc pc = .ok (.ireturn, 1)) :
    W p l e R s m args below meth c s.heap [] 0 0 (MQ below (QR (some (.int r'))) args s 0 0 NoF) (F0 m pc ls [.int r]) := by
  cases hf
  exact W.zret B.1 B.2.1 hr hn (fun t ht _ => ⟨rfl, ht⟩) (fun q h => by cases h) hdg (hlocks := hlk)
theorem w_lretR (B : CallFix p m c cc nL s args lw_all own) (hr : meth.sig.returnType = some .long) (hlk : meth.locks = false) {r r' : Int64} (hf : some r = some r') (hdg : decode cc pc = .ok (.lreturn, 1)) :
    W p l e R s m args below meth c s.heap [] 0 0 (MQ below (QR (some (.long r'))) args s 0 0 NoF) (F0 m pc ls [.long r]) := by
  cases hf
  exact W.lret B.1 B.2.1 hr (fun t ht _ => ⟨rfl, ht⟩) (fun q h => by cases h) hdg (hlocks := hlk)
theorem w_iretW (B : CallFix p m c cc nL s args lw_all own) (hr : meth.sig.returnType = some .int) (hlk : meth.locks = false) {r : Int32} (hG : GG X ws s.heap H locs) (hdg : decode cc pc = .ok (.ireturn, 1)) :
    W p l e R s m args below meth c H locs cells slots (MQ below (QW X ws (some (.int r))) args s cells slots (Az X)) (F0 m pc ls [.int r]) :=
  W.iret B.1 B.2.1 hr (fun t ht _ => ⟨rfl, by rw [ht]; exact hG.1, hG.2.1, hG.2.2.F ht⟩) hG.2.2.2.2 hdg (hlocks := hlk)
theorem w_zretW (B : CallFix p m c cc nL s args lw_all own) (hr : meth.sig.returnType = some .boolean) (hlk : meth.locks = false) {r : Int32} (hn : narrow .boolean (.int r) = .int r) (hG : GG X ws s.heap H locs) (hdg : decode cc pc = .ok (.ireturn, 1)) :
    W p l e R s m args below meth c H locs cells slots (MQ below (QW X ws (some (.int r))) args s cells slots (Az X)) (F0 m pc ls [.int r]) :=
  W.zret B.1 B.2.1 hr hn (fun t ht _ => ⟨rfl, by rw [ht]; exact hG.1, hG.2.1, hG.2.2.F ht⟩) hG.2.2.2.2 hdg (hlocks := hlk)
theorem w_vretW (B : CallFix p m c cc nL s args lw_all own) (hr : meth.sig.returnType = none) (hlk : meth.locks = false) (hG : GG X ws s.heap H locs) (hdg : decode cc pc = .ok (.return_, 1)) :
    W p l e R s m args below meth c H locs cells slots (MQ below (QW X ws none) args s cells slots (Az X)) (F0 m pc ls []) :=
  W.vret B.1 B.2.1 hr (fun t ht _ => ⟨rfl, by rw [ht]; exact hG.1, hG.2.1, hG.2.2.F ht⟩) hG.2.2.2.2 hdg (hlocks := hlk)
/-! fields -/
theorem w_get (B : CallFix p m c cc nL s args lw_all own) (hK : KK X s) (hP : va_P X.2.2.1 vwCl ws H) {C ref : String} {T : u_T} {N ci index a : Nat} {fs : List Value} (q0 k : Nat) (he : ws[q0]? = some (a, .inr (ci, fs))) (hc : vwCl[ci]? = some (C, T, N)) (hin : ∀ w ∈ u_ws C T N, w ∈ lw_all) (hk : k < N)
    (hlink : Cond.fieldLink own index ref (T k).2.1 (T k).2.2.1 ∈ lw_all) (href : ref = (T k).1) {v : Value} (hv : fs[k]? = some v) (hdg : decode cc pc = .ok (.getfield index, 3))
    (kk : W p l e R s m args below meth c H locs cells slots Q (F0 m (pc + 3) ls (v :: st))) : W p l e R s m args below meth c H locs cells slots Q (F0 m pc ls (.ref a :: st)) :=
  va_get B.1 B.2.1 B.2.2.2.2 hin B.2.2.2.1 hK.k hP q0 he hc k hk (B.2.2.2.2 _ hlink) (fun x h => by rw [href]; exact h) hv hdg kk
theorem w_put (B : CallFix p m c cc nL s args lw_all own) (hK : KK X s) (hG : GG X ws s.heap H locs) {C ref : String} {T : u_T} {N ci index a : Nat} {fs : List Value} (q0 k : Nat) (he : ws[q0]? = some (a, .inr (ci, fs))) (hc : vwCl[ci]? = some (C, T, N)) (hin : ∀ w ∈ u_ws C T N, w ∈ lw_all)
    (ty0 : Nat → FieldType) (hty : ∀ k, k < N → parseFieldDescriptor (T k).2.2.1 = some (ty0 k)) (hnm : ∀ a, a < N → ∀ b, b < N → a ≠ b → (T a).2.1 ≠ (T b).2.1) (hk : k < N)
    (hlink : Cond.fieldLink own index ref (T k).2.1 (T k).2.2.1 ∈ lw_all) (href : ref = (T k).1) (hfin : (T k).2.2.2 = false) {v : Value} (hn : narrow (ty0 k) v = v) (hfit : fits (ty0 k) v = true) (hl : k < fs.length) (hdg : decode cc pc = .ok (.putfield index, 3))
    (kk : ∀ (H1 : Heap) (locs1 : List Loc), GG X (ws.set q0 (a, .inr (ci, fs.set k v))) s.heap H1 locs1 → W p l e R s m args below meth c H1 locs1 cells slots Q (F0 m (pc + 3) ls st)) : W p l e R s m args below meth c H locs cells slots Q (F0 m pc ls (v :: .ref a :: st)) :=
  va_put B.1 B.2.1 B.2.2.2.2 hin ty0 hty hnm B.2.2.2.1 hK.k hG.1 hG.2.1 hG.2.2 q0 he hc k hk (B.2.2.2.2 _ hlink) (fun x h => by rw [href]; exact h) hfin (hty k hk) hn hfit hl hdg (fun H1 l1 h1 h2 h3 => kk H1 l1 ⟨h1, h2, h3⟩)
/-! numbers -/
theorem w_irem (hexec : p.tables.exec = Jvm.exec) (hb : c.code = cc) {x y : Int32} (hdg : decode cc pc = .ok (.irem, 1)) (hne : ¬ y = 0) (k : W p l e R s m args below meth c H locs cells slots Q (F0 m (pc + 1) ls (.int (irem x y) :: st))) : W p l e R s m args below meth c H locs cells slots Q (F0 m pc ls (.int y :: .int x :: st)) := lv_irem hexec hb hdg hne k
theorem w_lrem (hexec : p.tables.exec = Jvm.exec) (hb : c.code = cc) {x y : Int64} (hdg : decode cc pc = .ok (.lrem, 1)) (hne : ¬ y = 0) (k : W p l e R s m args below meth c H locs cells slots Q (F0 m (pc + 1) ls (.long (lrem x y) :: st))) : W p l e R s m args below meth c H locs cells slots Q (F0 m pc ls (.long y :: .long x :: st)) := lv_lrem hexec hb hdg hne k
theorem w_ishl (hexec : p.tables.exec = Jvm.exec) (hb : c.code = cc) {x y : Int32} (hdg : decode cc pc = .ok (.ishl, 1)) (k : W p l e R s m args below meth c H locs cells slots Q (F0 m (pc + 1) ls (.int (ishl x y) :: st))) : W p l e R s m args below meth c H locs cells slots Q (F0 m pc ls (.int y :: .int x :: st)) := lv_ishl hexec hb hdg k
theorem w_ishr (hexec : p.tables.exec = Jvm.exec) (hb : c.code = cc) {x y : Int32} (hdg : decode cc pc = .ok (.ishr, 1)) (k : W p l e R s m args below meth c H locs cells slots Q (F0 m (pc + 1) ls (.int (ishr x y) :: st))) : W p l e R s m args below meth c H locs cells slots Q (F0 m pc ls (.int y :: .int x :: st)) := lv_ishr hexec hb hdg k
theorem w_iushr (hexec : p.tables.exec = Jvm.exec) (hb : c.code = cc) {x y : Int32} (hdg : decode cc pc = .ok (.iushr, 1)) (k : W p l e R s m args below meth c H locs cells slots Q (F0 m (pc + 1) ls (.int (iushr x y) :: st))) : W p l e R s m args below meth c H locs cells slots Q (F0 m pc ls (.int y :: .int x :: st)) := lv_iushr hexec hb hdg rfl k
theorem w_tab {x : Int32} (kx : Int32) (hx : x = kx) (hexec : p.tables.exec = Jvm.exec) (hb : c.code = cc) {dflt lo hi off : Int} {offs : Array Int} {len tgt : Nat} (hdg : decode cc pc = .ok (.tableswitch dflt lo hi offs, len)) (h1 : ¬ kx.toInt < lo) (h2 : ¬ hi < kx.toInt) (ho : offs[(kx.toInt - lo).toNat]? = some off) (ht : (pc : Int) + off = (tgt : Int))
    (k : W p l e R s m args below meth c H locs cells slots Q (F0 m tgt ls st)) : W p l e R s m args below meth c H locs cells slots Q (F0 m pc ls (.int x :: st)) := by
  subst hx
  exact lv_tableIn hexec hb hdg h1 h2 ho ht k
/-! Math.max -/
theorem w_max (B : CallFix p m c cc nL s args lw_all own) (hl : ls.size = nL) {index : Nat} (h1 : Cond.methodLink own index Lib.Math.max.name ∈ lw_all) (h2 : Cond.static Lib.Math.max.name ∈ lw_all) (h3 : Cond.initialized "java/lang/Math" ∈ lw_all) (h4 : Cond.code Lib.Math.max.name Lib.Math.max.code 2 (some .int) ∈ lw_all)
    (hframes : 1 ≤ R.frames) (hcat : (st.map fun v => v.category).sum ≤ 8) (hlocals : 21 ≤ R.locals) (hc : cells ≤ R.cells) (hs : slots ≤ R.slots) {x y : Int32} (hdg : decode cc pc = .ok (.invokestatic index, 3))
    (kk : W p l e R s m args below meth c H locs cells slots Q (F0 m (pc + 3) ls (.int (imax x y) :: st))) : W p l e R s m args below meth c H locs cells slots Q (F0 m pc ls (.int y :: .int x :: st)) :=
  va_mmax B.1 B.2.1 (by rw [B.2.2.1, hl]) B.2.2.2.1 (B.2.2.2.2 _ h1) (B.2.2.2.2 _ h2) (B.2.2.2.2 _ h3) (B.2.2.2.2 _ h4) hframes (by omega) hc hs hdg kk
/-! calls -/
theorem w_goRO {y : MethodName} {v : Value} {H1 : Heap} {T : State} {L : List Loc} {A B : Prop} (h : A ∧ B) : A := h.1
end WR
def b2 {α β γ : Type} (o : Option (α × β)) (k : α → β → Option γ) : Option γ := o.bind fun q => k q.1 q.2
theorem b2s {α β γ : Type} {o : Option (α × β)} {k : α → β → Option γ} {r : γ} (h : b2 o k = some r) : ∃ a b, o = some (a, b) ∧ k a b = some r := by
  cases o with
  | none => cases h
  | some v => exact ⟨v.1, v.2, rfl, h⟩
theorem rd_in {α : Type} {f : Nat → α} {n : Nat} {i : Int32} {v : α} (h : rd f n i = some v) : vp_in i n ∧ f i.toNatClampNeg = v := by
  unfold rd at h
  by_cases hc : i < 0 ∨ n ≤ i.toNatClampNeg
  · rw [if_pos hc] at h; cases h
  · rw [if_neg hc] at h; exact ⟨hc, Option.some.inj h⟩
theorem nz_in {y : Int32} {u : Unit} (h : nz y = some u) : ¬ y = 0 := by
  unfold nz at h
  by_cases hc : y = 0
  · rw [if_pos hc] at h; cases h
  · exact hc
theorem bz_in {x y : Int32} (h : bz x = some y) : narrow .boolean (.int x) = .int x ∧ x = y := by
  unfold bz at h
  by_cases hc : x = 0 ∨ x = 1
  · rw [if_pos hc] at h
    refine ⟨?_, Option.some.inj h⟩
    rcases hc with rfl | rfl <;> decide
  · rw [if_neg hc] at h; cases h
section WS
variable {p : Program} {l : Launch} {e : Env} {R : Room} {s : State} {m : MethodId} {args : Array Value} {below : List Frame} {meth : Method} {c : Code} {H : Heap} {locs : List Loc} {cells slots : Nat} {Q : State → Prop} {cc : ByteArray} {nL pc : Nat} {ls : Array Slot} {st st0 : List Value} {own : String} {X : CX} {ws ws' : va_W}
/-! stores of a named number -/
theorem w_istore_n {x z : Int32} (hz : some x = some z) (hexec : p.tables.exec = Jvm.exec) (hb : c.code = cc) {k : Fin 4} {i : Nat} {lv lv' : List (Nat × Value)} (hdg : decode cc pc = .ok (.istore_n k, 1)) (hi : (k : Nat) = i) (h : lv_has ls nL lv) (hn : i < nL) (hl : (i, Value.int z) :: lv.filter (fun q => !(q.1 == i) && !(q.1 + 1 == i && q.2.category == 2)) = lv')
    (kk : ∀ ls' : Array Slot, lv_has ls' nL lv' → W p l e R s m args below meth c H locs cells slots Q (F0 m (pc + 1) ls' st)) : W p l e R s m args below meth c H locs cells slots Q (F0 m pc ls (.int x :: st)) := by
  cases hz
  exact lv_istore_n hexec hb hdg hi h hn hl kk
theorem w_istore {x z : Int32} (hz : some x = some z) (hexec : p.tables.exec = Jvm.exec) (hb : c.code = cc) {i : Nat} {lv lv' : List (Nat × Value)} (hdg : decode cc pc = .ok (.istore i, 2)) (h : lv_has ls nL lv) (hn : i < nL) (hl : (i, Value.int z) :: lv.filter (fun q => !(q.1 == i) && !(q.1 + 1 == i && q.2.category == 2)) = lv')
    (kk : ∀ ls' : Array Slot, lv_has ls' nL lv' → W p l e R s m args below meth c H locs cells slots Q (F0 m (pc + 2) ls' st)) : W p l e R s m args below meth c H locs cells slots Q (F0 m pc ls (.int x :: st)) := by
  cases hz
  exact lv_istore hexec hb hdg h hn hl kk
theorem w_lstore {x z : Int64} (hz : some x = some z) (hexec : p.tables.exec = Jvm.exec) (hb : c.code = cc) {i : Nat} {lv lv' : List (Nat × Value)} (hdg : decode cc pc = .ok (.lstore i, 2)) (h : lv_has ls nL lv) (hn : i + 1 < nL) (hl : (i, Value.long z) :: lv.filter (fun q => !(q.1 == i) && (!(q.1 == i + 1) && !(q.1 + 1 == i && q.2.category == 2))) = lv')
    (kk : ∀ ls' : Array Slot, lv_has ls' nL lv' → W p l e R s m args below meth c H locs cells slots Q (F0 m (pc + 2) ls' st)) : W p l e R s m args below meth c H locs cells slots Q (F0 m pc ls (.long x :: st)) := by
  cases hz
  exact lv_lstore hexec hb hdg h hn hl kk
theorem w_iinc {x z : Int32} {n : Int} (hz : some (x + Int32.ofInt n) = some z) (hexec : p.tables.exec = Jvm.exec) (hb : c.code = cc) {i k : Nat} {lv lv' : List (Nat × Value)} (hdg : decode cc pc = .ok (.iinc i n, 3)) (h : lv_has ls nL lv) (hk : lv[k]? = some (i, .int x)) (hn : i < nL) (hl : (i, Value.int z) :: lv.filter (fun q => !(q.1 == i) && !(q.1 + 1 == i && q.2.category == 2)) = lv')
    (kk : ∀ ls' : Array Slot, lv_has ls' nL lv' → W p l e R s m args below meth c H locs cells slots Q (F0 m (pc + 3) ls' st)) : W p l e R s m args below meth c H locs cells slots Q (F0 m pc ls st) :=
  lv_iinc hexec hb hdg h hk (Option.some.inj hz) hn hl kk
/-! behind a call -/
theorem w_afterR {v : Value} {a : Array Value} (hr : va_Run p l e R s m args below meth c H locs cells slots 0 0 (F0 m pc ls st0) st (QR (some v) a) NoF)
    (kk : W p l e R s m args below meth c H locs cells slots Q (F0 m (pc + 3) ls (v :: st))) : W p l e R s m args below meth c H locs cells slots Q (F0 m pc ls st0) := by
  intro T hT X0
  obtain ⟨v', st₀, t, T', L, h0, X', hL, e1, e2, ⟨hv, hh⟩, stp⟩ := hr T hT X0
  have hL0 : L = [] := List.eq_nil_iff_forall_not_mem.mpr (fun q hq => hL q hq)
  subst hL0
  rw [List.append_nil] at X'
  cases hv
  obtain ⟨t2, a1, b1⟩ := kk T' (by rw [e1, hh, h0]) X'
  exact ⟨t2, stp t2 a1, b1⟩
theorem w_afterW {mc ms : Nat} {v : Value} {a : Array Value} (hr : va_Run p l e R s m args below meth c H locs cells slots mc ms (F0 m pc ls st0) st (QW X ws' (some v) a) (Az X)) (hS : va_S (Az X) s.heap H locs)
    (kk : ∀ (H1 : Heap) (locs1 : List Loc), GG X ws' s.heap H1 locs1 → W p l e R s m args below meth c H1 locs1 (cells + mc) (slots + ms) Q (F0 m (pc + 3) ls (v :: st))) : W p l e R s m args below meth c H locs cells slots Q (F0 m pc ls st0) := by
  intro T hT X0
  obtain ⟨v', st₀, t, T', L, h0, X', hL, e1, e2, ⟨hv, hP, hD, hz, hk⟩, stp⟩ := hr T hT X0
  cases hv
  rw [h0] at hz hk
  obtain ⟨t2, a1, b1⟩ := kk T'.heap (locs ++ L) ⟨by rw [e1]; exact hP, hD, Nat.le_trans hS.1 (by rw [e1]; exact hz), fun q h1 h2 => by rw [e1, hk q (Nat.lt_of_lt_of_le h1 hS.1) h2]; exact hS.2.1 q h1 h2, fun q hq => by
      rcases List.mem_append.mp hq with h | h
      · exact hS.2.2 q h
      · exact hL q h⟩ T' rfl X'
  exact ⟨t2, stp t2 a1, b1⟩
theorem w_afterWv {mc ms : Nat} {a : Array Value} (hr : va_Run p l e R s m args below meth c H locs cells slots mc ms (F0 m pc ls st0) st (QW X ws' none a) (Az X)) (hS : va_S (Az X) s.heap H locs)
    (kk : ∀ (H1 : Heap) (locs1 : List Loc), GG X ws' s.heap H1 locs1 → W p l e R s m args below meth c H1 locs1 (cells + mc) (slots + ms) Q (F0 m (pc + 3) ls st)) : W p l e R s m args below meth c H locs cells slots Q (F0 m pc ls st0) := by
  intro T hT X0
  obtain ⟨v', st₀, t, T', L, h0, X', hL, e1, e2, ⟨hv, hP, hD, hz, hk⟩, stp⟩ := hr T hT X0
  cases hv
  rw [h0] at hz hk
  obtain ⟨t2, a1, b1⟩ := kk T'.heap (locs ++ L) ⟨by rw [e1]; exact hP, hD, Nat.le_trans hS.1 (by rw [e1]; exact hz), fun q h1 h2 => by rw [e1, hk q (Nat.lt_of_lt_of_le h1 hS.1) h2]; exact hS.2.1 q h1 h2, fun q hq => by
      rcases List.mem_append.mp hq with h | h
      · exact hS.2.2 q h
      · exact hL q h⟩ T' rfl X'
  exact ⟨t2, stp t2 a1, b1⟩
/-! the calls themselves -/
section RUN
variable {y : MethodName} {code : ByteArray} {nl : Nat} {ret : Option FieldType} {fr mc ms lo : Nat} {As : List Value} {b : Nat} {C : String} {T : u_T} {N ci index n : Nat} {fs : List Value}
theorem w_rV_RO (B : CallFix p m c cc nL s args lw_all own) (hK : KK X s) (hS : va_S (Az X) s.heap H locs) (hP : va_P X.2.2.1 vwCl ws H) {v : Option Value} (hM : RO l y code nl ret fr lo (.ref b :: As) X ws v) (hT : GoodIn lw_all (wsV own index C y (ws_ y code nl ret))) (q0 : Nat) (hc : vwCl[ci]? = some (C, T, N)) (he : ws[q0]? = some (b, .inr (ci, fs)))
    (hd : y.cls = C ∧ y.cls ≠ "java/lang/invoke/MethodHandle" ∧ y.cls ≠ "java/lang/invoke/VarHandle" ∧ (parseMethodDescriptor y.desc).map (fun d => d.parameters.length) = some n) (hR : fr + 1 ≤ R.frames ∧ 8 + (nl + 11) + lo ≤ R.locals) (hcs : cells ≤ R.cells ∧ slots ≤ R.slots) (hn : As.length = n) (hsz : ls.size = nL) (hst : st0 = As.reverse ++ .ref b :: st) (hcat : (st.map fun v => v.category).sum ≤ 8)
    (hdg : decode cc pc = .ok (.invokevirtual index, 3)) : va_Run p l e R s m args below meth c H locs cells slots 0 0 (F0 m pc ls st0) st (QR v (Value.ref b :: As).toArray) NoF :=
  va_runV B hM (cwV n B.2.2.2.2 hT rfl rfl rfl hd hR) ⟨fun _ _ _ _ q => q, va_recv hK.k hP hc he, fun U hU hW => ⟨rfl, hK.step hS hU hW, by rw [hU]; exact hP⟩⟩ rfl hn hsz hst (lv_room hcat) hdg hcs
theorem w_rV_RW (B : CallFix p m c cc nL s args lw_all own) (hK : KK X s) (hG : GG X ws s.heap H locs) {v : Option Value} (hM : RW l y code nl ret fr mc ms lo (.ref b :: As) X ws ws' v) (hT : GoodIn lw_all (wsV own index C y (ws_ y code nl ret))) (q0 : Nat) (hc : vwCl[ci]? = some (C, T, N)) (he : ws[q0]? = some (b, .inr (ci, fs)))
    (hd : y.cls = C ∧ y.cls ≠ "java/lang/invoke/MethodHandle" ∧ y.cls ≠ "java/lang/invoke/VarHandle" ∧ (parseMethodDescriptor y.desc).map (fun d => d.parameters.length) = some n) (hR : fr + 1 ≤ R.frames ∧ 8 + (nl + 11) + lo ≤ R.locals) (hcs : cells + mc ≤ R.cells ∧ slots + ms ≤ R.slots) (hn : As.length = n) (hsz : ls.size = nL) (hst : st0 = As.reverse ++ .ref b :: st) (hcat : (st.map fun v => v.category).sum ≤ 8)
    (hdg : decode cc pc = .ok (.invokevirtual index, 3)) : va_Run p l e R s m args below meth c H locs cells slots mc ms (F0 m pc ls st0) st (QW X ws' v (Value.ref b :: As).toArray) (Az X) :=
  va_runV B hM (cwV n B.2.2.2.2 hT rfl rfl rfl hd hR) ⟨fun _ _ _ _ q => q, va_recv hK.k hG.1 hc he, fun U hU hW => ⟨rfl, hK.step hG.2.2 hU hW, by rw [hU]; exact hG.1, hG.2.1⟩⟩ rfl hn hsz hst (lv_room hcat) hdg hcs
theorem w_rS_ST (B : CallFix p m c cc nL s args lw_all own) {v : Value} (hM : ST l y code nl ret fr lo As v) (hT : GoodIn lw_all (va_wsS own index y (ws_ y code nl ret)))
    (hd : y.cls ≠ "java/lang/invoke/MethodHandle" ∧ y.cls ≠ "java/lang/invoke/VarHandle" ∧ (parseMethodDescriptor y.desc).map (fun d => d.parameters.length) = some n) (hR : fr + 1 ≤ R.frames ∧ 8 + (nl + 11) + lo ≤ R.locals) (hcs : cells ≤ R.cells ∧ slots ≤ R.slots) (hn : As.length = n) (hsz : ls.size = nL) (hst : st0 = As.reverse ++ st) (hcat : (st.map fun v => v.category).sum ≤ 8)
    (hdg : decode cc pc = .ok (.invokestatic index, 3)) : va_Run p l e R s m args below meth c H locs cells slots 0 0 (F0 m pc ls st0) st (QR (some v) As.toArray) NoF :=
  va_runS B hM (va_cwS n B.2.2.2.2 hT rfl rfl rfl hd hR) ⟨fun _ _ _ _ q => q, fun U hU hW => ⟨rfl, trivial⟩⟩ rfl hn hsz hst (lv_room hcat) hdg hcs
end RUN
end WS
