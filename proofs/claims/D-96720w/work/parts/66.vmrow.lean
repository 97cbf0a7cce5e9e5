set_option maxRecDepth 100000
/-! rows: an instruction at which the VM throws -/
theorem Stand.more {p : Program} {l : Launch} {e : Env} {R : Room} {s : State} {m : MethodId} {args : Array Value} {below : List Frame} {meth : Method} {c : Code} {T : State} {locs : List Loc} {cells slots cells' slots' : Nat} (X : Stand p l e R s m args below meth c T locs cells slots) (h : cells ≤ cells') (h' : slots ≤ slots') : Stand p l e R s m args below meth c T locs cells' slots' :=
  ⟨X.admits, X.cas, X.clock, X.frames, X.room, X.hears, X.method, X.code, X.here, X.tail, X.warmed, X.limits, X.bytes, X.same.weaken (fun _ h _ => h) h h'⟩
theorem GG.beyond {X : CX} {ws : va_W} {H0 H H1 : Heap} {locs L : List Loc} (h : GG X ws H0 H locs) (hz : H.size ≤ H1.size) (hk : ∀ i : Nat, i < H.size → H1[i]? = H[i]?) (hL : ∀ q ∈ L, Az X q.base) : GG X ws H0 H1 (locs ++ L) := by
  refine ⟨h.1.kept (fun k q hq => hk _ (h.1 k q hq).lt), h.2.1, Nat.le_trans h.2.2.1 hz, fun q h1 h2 => ?_, fun q hq => ?_⟩
  · rw [hk q (Nat.lt_of_lt_of_le h1 h.2.2.1)]; exact h.2.2.2.1 q h1 h2
  · rcases List.mem_append.mp hq with h' | h'
    · exact h.2.2.2.2 q h'
    · exact hL q h'
theorem KK.tS {X : CX} {s : State} (h : KK X s) {A : Array Value} {O f d : String} (hw : (Cond.laysStatic O f d).before A X.1 = true) : ∀ (a : Nat) (k : Class) (cT : Nat), s.vm.findClass O = some cT → s.vm.classes[cT]? = some k → k.statics = some a → a < X.1.heap.size := by
  intro a k cT h1 h2 h3
  obtain ⟨c, k0, i, fd, a0, cell, hc, hf, hst, hsta, hcell, -⟩ := Cond.laysStatic_spec (Cond.laysStatic_setVm h.2.1.alike hw)
  have hc' : s.vm.findClass O = some c := hc
  cases Option.some.inj (hc'.symm.trans h1)
  have hk : s.vm.classes[cT]? = some k0 := (State.fieldFound?_spec hf).1
  cases Option.some.inj (hk.symm.trans h2)
  cases Option.some.inj (hsta.symm.trans h3)
  exact (Array.getElem?_eq_some_iff.mp hcell).1
section VR
variable {p : Program} {l : Launch} {e : Env} {R : Room} {s : State} {m : MethodId} {args : Array Value} {below : List Frame} {meth : Method} {c : Code} {H : Heap} {locs : List Loc} {cells slots : Nat} {Q : State → Prop} {cc : ByteArray} {nL pc : Nat} {ls : Array Slot} {st st0 rest : List Value} {own : String} {X : CX} {ws : va_W}
/-- the thrown cell -/
def ExC (s : State) (cls : String) (x : Nat) (H : Heap) : Prop := ∃ ce, H[x]? = some ce ∧ ce.vm = .none ∧ s.vm.findClass cls = some ce.cls
theorem w_vm (B : CallFix p m c cc nL s args lw_all own) (hK : KK X s) (hG : GG X ws s.heap H locs) (hl : l.stackTraces = false) (hls : ls.size = nL) {cls : String} {names : List String} {text : String}
    (harm : ∀ a ∈ Bundle.messageArmAtoms cls names, a.before args s = true) (hcls : Bundle.fit cls = true) (hnames : ∀ n ∈ names, Bundle.fit n = true) (hsoe : (cls == "java/lang/StackOverflowError") = false) (hoom : (cls == "java/lang/OutOfMemoryError") = false)
    (htext : (text == notModelled) = false) {N : Nat} (hN : (stringBytes (stringToUtf16 text)).size ≤ N) (hN2 : N ≤ 5000)
    (hRframes : names.length + 4 < R.frames) (hRlocals : (rest.map fun v => v.category).sum + 10240 ≤ R.locals) (hshort : 13 * names.length + 55 ≤ 10240) (hRcells : cells + 3 ≤ R.cells) (hRslots : slots + (N + 10) ≤ R.slots)
    (hstep : ∀ T : State, T.heap = H → Stand p l e R s m args below meth c T locs cells slots → ∀ tg, Steps p.tables e below ((T.setTop (F0 m pc ls rest)).pushFrame (.throwNew cls (some text) none)) tg → Steps p.tables e below (T.setTop (F0 m pc ls st0)) tg)
    (kk : ∀ (x : Nat) (H1 : Heap) (locs1 : List Loc), GG X ws s.heap H1 locs1 → H.size ≤ x → ExC s cls x H1 → WX p l e R s m args below meth c H1 locs1 (cells + 3) (slots + (N + 10)) Q x (F0 m pc ls rest)) : W p l e R s m args below meth c H locs cells slots Q (F0 m pc ls st0) := by
  intro T hT X0
  have htr : e.platform.stackTraces = false := by rw [X0.admits.platform]; exact hl
  have hlim : e.platform.arrayLengthLimit = ({} : Platform).arrayLengthLimit := by rw [X0.admits.platform]
  have hhp : e.platform.maxHeapBytes = ({} : Platform).maxHeapBytes := by rw [X0.admits.platform]
  have h1 : 5000 ≤ ({} : Platform).arrayLengthLimit := by decide
  have h2 : 5000 ≤ ({} : Platform).maxHeapBytes := by decide
  have hcb : componentBytes .byte = 1 := by decide
  obtain ⟨T2, L, X2, y1, y2, y3, y4, y5⟩ := vm_throws X0 B.1 htr hcls hnames hsoe hoom harm (fun a k cT f1 f2 f3 i hm => by
      have := hK.tS (hK.1.1 _ q265) a k cT f1 f2 f3
      have h' := hG.2.2.2.2 _ hm
      exact absurd this (Nat.not_lt.mpr h')) htext (by rw [hlim]; omega) (by rw [hhp, hcb]; omega) (g := F0 m pc ls rest) rfl (by rw [B.2.2.1]; exact hls) hRframes (by simpa [F0] using hRlocals) hshort hRcells (by omega)
  rw [hT] at y1 y2 y3 y4 y5
  have hG2 : GG X ws s.heap T2.heap (locs ++ L) := hG.beyond (by rw [y2]; omega) y3 (fun q hq => by
    rw [y1 q hq]
    exact Nat.le_trans (Nat.le_trans hK.2.2.1 hG.2.2.1) (Nat.le_add_right _ _))
  obtain ⟨t, a1, b1⟩ := kk (H.size + 2) T2.heap (locs ++ L) hG2 (by omega) y4 T2 rfl (X2.more (Nat.le_refl _) (by omega))
  exact ⟨t, hstep T hT X0 t (y5 t a1), b1⟩
end VR
