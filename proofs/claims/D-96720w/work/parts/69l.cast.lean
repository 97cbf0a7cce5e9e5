set_option maxRecDepth 100000
/-! a cast that fails: its words -/
theorem list_find {α : Type} {l : List α} {f : α → Bool} {m : α} (h : l.find? f = some m) : m ∈ l ∧ f m = true := ⟨List.mem_of_find?_eq_some h, List.find?_some h⟩
theorem turned_len (a b : Char) (s : String) : (turned a b s).toList.length = s.toList.length := by
  unfold turned
  rw [String.toList_ofList, List.length_map]
theorem mod_name {s : State} {vm : Vm} (hr : modulesRight_1 s = true) (hv : vm.modules = s.vm.modules) {k : Class} (hl : k.loader = none) (hp : k.ofPrimitives = true ∨ packageOf k.name = "" ∨ packageOf k.name = "java/lang") {m : ModuleInfo} (h : vm.moduleOf k = some m) : m.name = "java.base" := by
  unfold Vm.moduleOf at h
  by_cases ho : k.ofPrimitives = true
  · rw [if_pos ho] at h
    have h1 := (list_find h).2
    exact beq_iff_eq.mp h1
  · rw [if_neg ho] at h
    obtain ⟨h0, h1⟩ := list_find h
    rw [Bool.and_eq_true] at h1
    rw [hv] at h0
    unfold modulesRight_1 at hr
    have h2 := List.all_eq_true.mp hr m h0
    have h3 : m.loader = none := by
      have := h1.1
      rw [hl] at this
      exact eq_of_beq this
    have h4 : castPackages_1.any (fun p => m.packages.contains p) = true := by
      rcases hp with hp | hp | hp
      · exact absurd hp ho
      · rw [hp] at h1
        exact List.any_eq_true.mpr ⟨"", by decide, h1.2⟩
      · rw [hp] at h1
        exact List.any_eq_true.mpr ⟨"java/lang", by decide, h1.2⟩
    rw [h3, h4] at h2
    simpa using h2
theorem home_len {vm : Vm} {k : Class} (hl : k.loader = none) (hm : ∀ m, vm.moduleOf k = some m → m.name = "java.base") : (vm.home k).toList.length ≤ 60 := by
  unfold Vm.home
  rw [hl]
  cases hq : vm.moduleOf k with
  | none => exact (show ("unnamed module" ++ " of loader " ++ "'bootstrap'").toList.length ≤ 60 by decide)
  | some m =>
    show (("module " ++ m.name) ++ " of loader " ++ "'bootstrap'").toList.length ≤ 60
    rw [hm m hq]
    decide
theorem homes_len {vm : Vm} {a b : Class} (ha : (vm.home a).toList.length ≤ 60) (hb : (vm.home b).toList.length ≤ 60) (hsa : a.shown.toList.length ≤ 60) (hsb : b.shown.toList.length ≤ 60) : (vm.homes a b).toList.length ≤ 270 := by
  unfold Vm.homes
  split
  · simp only [String.toList_append, List.length_append, toString]
    have e1 : " and ".toList.length = 5 := by decide
    have e2 : " are in ".toList.length = 8 := by decide
    have e3 : "".toList.length = 0 := by decide
    omega
  · simp only [String.toList_append, List.length_append, toString]
    have e1 : " is in ".toList.length = 7 := by decide
    have e2 : "; ".toList.length = 2 := by decide
    have e3 : "".toList.length = 0 := by decide
    omega
theorem cast_len {vm : Vm} {a b : Class} (hh : (vm.homes a b).toList.length ≤ 270) (hsa : a.shown.toList.length ≤ 60) (hsb : b.shown.toList.length ≤ 60) : (checkcast.message vm a b).toList.length ≤ 440 := by
  unfold checkcast.message
  simp only [String.toList_append, List.length_append, toString]
  have e1 : "class ".toList.length = 6 := by decide
  have e2 : " cannot be cast to class ".toList.length = 25 := by decide
  have e3 : " (".toList.length = 2 := by decide
  have e4 : ")".toList.length = 1 := by decide
  omega
theorem cast_head {vm : Vm} {a b : Class} : (checkcast.message vm a b == notModelled) = false := by
  rw [beq_eq_false_iff_ne]
  intro h
  have h2 : (checkcast.message vm a b).toList.head? = notModelled.toList.head? := by rw [h]
  unfold checkcast.message at h2
  simp only [String.toList_append, toString] at h2
  have e1 : "class ".toList = 'c' :: "lass ".toList := by decide
  rw [e1] at h2
  simp only [List.cons_append, List.head?_cons] at h2
  revert h2
  decide
theorem cast_bytes {vm : Vm} {a b : Class} (h : (checkcast.message vm a b).toList.length ≤ 440) : (stringBytes (stringToUtf16 (checkcast.message vm a b))).size ≤ 1760 := by
  have b1 := stringBytes_size_le (stringToUtf16 (checkcast.message vm a b))
  have b2 := utf16_size_le (checkcast.message vm a b)
  omega
theorem fc_more {vm : Vm} {name : String} {c : ClassId} (h : vm.findClass name = some c) : ∃ k, vm.classes[c]? = some k ∧ k.name = name ∧ k.hidden = none ∧ k.loader = none := by
  obtain ⟨hlt, hp, _⟩ := Array.findIdx?_eq_some_iff_getElem.mp h
  refine ⟨vm.classes[c], by simp [hlt], ?_⟩
  simp only [Bool.and_eq_true, beq_iff_eq] at hp
  exact ⟨hp.1.1.1, Option.isNone_iff_eq_none.mp hp.1.1.2, Option.isNone_iff_eq_none.mp hp.2⟩
theorem shown_len {k : Class} (hh : k.hidden = none) {n : Nat} (hn : k.name.toList.length ≤ n) : k.shown.toList.length ≤ n := by
  unfold Class.shown
  rw [hh]
  show (turned '/' '.' k.name).toList.length ≤ n
  rw [turned_len]
  exact hn
/-- the text of a failing cast, of two classes by their names -/
theorem cast_text {s : State} {vm : Vm} (hr : modulesRight_1 s = true) (hv : vm.modules = s.vm.modules) {A B : String} {ca cb : ClassId} {a b : Class} (h1 : vm.findClass A = some ca) (h2 : vm.findClass B = some cb) (ha : vm.classes[ca]? = some a) (hb : vm.classes[cb]? = some b) (hA : A.toList.length ≤ 60) (hB : B.toList.length ≤ 60) (pA : packageOf A = "" ∨ packageOf A = "java/lang") (pB : packageOf B = "" ∨ packageOf B = "java/lang") :
    (checkcast.message vm a b == notModelled) = false ∧ (stringBytes (stringToUtf16 (checkcast.message vm a b))).size ≤ 1760 := by
  obtain ⟨a', g1, g2, g3, g4⟩ := fc_more h1
  cases Option.some.inj (g1.symm.trans ha)
  obtain ⟨b', f1, f2, f3, f4⟩ := fc_more h2
  cases Option.some.inj (f1.symm.trans hb)
  have sa := shown_len g3 (n := 60) (by rw [g2]; exact hA)
  have sb := shown_len f3 (n := 60) (by rw [f2]; exact hB)
  have ma := home_len (vm := vm) g4 (fun m hm => mod_name hr hv g4 (Or.inr (by rw [g2]; exact pA)) hm)
  have mb := home_len (vm := vm) f4 (fun m hm => mod_name hr hv f4 (Or.inr (by rw [f2]; exact pB)) hm)
  exact ⟨cast_head, cast_bytes (cast_len (homes_len ma mb sa sb) sa sb)⟩
theorem KK.mods {X : CX} {s : State} (h : KK X s) {vm : Vm} (hW : s.WarmedH vm) : vm.modules = X.1.vm.modules := by
  have h1 := hW.1
  have h2 := h.2.1.1
  rw [h1]
  show s.vm.modules = _
  rw [h2]
section CNO
variable {p : Program} {l : Launch} {e : Env} {R : Room} {s : State} {m : MethodId} {args : Array Value} {below : List Frame} {meth : Method} {c : Code} {T : State} {H : Heap} {locs : List Loc} {cells slots : Nat} {Q : State → Prop} {cc : ByteArray} {nL pc : Nat} {ls : Array Slot} {st st0 rest : List Value} {own : String} {X : CX} {ws : va_W}
theorem checkcastNo (X : Stand p l e R s m args below meth c T locs cells slots) (hexec : p.tables.exec = Jvm.exec)
    {own name : String} {index : Nat} (hown : s.vm.findClass own = some m.cls) (hlink : (Cond.classLink own index name).before args s = true)
    {a : Addr} {cell : Cell} {cT : ClassId} {ks : Class} (hcell : T.heap[a]? = some cell) (hobj : ∀ k, cell.vm ≠ .statics k) (hks : s.vm.classes[cell.cls]? = some ks)
    (hcT : s.vm.findClass name = some cT) (hasg : s.vm.assignable cell.cls cT = false)
    {g : JFrame} (hg : g.method = m) {rest : List Value} (hstack : g.stack = .ref a :: rest) (hdg : decode c.code g.pc = .ok (.checkcast index, 3)) :
    ∃ (vm' : Vm) (ks' kt' : Class), Stand p l e R s m args below meth c (T.setVm vm') locs cells slots ∧ s.WarmedH vm' ∧ vm'.classes[cell.cls]? = some ks' ∧ vm'.classes[cT]? = some kt' ∧
      ∀ target, Steps p.tables e below (((T.setVm vm').setTop g).pushFrame (.throwNew "java/lang/ClassCastException" (some (checkcast.message vm' ks' kt')) none)) target → Steps p.tables e below (T.setTop g) target := by
  have hpl : e.platform.magicAccessors = ({} : Platform).magicAccessors := by rw [X.admits.platform]
  obtain ⟨c', hc', hcl⟩ := Cond.classLink_spec hown hlink e.platform hpl
  cases hcT.symm.trans hc'
  obtain ⟨dk, _, _, kt, hd, _, _, _, _, hkt, _, hopen⟩ := hcl.here
  have hcl₀ := X.warmed.classLinks hcl
  have hW' : s.WarmedH (T.vm.noted m.cls index (.cls cT)) := X.warmed.noted hd hopen (State.rightAt_cls hcl)
  obtain ⟨ks', hks', -⟩ := hW'.alike.2.2 _ _ hks
  obtain ⟨kt', hkt', -⟩ := hW'.alike.2.2 _ _ hkt
  refine ⟨_, ks', kt', X.noted hW', hW', hks', hkt', fun target hrest => ?_⟩
  subst hg
  jvm_step X.here [hexec, hdg, checkcast.wp_cold (e := e) (s := T) (f := g) X.here.top hstack (resolveClass_links e.toSetting hcl₀) hcl₀.ready,
    checkcast.wp_ready (e := e) (s := T.setVm (T.vm.noted g.method.cls index (.cls cT))) (f := g) X.here.top hcl₀.ready hstack]
  refine ⟨cell, hcell, hobj, ks', hks', kt', hkt', ?_⟩
  rw [if_neg (by rw [hW'.alike.assignable, hasg]; decide)]
  exact hrest
theorem w_vmW (B : CallFix p m c cc nL s args lw_all own) (hK : KK X s) (hG : GG X ws s.heap H locs) (hl : l.stackTraces = false) (hls : ls.size = nL) {cls : String} {names : List String}
    (harm : ∀ a ∈ Bundle.messageArmAtoms cls names, a.before args s = true) (hcls : Bundle.fit cls = true) (hnames : ∀ n ∈ names, Bundle.fit n = true) (hsoe : (cls == "java/lang/StackOverflowError") = false) (hoom : (cls == "java/lang/OutOfMemoryError") = false) {N : Nat} (hN2 : N ≤ 5000)
    (hRframes : names.length + 4 < R.frames) (hRlocals : (rest.map fun v => v.category).sum + 10240 ≤ R.locals) (hshort : 13 * names.length + 55 ≤ 10240) (hRcells : cells + 3 ≤ R.cells) (hRslots : slots + (N + 10) ≤ R.slots)
    (hstep : ∀ T : State, T.heap = H → Stand p l e R s m args below meth c T locs cells slots → ∃ (vm' : Vm) (text : String), Stand p l e R s m args below meth c (T.setVm vm') locs cells slots ∧ (text == notModelled) = false ∧ (stringBytes (stringToUtf16 text)).size ≤ N ∧ ∀ tg, Steps p.tables e below (((T.setVm vm').setTop (F0 m pc ls rest)).pushFrame (.throwNew cls (some text) none)) tg → Steps p.tables e below (T.setTop (F0 m pc ls st0)) tg)
    (kk : ∀ (x : Nat) (H1 : Heap) (locs1 : List Loc), GG X ws s.heap H1 locs1 → H.size ≤ x → ExC s cls x H1 → WX p l e R s m args below meth c H1 locs1 (cells + 3) (slots + (N + 10)) Q x (F0 m pc ls rest)) : W p l e R s m args below meth c H locs cells slots Q (F0 m pc ls st0) := by
  intro T0 hT0 X00
  obtain ⟨vm', text, X0, htext, hN, hst⟩ := hstep T0 hT0 X00
  have hT : (T0.setVm vm').heap = H := hT0
  have htr : e.platform.stackTraces = false := by rw [X0.admits.platform]; exact hl
  have hlim : e.platform.arrayLengthLimit = ({} : Platform).arrayLengthLimit := by rw [X0.admits.platform]
  have hhp : e.platform.maxHeapBytes = ({} : Platform).maxHeapBytes := by rw [X0.admits.platform]
  have h1 : 5000 ≤ ({} : Platform).arrayLengthLimit := by decide
  have h2 : 5000 ≤ ({} : Platform).maxHeapBytes := by decide
  have hcb : componentBytes .byte = 1 := by decide
  obtain ⟨T2, L, X2, y1, y2, y3, y4, y5⟩ := vm_throws X0 B.1 htr hcls hnames hsoe hoom harm (fun a k cT f1 f2 f3 i hm => by
      have := hK.tS (hK.1.1 _ q265) a k cT f1 f2 f3
      have h' := hG.2.2.2.2 _ hm
      exact absurd this (Nat.not_lt.mpr h')) htext (by rw [hlim]; omega) (by rw [hhp, hcb]; omega) (g := F0 m pc ls rest) rfl (by rw [B.2.2.1]; exact hls) hRframes (by simpa [F0] using hRlocals) hshort hRcells (by omega)
  rw [hT] at y1 y2 y3 y4 y5
  have hG2 : GG X ws s.heap T2.heap (locs ++ L) := hG.beyond (by rw [y2]; omega) y3 (fun q hq => by
    rw [y1 q hq]
    exact Nat.le_trans (Nat.le_trans hK.2.2.1 hG.2.2.1) (Nat.le_add_right _ _))
  obtain ⟨t, a1, b1⟩ := kk (H.size + 2) T2.heap (locs ++ L) hG2 (by omega) y4 T2 rfl (X2.more (Nat.le_refl _) (by omega))
  exact ⟨t, hst t (y5 t a1), b1⟩
/-- a cast that fails -/
theorem w_castNo (B : CallFix p m c cc nL s args lw_all own) (hK : KK X s) (hG : GG X ws s.heap H locs) (hl : l.stackTraces = false) (hls : ls.size = nL) {A D : String} {index a : Nat} (hlink : Cond.classLink own index D ∈ lw_all) (hno : va_Nc A D s) (hr : ∃ cell : Cell, H[a]? = some cell ∧ cell.vm.isStatics = false ∧ s.vm.findClass A = some cell.cls) (hA : A.toList.length ≤ 60) (hD : D.toList.length ≤ 60) (pA : packageOf A = "" ∨ packageOf A = "java/lang") (pD : packageOf D = "" ∨ packageOf D = "java/lang")
    (hfr : 6 < R.frames) (hlo : ((Value.ref a :: st).map fun v => v.category).sum + 10240 ≤ R.locals) (hc : cells + 3 ≤ R.cells) (hs : slots + 1770 ≤ R.slots) (hdg : decode cc pc = .ok (.checkcast index, 3))
    (kk : ∀ (x : Nat) (H1 : Heap) (locs1 : List Loc), GG X ws s.heap H1 locs1 → H.size ≤ x → ExC s "java/lang/ClassCastException" x H1 → WX p l e R s m args below meth c H1 locs1 (cells + 3) (slots + 1770) Q x (F0 m pc ls (.ref a :: st))) : W p l e R s m args below meth c H locs cells slots Q (F0 m pc ls (.ref a :: st)) := by
  obtain ⟨cell, h1, h2, h3⟩ := hr
  obtain ⟨ca, cd, f1, f2, f3⟩ := hno
  cases Option.some.inj (f1.symm.trans h3)
  obtain ⟨ks, hks, -⟩ := Vm.findClass_spec h3
  refine w_vmW (N := 1760) B hK hG hl hls (arm_CCE B hK) (by decide) (by decide) (by decide) (by decide) (by decide) hfr hlo (by decide) hc hs (fun T hT X0 => ?_) kk
  obtain ⟨vm', ks', kt', X1, hW, g1, g2, g3⟩ := checkcastNo X0 B.1 B.2.2.2.1 (B.2.2.2.2 _ hlink) (by rw [hT]; exact h1) (VmData.noStatics_of h2) hks f2 f3 (g := F0 m pc ls (.ref a :: st)) rfl rfl (by rw [B.2.1]; exact hdg)
  have t1 : vm'.findClass A = some cell.cls := by rw [hW.alike.findClass]; exact h3
  have t2 : vm'.findClass D = some cd := by rw [hW.alike.findClass]; exact f2
  obtain ⟨z1, z2⟩ := cast_text hK.1.2.2.1 (hK.mods hW) t1 t2 g1 g2 hA hD pA pD
  exact ⟨vm', _, X1, z1, z2, g3⟩
end CNO
