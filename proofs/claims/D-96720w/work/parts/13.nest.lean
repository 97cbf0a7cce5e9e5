set_option maxRecDepth 100000
/-! nest mates' private methods; the two tables of steps -/
theorem KK.nestM {X : CX} {s : State} {own host : String} {index : Nat} {y : MethodName} (h : KK X s) (hw : Cond.methodLinkNest own index y host ∈ lw_tbl) : va_Nw (.methodLinkNest own index y host) s := va_Nw.warmM h.2.1 (va_Nw.of rfl (h.1.1 _ hw))
theorem KK.nestF {X : CX} {s : State} {own b n d host : String} {index : Nat} (h : KK X s) (hw : Cond.fieldLinkNest own index b n d host ∈ lw_tbl) : va_Nw (.fieldLinkNest own index b n d host) s := va_Nw.warmF h.2.1 (va_Nw.of rfl (h.1.1 _ hw))
theorem KK.old {X : CX} {s : State} (h : KK X s) : ∀ a : Nat, a < X.1.heap.size → ¬ Az X a → s.heap[a]? = X.1.heap[a]? := fun a ha _ => h.2.2.2 a ha
def dwn (j : Nat) : Int32 := if j = 1 then -1 else if j = 2 then 1 else 0
def acr (j : Nat) : Int32 := if j = 3 then -1 else if j = 4 then 1 else 0
theorem KK.down {X : CX} {s : State} (h : KK X s) : ∃ t : Nat, va_Z "PointAtWhoIsLost" "DOWN" "[I" (.ref t) (Az X) s s.heap ∧ va_T .int t 5 (fun j => .int (dwn j)) (Az X) s s.heap := by
  have hs := flat_of_before _ h.1.2.1
  have hA : ∀ a : Nat, a < X.1.heap.size → ¬ Az X a := fun a ha q => absurd q (Nat.not_le.mpr ha)
  obtain ⟨t, e, hT⟩ := va_Tof (tm := .static "PointAtWhoIsLost" "DOWN" "[I") (ty := .int) (N := 5) (f := fun j => .int (dwn j)) (A := Az X) (by decide) (hs _ (by decide +kernel)) (va_eqt (hs (Jvm.Cond.eq (Jvm.Term.length (Jvm.Term.static "PointAtWhoIsLost" "DOWN" "[I")) (Jvm.Term.int (5 : Int32))) (by decide +kernel))) (fun j hj => by
    match j, hj with
    | 0, _ => exact va_eqt (hs (Jvm.Cond.eq (Jvm.Term.elem (Jvm.Term.static "PointAtWhoIsLost" "DOWN" "[I") (Jvm.Term.int (0 : Int32))) (Jvm.Term.int (0 : Int32))) (by decide +kernel))
    | 1, _ => exact va_eqt (hs (Jvm.Cond.eq (Jvm.Term.elem (Jvm.Term.static "PointAtWhoIsLost" "DOWN" "[I") (Jvm.Term.int (1 : Int32))) (Jvm.Term.int (-1 : Int32))) (by decide +kernel))
    | 2, _ => exact va_eqt (hs (Jvm.Cond.eq (Jvm.Term.elem (Jvm.Term.static "PointAtWhoIsLost" "DOWN" "[I") (Jvm.Term.int (2 : Int32))) (Jvm.Term.int (1 : Int32))) (by decide +kernel))
    | 3, _ => exact va_eqt (hs (Jvm.Cond.eq (Jvm.Term.elem (Jvm.Term.static "PointAtWhoIsLost" "DOWN" "[I") (Jvm.Term.int (3 : Int32))) (Jvm.Term.int (0 : Int32))) (by decide +kernel))
    | 4, _ => exact va_eqt (hs (Jvm.Cond.eq (Jvm.Term.elem (Jvm.Term.static "PointAtWhoIsLost" "DOWN" "[I") (Jvm.Term.int (4 : Int32))) (Jvm.Term.int (0 : Int32))) (by decide +kernel))) hA
  have hZ := va_Zref (h.1.1 _ q1112) (h.1.1 _ (lw_all_tbl q87)) e hA
  exact ⟨t, (hZ.moved h.2.1.alike).kept h.old, (hT.moved h.2.1.alike).kept h.old⟩
theorem KK.across {X : CX} {s : State} (h : KK X s) : ∃ t : Nat, va_Z "PointAtWhoIsLost" "ACROSS" "[I" (.ref t) (Az X) s s.heap ∧ va_T .int t 5 (fun j => .int (acr j)) (Az X) s s.heap := by
  have hs := flat_of_before _ h.1.2.1
  have hA : ∀ a : Nat, a < X.1.heap.size → ¬ Az X a := fun a ha q => absurd q (Nat.not_le.mpr ha)
  obtain ⟨t, e, hT⟩ := va_Tof (tm := .static "PointAtWhoIsLost" "ACROSS" "[I") (ty := .int) (N := 5) (f := fun j => .int (acr j)) (A := Az X) (by decide) (hs _ (by decide +kernel)) (va_eqt (hs (Jvm.Cond.eq (Jvm.Term.length (Jvm.Term.static "PointAtWhoIsLost" "ACROSS" "[I")) (Jvm.Term.int (5 : Int32))) (by decide +kernel))) (fun j hj => by
    match j, hj with
    | 0, _ => exact va_eqt (hs (Jvm.Cond.eq (Jvm.Term.elem (Jvm.Term.static "PointAtWhoIsLost" "ACROSS" "[I") (Jvm.Term.int (0 : Int32))) (Jvm.Term.int (0 : Int32))) (by decide +kernel))
    | 1, _ => exact va_eqt (hs (Jvm.Cond.eq (Jvm.Term.elem (Jvm.Term.static "PointAtWhoIsLost" "ACROSS" "[I") (Jvm.Term.int (1 : Int32))) (Jvm.Term.int (0 : Int32))) (by decide +kernel))
    | 2, _ => exact va_eqt (hs (Jvm.Cond.eq (Jvm.Term.elem (Jvm.Term.static "PointAtWhoIsLost" "ACROSS" "[I") (Jvm.Term.int (2 : Int32))) (Jvm.Term.int (0 : Int32))) (by decide +kernel))
    | 3, _ => exact va_eqt (hs (Jvm.Cond.eq (Jvm.Term.elem (Jvm.Term.static "PointAtWhoIsLost" "ACROSS" "[I") (Jvm.Term.int (3 : Int32))) (Jvm.Term.int (-1 : Int32))) (by decide +kernel))
    | 4, _ => exact va_eqt (hs (Jvm.Cond.eq (Jvm.Term.elem (Jvm.Term.static "PointAtWhoIsLost" "ACROSS" "[I") (Jvm.Term.int (4 : Int32))) (Jvm.Term.int (1 : Int32))) (by decide +kernel))) hA
  have hZ := va_Zref (h.1.1 _ q1114) (h.1.1 _ (lw_all_tbl q87)) e hA
  exact ⟨t, (hZ.moved h.2.1.alike).kept h.old, (hT.moved h.2.1.alike).kept h.old⟩
section WN
variable {p : Program} {l : Launch} {e : Env} {R : Room} {s : State} {m : MethodId} {args : Array Value} {below : List Frame} {meth : Method} {c : Code} {H : Heap} {locs : List Loc} {cells slots : Nat} {Q : State → Prop} {cc : ByteArray} {nL pc : Nat} {ls : Array Slot} {st st0 : List Value} {own : String} {X : CX} {ws ws' : va_W}
variable {y : MethodName} {code : ByteArray} {nl : Nat} {ret : Option FieldType} {fr mc ms lo : Nat} {As : List Value} {b : Nat} {C host : String} {T : u_T} {N ci index n : Nat} {fs : List Value}
theorem w_rSN_ST (B : CallFix p m c cc nL s args lw_all own) (hK : KK X s) {v : Value} (hM : ST l y code nl ret fr lo As v) (hw : Cond.methodLinkNest own index y host ∈ lw_tbl) (h2 : Cond.static y ∈ lw_all) (h3 : Cond.initialized y.cls ∈ lw_all) (h4 : Cond.code y code nl ret ∈ lw_all)
    (hd : y.cls ≠ "java/lang/invoke/MethodHandle" ∧ y.cls ≠ "java/lang/invoke/VarHandle" ∧ (parseMethodDescriptor y.desc).map (fun d => d.parameters.length) = some n) (hR : fr + 1 ≤ R.frames ∧ 8 + (nl + 11) + lo ≤ R.locals) (hcs : cells ≤ R.cells ∧ slots ≤ R.slots) (hn : As.length = n) (hsz : ls.size = nL) (hst : st0 = As.reverse ++ st) (hcat : (st.map fun v => v.category).sum ≤ 8)
    (hdg : decode cc pc = .ok (.invokestatic index, 3)) : va_Run p l e R s m args below meth c H locs cells slots 0 0 (F0 m pc ls st0) st (QR (some v) As.toArray) NoF :=
  va_runSN B hM ⟨va_cnB n B.2.2.2.2 (lw_meth h4) rfl rfl rfl (hK.nestM hw) (B.2.2.2.2 _ h3) hd hR, B.2.2.2.2 _ h2, trivial⟩ ⟨fun _ _ _ _ q => q, fun U hU hW => ⟨rfl, trivial⟩⟩ rfl hn hsz hst (lv_room hcat) hdg hcs
theorem w_gdown (B : CallFix p m c cc nL s args lw_all RX1) (hK : KK X s) (hS : va_S (Az X) s.heap H locs) {t : Nat} (hZ : va_Z "PointAtWhoIsLost" "DOWN" "[I" (.ref t) (Az X) s s.heap) (hdg : decode cc pc = .ok (.getstatic 98, 3)) (kk : W p l e R s m args below meth c H locs cells slots Q (F0 m (pc + 3) ls (.ref t :: st))) : W p l e R s m args below meth c H locs cells slots Q (F0 m pc ls st) :=
  va_getsN B.1 B.2.1 hZ hS B.2.2.2.1 (va_Nw.use rfl (hK.nestF q1111)) (fun _ h => h) hdg kk
theorem w_gacross (B : CallFix p m c cc nL s args lw_all RX1) (hK : KK X s) (hS : va_S (Az X) s.heap H locs) {t : Nat} (hZ : va_Z "PointAtWhoIsLost" "ACROSS" "[I" (.ref t) (Az X) s s.heap) (hdg : decode cc pc = .ok (.getstatic 101, 3)) (kk : W p l e R s m args below meth c H locs cells slots Q (F0 m (pc + 3) ls (.ref t :: st))) : W p l e R s m args below meth c H locs cells slots Q (F0 m pc ls st) :=
  va_getsN B.1 B.2.1 hZ hS B.2.2.2.1 (va_Nw.use rfl (hK.nestF q1113)) (fun _ h => h) hdg kk
theorem w_tbl (B : CallFix p m c cc nL s args lw_all own) {t n : Nat} {f : Nat → Int32} (hT : va_T .int t n (fun j => .int (f j)) (Az X) s s.heap) (hS : va_S (Az X) s.heap H locs) {i v : Int32} (hv : rd f n i = some v) (hdg : decode cc pc = .ok (.iaload, 1)) (kk : W p l e R s m args below meth c H locs cells slots Q (F0 m (pc + 1) ls (.int v :: st))) : W p l e R s m args below meth c H locs cells slots Q (F0 m pc ls (.int i :: .ref t :: st)) := by
  obtain ⟨h1, h2⟩ := rd_in hv
  subst h2
  exact va_ti B.1 B.2.1 hT hS h1 rfl hdg kk
end WN
