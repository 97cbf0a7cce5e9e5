set_option maxRecDepth 100000
def iabs (x : Int32) : Int32 := if 0 ≤ x then x else 0 - x
section WA
variable {p : Program} {l : Launch} {e : Env} {R : Room} {s : State} {m : MethodId} {args : Array Value} {below : List Frame} {meth : Method} {c : Code} {H : Heap} {locs : List Loc} {cells slots : Nat} {Q : State → Prop} {cc : ByteArray} {nL pc : Nat} {ls : Array Slot} {st : List Value} {own : String}
theorem w_abs (B : CallFix p m c cc nL s args lw_all own) (hl : ls.size = nL) {index : Nat} (h1 : Cond.methodLink own index Lib.Math.abs.name ∈ lw_all) (h2 : Cond.static Lib.Math.abs.name ∈ lw_all) (h3 : Cond.initialized "java/lang/Math" ∈ lw_all) (h4 : Cond.code Lib.Math.abs.name Lib.Math.abs.code 1 (some .int) ∈ lw_all)
    (hframes : 1 ≤ R.frames) (hcat : (st.map fun v => v.category).sum ≤ 8) (hlocals : 21 ≤ R.locals) (hc : cells ≤ R.cells) (hs : slots ≤ R.slots) {x : Int32} (hdg : decode cc pc = .ok (.invokestatic index, 3))
    (kk : W p l e R s m args below meth c H locs cells slots Q (F0 m (pc + 3) ls (.int (iabs x) :: st))) : W p l e R s m args below meth c H locs cells slots Q (F0 m pc ls (.int x :: st)) :=
  va_mabs B.1 B.2.1 (by rw [B.2.2.1, hl]) B.2.2.2.1 (B.2.2.2.2 _ h1) (B.2.2.2.2 _ h2) (B.2.2.2.2 _ h3) (B.2.2.2.2 _ h4) hframes (by omega) hc hs hdg kk
end WA
