set_option maxRecDepth 100000
section WP
variable {p : Program} {l : Launch} {e : Env} {R : Room} {s : State} {m : MethodId} {args : Array Value} {below : List Frame} {meth : Method} {c : Code} {H : Heap} {locs : List Loc} {cells slots : Nat} {Q : State → Prop} {cc : ByteArray} {nL pc : Nat} {ls : Array Slot} {st st0 : List Value} {own : String} {X : CX} {ws ws' rest : va_W}
theorem w_getS (B : CallFix p m c cc nL s args lw_all own) (hK : KK X s) (hP : va_P X.2.2.1 vwCl ws H) {C ref : String} {T : u_T} {N ci index a : Nat} {fs : List Value} (q0 k : Nat) (he : ws[q0]? = some (a, .inr (ci, fs))) (hc : vwCl[ci]? = some (C, T, N)) (hin : ∀ w ∈ u_ws C T N, w ∈ lw_all) (hk : k < N)
    (hlink : Cond.fieldLink own index ref (T k).2.1 (T k).2.2.1 ∈ lw_all) (hsm : Cond.sameField ref (T k).1 (T k).2.1 (T k).2.2.1 ∈ lw_all) {v : Value} (hv : fs[k]? = some v) (hdg : decode cc pc = .ok (.getfield index, 3))
    (kk : W p l e R s m args below meth c H locs cells slots Q (F0 m (pc + 3) ls (v :: st))) : W p l e R s m args below meth c H locs cells slots Q (F0 m pc ls (.ref a :: st)) :=
  va_get B.1 B.2.1 B.2.2.2.2 hin B.2.2.2.1 hK.k hP q0 he hc k hk (B.2.2.2.2 _ hlink) (fun x h => u_same (B.2.2.2.2 _ hsm) x h) hv hdg kk
theorem vwCl_k (k : Fin 6) : ∃ q : vw_C, vwCl[5 + k.val]? = some q := by
  match k with
  | 0 => exact ⟨_, rfl⟩
  | 1 => exact ⟨_, rfl⟩
  | 2 => exact ⟨_, rfl⟩
  | 3 => exact ⟨_, rfl⟩
  | 4 => exact ⟨_, rfl⟩
  | 5 => exact ⟨_, rfl⟩
theorem va_P_tl {D : va_G} {cl : List vw_C} {q : Nat × va_E} {ws : va_W} {H : Heap} (h : va_P D cl (q :: ws) H) : va_P D cl ws H := va_P_of h (fun _ hq => List.mem_cons_of_mem _ hq)
theorem po_C0 (B : CallFix p m c cc nL s args lw_all RX0) (hK : KK X s) {P : PV} (hP : va_P X.2.2.1 vwCl (PC P :: ws) H) (hdg : decode cc pc = .ok (.getfield 139, 3)) (kk : W p l e R s m args below meth c H locs cells slots Q (F0 m (pc + 3) ls (.int P.2.2.1 :: st))) : W p l e R s m args below meth c H locs cells slots Q (F0 m pc ls (.ref P.1 :: st)) := by
  obtain ⟨pa, pk, pn, px, pz⟩ := P
  match pk with
  | 0 => exact w_get B hK hP 0 0 rfl rfl in_X6 (by decide) q618 rfl rfl hdg kk
  | 1 => exact w_get B hK hP 0 0 rfl rfl in_X7 (by decide) q618 rfl rfl hdg kk
  | 2 => exact w_get B hK hP 0 0 rfl rfl in_X8 (by decide) q618 rfl rfl hdg kk
  | 3 => exact w_get B hK hP 0 0 rfl rfl in_X9 (by decide) q618 rfl rfl hdg kk
  | 4 => exact w_get B hK hP 0 0 rfl rfl in_X10 (by decide) q618 rfl rfl hdg kk
  | 5 => exact w_get B hK hP 0 0 rfl rfl in_X11 (by decide) q618 rfl rfl hdg kk
theorem po_C1 (B : CallFix p m c cc nL s args lw_all RX0) (hK : KK X s) {P : PV} (hP : va_P X.2.2.1 vwCl (PC P :: ws) H) (hdg : decode cc pc = .ok (.getfield 158, 3)) (kk : W p l e R s m args below meth c H locs cells slots Q (F0 m (pc + 3) ls (.int P.2.2.2.1 :: st))) : W p l e R s m args below meth c H locs cells slots Q (F0 m pc ls (.ref P.1 :: st)) := by
  obtain ⟨pa, pk, pn, px, pz⟩ := P
  match pk with
  | 0 => exact w_get B hK hP 0 1 rfl rfl in_X6 (by decide) q622 rfl rfl hdg kk
  | 1 => exact w_get B hK hP 0 1 rfl rfl in_X7 (by decide) q622 rfl rfl hdg kk
  | 2 => exact w_get B hK hP 0 1 rfl rfl in_X8 (by decide) q622 rfl rfl hdg kk
  | 3 => exact w_get B hK hP 0 1 rfl rfl in_X9 (by decide) q622 rfl rfl hdg kk
  | 4 => exact w_get B hK hP 0 1 rfl rfl in_X10 (by decide) q622 rfl rfl hdg kk
  | 5 => exact w_get B hK hP 0 1 rfl rfl in_X11 (by decide) q622 rfl rfl hdg kk
theorem po_C2 (B : CallFix p m c cc nL s args lw_all RX0) (hK : KK X s) {P : PV} (hP : va_P X.2.2.1 vwCl (PC P :: ws) H) (hdg : decode cc pc = .ok (.getfield 236, 3)) (kk : W p l e R s m args below meth c H locs cells slots Q (F0 m (pc + 3) ls (.int P.2.2.2.2 :: st))) : W p l e R s m args below meth c H locs cells slots Q (F0 m pc ls (.ref P.1 :: st)) := by
  obtain ⟨pa, pk, pn, px, pz⟩ := P
  match pk with
  | 0 => exact w_get B hK hP 0 2 rfl rfl in_X6 (by decide) q630 rfl rfl hdg kk
  | 1 => exact w_get B hK hP 0 2 rfl rfl in_X7 (by decide) q630 rfl rfl hdg kk
  | 2 => exact w_get B hK hP 0 2 rfl rfl in_X8 (by decide) q630 rfl rfl hdg kk
  | 3 => exact w_get B hK hP 0 2 rfl rfl in_X9 (by decide) q630 rfl rfl hdg kk
  | 4 => exact w_get B hK hP 0 2 rfl rfl in_X10 (by decide) q630 rfl rfl hdg kk
  | 5 => exact w_get B hK hP 0 2 rfl rfl in_X11 (by decide) q630 rfl rfl hdg kk
theorem po_X72 (B : CallFix p m c cc nL s args lw_all RX7) (hK : KK X s) {P : PV} (hP : va_P X.2.2.1 vwCl (PC P :: ws) H) (hdg : decode cc pc = .ok (.getfield 9, 3)) (kk : W p l e R s m args below meth c H locs cells slots Q (F0 m (pc + 3) ls (.int P.2.2.2.2 :: st))) : W p l e R s m args below meth c H locs cells slots Q (F0 m pc ls (.ref P.1 :: st)) := by
  obtain ⟨pa, pk, pn, px, pz⟩ := P
  match pk with
  | 0 => exact w_getS B hK hP 0 2 rfl rfl in_X6 (by decide) q624 q625 rfl hdg kk
  | 1 => exact w_getS B hK hP 0 2 rfl rfl in_X7 (by decide) q624 q625 rfl hdg kk
  | 2 => exact w_getS B hK hP 0 2 rfl rfl in_X8 (by decide) q624 q625 rfl hdg kk
  | 3 => exact w_getS B hK hP 0 2 rfl rfl in_X9 (by decide) q624 q625 rfl hdg kk
  | 4 => exact w_getS B hK hP 0 2 rfl rfl in_X10 (by decide) q624 q625 rfl hdg kk
  | 5 => exact w_getS B hK hP 0 2 rfl rfl in_X11 (by decide) q624 q625 rfl hdg kk
theorem po_X82 (B : CallFix p m c cc nL s args lw_all RX8) (hK : KK X s) {P : PV} (hP : va_P X.2.2.1 vwCl (PC P :: ws) H) (hdg : decode cc pc = .ok (.getfield 13, 3)) (kk : W p l e R s m args below meth c H locs cells slots Q (F0 m (pc + 3) ls (.int P.2.2.2.2 :: st))) : W p l e R s m args below meth c H locs cells slots Q (F0 m pc ls (.ref P.1 :: st)) := by
  obtain ⟨pa, pk, pn, px, pz⟩ := P
  match pk with
  | 0 => exact w_getS B hK hP 0 2 rfl rfl in_X6 (by decide) q626 q627 rfl hdg kk
  | 1 => exact w_getS B hK hP 0 2 rfl rfl in_X7 (by decide) q626 q627 rfl hdg kk
  | 2 => exact w_getS B hK hP 0 2 rfl rfl in_X8 (by decide) q626 q627 rfl hdg kk
  | 3 => exact w_getS B hK hP 0 2 rfl rfl in_X9 (by decide) q626 q627 rfl hdg kk
  | 4 => exact w_getS B hK hP 0 2 rfl rfl in_X10 (by decide) q626 q627 rfl hdg kk
  | 5 => exact w_getS B hK hP 0 2 rfl rfl in_X11 (by decide) q626 q627 rfl hdg kk
theorem po_X81 (B : CallFix p m c cc nL s args lw_all RX8) (hK : KK X s) {P : PV} (hP : va_P X.2.2.1 vwCl (PC P :: ws) H) (hdg : decode cc pc = .ok (.getfield 28, 3)) (kk : W p l e R s m args below meth c H locs cells slots Q (F0 m (pc + 3) ls (.int P.2.2.2.1 :: st))) : W p l e R s m args below meth c H locs cells slots Q (F0 m pc ls (.ref P.1 :: st)) := by
  obtain ⟨pa, pk, pn, px, pz⟩ := P
  match pk with
  | 0 => exact w_getS B hK hP 0 1 rfl rfl in_X6 (by decide) q620 q621 rfl hdg kk
  | 1 => exact w_getS B hK hP 0 1 rfl rfl in_X7 (by decide) q620 q621 rfl hdg kk
  | 2 => exact w_getS B hK hP 0 1 rfl rfl in_X8 (by decide) q620 q621 rfl hdg kk
  | 3 => exact w_getS B hK hP 0 1 rfl rfl in_X9 (by decide) q620 q621 rfl hdg kk
  | 4 => exact w_getS B hK hP 0 1 rfl rfl in_X10 (by decide) q620 q621 rfl hdg kk
  | 5 => exact w_getS B hK hP 0 1 rfl rfl in_X11 (by decide) q620 q621 rfl hdg kk
theorem po_X60 (B : CallFix p m c cc nL s args lw_all RX6) (hK : KK X s) {P : PV} (hP : va_P X.2.2.1 vwCl (PC P :: ws) H) (hdg : decode cc pc = .ok (.getfield 9, 3)) (kk : W p l e R s m args below meth c H locs cells slots Q (F0 m (pc + 3) ls (.int P.2.2.1 :: st))) : W p l e R s m args below meth c H locs cells slots Q (F0 m pc ls (.ref P.1 :: st)) := by
  obtain ⟨pa, pk, pn, px, pz⟩ := P
  match pk with
  | 0 => exact w_get B hK hP 0 0 rfl rfl in_X6 (by decide) q617 rfl rfl hdg kk
  | 1 => exact w_get B hK hP 0 0 rfl rfl in_X7 (by decide) q617 rfl rfl hdg kk
  | 2 => exact w_get B hK hP 0 0 rfl rfl in_X8 (by decide) q617 rfl rfl hdg kk
  | 3 => exact w_get B hK hP 0 0 rfl rfl in_X9 (by decide) q617 rfl rfl hdg kk
  | 4 => exact w_get B hK hP 0 0 rfl rfl in_X10 (by decide) q617 rfl rfl hdg kk
  | 5 => exact w_get B hK hP 0 0 rfl rfl in_X11 (by decide) q617 rfl rfl hdg kk
theorem po_X61 (B : CallFix p m c cc nL s args lw_all RX6) (hK : KK X s) {P : PV} (hP : va_P X.2.2.1 vwCl (PC P :: ws) H) (hdg : decode cc pc = .ok (.getfield 15, 3)) (kk : W p l e R s m args below meth c H locs cells slots Q (F0 m (pc + 3) ls (.int P.2.2.2.1 :: st))) : W p l e R s m args below meth c H locs cells slots Q (F0 m pc ls (.ref P.1 :: st)) := by
  obtain ⟨pa, pk, pn, px, pz⟩ := P
  match pk with
  | 0 => exact w_get B hK hP 0 1 rfl rfl in_X6 (by decide) q619 rfl rfl hdg kk
  | 1 => exact w_get B hK hP 0 1 rfl rfl in_X7 (by decide) q619 rfl rfl hdg kk
  | 2 => exact w_get B hK hP 0 1 rfl rfl in_X8 (by decide) q619 rfl rfl hdg kk
  | 3 => exact w_get B hK hP 0 1 rfl rfl in_X9 (by decide) q619 rfl rfl hdg kk
  | 4 => exact w_get B hK hP 0 1 rfl rfl in_X10 (by decide) q619 rfl rfl hdg kk
  | 5 => exact w_get B hK hP 0 1 rfl rfl in_X11 (by decide) q619 rfl rfl hdg kk
theorem po_X62 (B : CallFix p m c cc nL s args lw_all RX6) (hK : KK X s) {P : PV} (hP : va_P X.2.2.1 vwCl (PC P :: ws) H) (hdg : decode cc pc = .ok (.getfield 18, 3)) (kk : W p l e R s m args below meth c H locs cells slots Q (F0 m (pc + 3) ls (.int P.2.2.2.2 :: st))) : W p l e R s m args below meth c H locs cells slots Q (F0 m pc ls (.ref P.1 :: st)) := by
  obtain ⟨pa, pk, pn, px, pz⟩ := P
  match pk with
  | 0 => exact w_get B hK hP 0 2 rfl rfl in_X6 (by decide) q623 rfl rfl hdg kk
  | 1 => exact w_get B hK hP 0 2 rfl rfl in_X7 (by decide) q623 rfl rfl hdg kk
  | 2 => exact w_get B hK hP 0 2 rfl rfl in_X8 (by decide) q623 rfl rfl hdg kk
  | 3 => exact w_get B hK hP 0 2 rfl rfl in_X9 (by decide) q623 rfl rfl hdg kk
  | 4 => exact w_get B hK hP 0 2 rfl rfl in_X10 (by decide) q623 rfl rfl hdg kk
  | 5 => exact w_get B hK hP 0 2 rfl rfl in_X11 (by decide) q623 rfl rfl hdg kk
theorem po_X112 (B : CallFix p m c cc nL s args lw_all RX11) (hK : KK X s) {P : PV} (hP : va_P X.2.2.1 vwCl (PC P :: ws) H) (hdg : decode cc pc = .ok (.getfield 19, 3)) (kk : W p l e R s m args below meth c H locs cells slots Q (F0 m (pc + 3) ls (.int P.2.2.2.2 :: st))) : W p l e R s m args below meth c H locs cells slots Q (F0 m pc ls (.ref P.1 :: st)) := by
  obtain ⟨pa, pk, pn, px, pz⟩ := P
  match pk with
  | 0 => exact w_getS B hK hP 0 2 rfl rfl in_X6 (by decide) q628 q629 rfl hdg kk
  | 1 => exact w_getS B hK hP 0 2 rfl rfl in_X7 (by decide) q628 q629 rfl hdg kk
  | 2 => exact w_getS B hK hP 0 2 rfl rfl in_X8 (by decide) q628 q629 rfl hdg kk
  | 3 => exact w_getS B hK hP 0 2 rfl rfl in_X9 (by decide) q628 q629 rfl hdg kk
  | 4 => exact w_getS B hK hP 0 2 rfl rfl in_X10 (by decide) q628 q629 rfl hdg kk
  | 5 => exact w_getS B hK hP 0 2 rfl rfl in_X11 (by decide) q628 q629 rfl hdg kk
section RUN3
variable {x y : MethodName} {code : ByteArray} {nl : Nat} {ret : Option FieldType} {fr mc ms lo : Nat} {As : List Value} {index n : Nat} {P : PV}
/-- super's method, of a post -/
theorem w_rSU_RO (B : CallFix p m c cc nL s args lw_all own) (hK : KK X s) (hS : va_S (Az X) s.heap H locs) (hP : va_P X.2.2.1 vwCl (PC P :: ws) H) {v : Option Value} (hM : RO l y code nl ret fr lo (.ref P.1 :: As) X (PC P :: ws) v) (hT : GoodIn lw_all (va_wsSU own index y (ws_ y code nl ret)))
    (hd : y.name ≠ "<init>" ∧ (parseMethodDescriptor y.desc).map (fun d => d.parameters.length) = some n) (hR : fr + 1 ≤ R.frames ∧ 8 + (nl + 11) + lo ≤ R.locals) (hcs : cells ≤ R.cells ∧ slots ≤ R.slots) (hn : As.length = n) (hsz : ls.size = nL) (hst : st0 = As.reverse ++ .ref P.1 :: st) (hcat : (st.map fun v => v.category).sum ≤ 8)
    (hdg : decode cc pc = .ok (.invokespecial index, 3)) : va_Run p l e R s m args below meth c H locs cells slots 0 0 (F0 m pc ls st0) st (QR v (Value.ref P.1 :: As).toArray) NoF := by
  obtain ⟨q, hq⟩ := vwCl_k P.2.1
  exact va_runSU (C := q.1) (cC := X.2.2.1.1 (5 + P.2.1.val)) (hK.k.1 _ q hq).2 B hM (va_cwSU n B.2.2.2.2 hT rfl rfl rfl hd hR) ⟨fun _ _ _ _ q => q, va_recv hK.k hP hq (q0 := 0) rfl, fun U hU hW => ⟨rfl, hK.step hS hU hW, by rw [hU]; exact hP⟩⟩ rfl hn hsz hst (lv_room hcat) hdg hcs
/-- a post's own method, by its kind -/
theorem w_rU_RO (B : CallFix p m c cc nL s args lw_all own) (hK : KK X s) (hS : va_S (Az X) s.heap H locs) (hP : va_P X.2.2.1 vwCl (PC P :: ws) H) {C owner : String} {T : u_T} {N : Nat} (hc : vwCl[5 + P.2.1.val]? = some (C, T, N)) {v : Option Value} (hM : RO l y code nl ret fr lo (.ref P.1 :: As) X (PC P :: ws) v) (hT : GoodIn lw_all (va_wsO own index C owner x y (ws_ y code nl ret)))
    {b0 : ByteArray} {m0 : Nat} {r0 : Option FieldType} (h0 : Cond.code ⟨owner, x.name, x.desc⟩ b0 m0 r0 ∈ lw_all) (hd : owner ≠ "java/lang/invoke/MethodHandle" ∧ owner ≠ "java/lang/invoke/VarHandle" ∧ (parseMethodDescriptor x.desc).map (fun d => d.parameters.length) = some n) (hR : fr + 1 ≤ R.frames ∧ 8 + (nl + 11) + lo ≤ R.locals) (hcs : cells ≤ R.cells ∧ slots ≤ R.slots) (hn : As.length = n) (hsz : ls.size = nL) (hst : st0 = As.reverse ++ .ref P.1 :: st) (hcat : (st.map fun v => v.category).sum ≤ 8)
    (hdg : decode cc pc = .ok (.invokevirtual index, 3)) : va_Run p l e R s m args below meth c H locs cells slots 0 0 (F0 m pc ls st0) st (QR v (Value.ref P.1 :: As).toArray) NoF :=
  va_runU B hM (va_cwO n B.2.2.2.2 hT rfl rfl rfl h0 hd hR) ⟨fun _ _ _ _ q => q, va_recv hK.k hP hc (q0 := 0) rfl, fun U hU hW => ⟨rfl, hK.step hS hU hW, by rw [hU]; exact hP⟩⟩ rfl hn hsz hst (lv_room hcat) hdg hcs
end RUN3
end WP
