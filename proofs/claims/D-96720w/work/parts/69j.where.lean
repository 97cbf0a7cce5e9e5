set_option maxRecDepth 100000
/-! where, of, judge, nears, done -/
theorem goTo_skips {e : Env} {s : State} {f : JFrame} {a : Addr} {t : List ExceptionTableEntry} {h : Handler} {vm' : Vm} : ∀ t1 : List ExceptionTableEntry, (∀ x ∈ t1, covers x f.pc = false) → GoTo e s f a t h vm' → GoTo e s f a (t1 ++ t) h vm'
  | [], _, k => k
  | x :: t1, hx, k => GoTo.skip (hx x List.mem_cons_self) (goTo_skips t1 (fun y hy => hx y (List.mem_cons_of_mem _ hy)) k)
section WH1
variable {p : Program} {l : Launch} {e : Env} {R : Room} {s : State} {m : MethodId} {args : Array Value} {below : List Frame} {meth : Method} {c : Code} {H : Heap} {locs : List Loc} {cells slots : Nat} {Q : State → Prop} {cc : ByteArray} {nL pc : Nat} {ls : Array Slot} {st : List Value} {X : CX} {rest : va_W} {ca fa : Nat → Nat} {own : String}
/-- some entries don't stand over the place, the next takes it -/
theorem w_catchS (B : CallFix p m c cc nL s args lw_all own) (hK : KK X s) {cls name : String} {x a b h ct : Nat} (L1 L : List (Nat × Nat × Nat × Nat)) (htab : c.exceptionTable.toList.map (fun h => (h.startPc, h.endPc, h.handlerPc, h.catchType)) = L1 ++ (a, b, h, ct) :: L) (hL : ∀ z ∈ L1, ¬ (z.1 ≤ pc ∧ pc < z.2.1)) (hct : ct ≠ 0) (hin : a ≤ pc ∧ pc < b) (hlink : Cond.classLink own ct name ∈ lw_all) (hex : ExC s cls x H) (hcast : Cond.castable cls name ∈ lw_tbl) {N : Nat} (hI : Cond.instantiable cls N ∈ lw_all)
    (kk : W p l e R s m args below meth c H locs cells slots Q (F0 m h ls [.ref x])) : WX p l e R s m args below meth c H locs cells slots Q x (F0 m pc ls st) := by
  intro T0 hT0 X0
  obtain ⟨t1, t2, ht, h1, h2⟩ := List.map_eq_append_iff.mp htab
  obtain ⟨z, t, hz, hz2, -⟩ := List.map_eq_cons_iff.mp h2
  obtain ⟨ce, hce, hvm, hfc⟩ := hex
  obtain ⟨e1, e2, e3, e4⟩ := (show z.startPc = a ∧ z.endPc = b ∧ z.handlerPc = h ∧ z.catchType = ct by
    have := hz2
    simp only [Prod.mk.injEq] at this
    exact this)
  refine WX.takes (pc2 := h) (fun T hT hW => ?_) kk T0 hT0 X0
  obtain ⟨ca, cb, hca, hcb, hasg⟩ := Cond.castable_spec (show (Cond.castable cls name).before #[] s = true from hK.castB hcast)
  cases Option.some.inj (hca.symm.trans hfc)
  have hkc : ∃ k, s.vm.classes[ce.cls]? = some k := by
    obtain ⟨c1, k, hc1, hk1, -⟩ := Cond.instantiable_spec (B.2.2.2.2 _ hI)
    cases Option.some.inj (hc1.symm.trans hfc)
    exact ⟨k, hk1⟩
  obtain ⟨w1, w2, w3⟩ := goTo_link (m := m) (x := z) (f := F0 m pc ls st) X0.admits B.2.2.2.1 (by rw [e4]; exact hct) (by rw [e4]; exact B.2.2.2.2 _ hlink) hW hcb (a := x) (by rw [hT]; exact hce) (by rw [hvm]; rfl) hkc rfl (by
    simp only [covers, e1, e2, F0]
    simp [hin.1, hin.2])
  rw [ht, hz, ← e3]
  refine ⟨_, w1, goTo_skips t1 (fun y hy => ?_) (w2 t hasg)⟩
  have h9 := hL (y.startPc, y.endPc, y.handlerPc, y.catchType) (by rw [← h1]; exact List.mem_map_of_mem hy)
  simp only [covers, F0]
  by_cases q2 : y.startPc ≤ pc
  · have h3 : ¬ pc < y.endPc := fun h => h9 ⟨q2, h⟩
    simp [h3]
  · simp [q2]
theorem w_byno (B : CallFix p m c cc nL s args lw_all RX0) (hK : KK X s) {q : Nat} {b r : Int32} {w w' : CW} (hG : GG X (XC q b :: (CP X ca fa w ++ rest)) s.heap H locs) (hf : fC_no w b = some (r, w')) {h : Nat} (hl : lv_has ls nL [(0, .ref (ca 0))]) (hn : 4 < nL) (hR : 0 + 1 ≤ R.frames ∧ 21 ≤ R.locals) (hcs : cells ≤ R.cells ∧ slots ≤ R.slots) (d0 : decode cc h = .ok (.astore 4, 2)) (d1 : decode cc (h + 2) = .ok (.aload_n 0, 1)) (d2 : decode cc (h + 3) = .ok (.aload 4, 2)) (d3 : decode cc (h + 5) = .ok (.getfield 117, 3)) (d4 : decode cc (h + 8) = .ok (.invokevirtual 91, 3))
    (kk : ∀ (H1 : Heap) (locs1 : List Loc), GG X (CP X ca fa w' ++ rest) s.heap H1 locs1 → ∀ ls : Array Slot, W p l e R s m args below meth c H1 locs1 cells slots Q (F0 m (h + 11) ls [.int r])) : W p l e R s m args below meth c H locs cells slots Q (F0 m h ls [.ref q]) := by
  refine lv_astore B.1 B.2.1 d0 hl hn rfl (fun ls hl => ?_)
  refine lv_aload_n B.1 B.2.1 d1 rfl (lv_at hl 1 rfl) ?_
  refine lv_aload B.1 B.2.1 d2 (lv_at hl 0 rfl) ?_
  refine w_by B hK hG.1 d3 ?_
  exact cC_no B hK (hG.sublist (List.sublist_cons_self _ _)) hf rfl hR hcs hl.1 (Nat.le_of_ble_eq_true rfl) d4 (fun H1 locs1 hG1 => kk H1 locs1 hG1 ls)
end WH1
noncomputable def fC_where_L44 (pr : Nat × Nat × (Nat → Int64)) (z : CW × Int32 × Int32) : Option ((CW × Int32 × Int32) ⊕ (Option Int32 × CW)) :=
  if z.2.2 = -1 then some (.inr (none, z.1)) else
  b2 (fC_fits pr z.1 z.2.2 (-1)) fun a w1 => if a = 0 then ((fF_next (cfe w1) z.2.2).bind fun c => some (.inl (w1, z.2.1, c))) else
  if z.2.1 = 0 then some (.inr (some z.2.2, w1)) else ((fF_next (cfe w1) z.2.2).bind fun c => some (.inl (w1, z.2.1 + Int32.ofInt (-1), c)))
noncomputable def fC_where (w : CW) (x1 x2 x3 : Int32) : Option (Int32 × CW) :=
  (fC_pairsIn w (if x3 < -1 then 0 else 1) x1 x2).bind fun q => match q with
    | .inl b => fC_no w b
    | .inr u => if x3 = -1 then fC_many (0, u) w (-1) else
      (fF_next (cfe w) (-1)).bind fun c => (lp (fC_where_L44 (0, u)) (w, x3, c)).bind fun r => match r.1 with
        | some v => some (v, r.2)
        | none => fC_no r.2 (-5)
noncomputable def fC_of (w : CW) (x1 x2 x3 : Int32) : Option (Int32 × CW) :=
  (fC_isIn x3 0 1).bind fun a => (fC_pairsIn w a x1 x2).bind fun q => match q with
    | .inl b => fC_no w b
    | .inr u => if x3 = 0 then fC_nextOf (0, u) w else fC_falseOf (0, u) w
noncomputable def fC_judge (w : CW) (x1 x2 x3 : Int32) : Option (Int32 × CW) :=
  (fF_isWalker (cfe w) x3).bind fun a => (fC_toldIn w a x1 x2 1).bind fun q => match q with
    | .inl b => fC_no w b
    | .inr u => (fC_wrongIn (0, u) w x3).bind fun k => some (k, w)
noncomputable def fC_nears_L50 (pr : Nat × Nat × (Nat → Int64)) (w : CW) (z : Int32 × Int32 × Int32) : Option ((Int32 × Int32 × Int32) ⊕ Int32) :=
  if nI pr.2.1 ≤ z.2.2 then some (.inr z.2.1) else
  (rd pr.2.2 pr.2.1 z.2.2).bind fun v => (rd ((cfe w).2.1 5) 70 v.toInt32).bind fun a => (rd ((cfe w).2.1 5) 70 z.1).bind fun b =>
  some (.inl (v.toInt32, z.2.1 + (if b ≤ a then 0 else 1), z.2.2 + 1))
noncomputable def fC_nears (w : CW) (x1 x2 x3 : Int32) : Option (Int32 × CW) :=
  (fC_walkIn w x1 x2 x3).bind fun q => match q with
    | .inl b => fC_no w b
    | .inr u => (fF_spreads (cfe w) ((cfe w).1 7)).bind fun f => (rd ((cfe (cnf w f)).2.1 2) 4 x3).bind fun at0 => (lp (fC_nears_L50 (0, u) (cnf w f)) (at0, 0, 0)).bind fun r => some (r, cnf w f)
noncomputable def fC_done_J36 (w : CW) (x3 v : Int32) : Option (Int32 × CW) :=
  (fF_stands (cfe w) x3 v 0).bind fun f => some (v, cnf w f)
noncomputable def fC_done (w : CW) (x1 x2 x3 : Int32) : Option (Int32 × CW) :=
  (fC_walkIn w x1 x2 x3).bind fun q => match q with
    | .inl b => fC_no w b
    | .inr u => if nI u.1 = 0 then ((rd ((cfe w).2.1 2) 4 x3).bind fun v => fC_done_J36 w x3 v) else ((rd u.2 u.1 (nI u.1 - 1)).bind fun v => fC_done_J36 w x3 v.toInt32)
theorem fi_any {u : Nat} {v : Nat × (Nat → Int64)} : fC_where_L44 (u, v) = fC_where_L44 (0, v) := rfl
theorem ne_any {u : Nat} {v : Nat × (Nat → Int64)} : fC_nears_L50 (u, v) = fC_nears_L50 (0, v) := rfl
theorem my_any {u : Nat} {v : Nat × (Nat → Int64)} : fC_many (u, v) = fC_many (0, v) := rfl
theorem no_any {u : Nat} {v : Nat × (Nat → Int64)} : fC_nextOf (u, v) = fC_nextOf (0, v) := rfl
theorem fo_any {u : Nat} {v : Nat × (Nat → Int64)} : fC_falseOf (u, v) = fC_falseOf (0, v) := rfl
section WH2
variable {p : Program} {l : Launch} {e : Env} {R : Room} {s : State} {m : MethodId} {args : Array Value} {below : List Frame} {meth : Method} {c : Code} {H : Heap} {locs : List Loc} {cells slots : Nat} {Q : State → Prop} {X : CX} {rest : va_W} {ca fa : Nat → Nat}
set_option maxHeartbeats 4000000 in
theorem vC_where_L44 (B : CallFix p m c cX0_where 7 s args lw_all RX0) (hK : KK X s) {pr : Nat × Nat × (Nat → Int64)} (hR : 8 ≤ R.frames ∧ 174 ≤ R.locals) (hcs : cells ≤ R.cells ∧ slots ≤ R.slots) {res : Option Int32 × CW} {z : CW × Int32 × Int32} (hf : lp (fC_where_L44 pr) z = some res)
    (k69 : ∀ v, res.1 = some v → ∀ (H : Heap) (locs : List Loc), GG X (CP X ca fa res.2 ++ (LC X pr :: rest)) s.heap H locs → ∀ ls : Array Slot, W p l e R s m args below meth c H locs cells slots Q (F0 m 69 ls [.int v]))
    (k87 : res.1 = none → ∀ (H : Heap) (locs : List Loc), GG X (CP X ca fa res.2 ++ (LC X pr :: rest)) s.heap H locs → ∀ ls : Array Slot, lv_has ls 7 [(0, .ref (ca 0))] → W p l e R s m args below meth c H locs cells slots Q (F0 m 87 ls [])) {H : Heap} {locs : List Loc} (hG : GG X (CP X ca fa z.1 ++ (LC X pr :: rest)) s.heap H locs) {ls : Array Slot} (hl : lv_has ls 7 [(0, .ref (ca 0)), (4, .ref pr.1), (5, .int z.2.1), (6, .int z.2.2)]) : W p l e R s m args below meth c H locs cells slots Q (F0 m 44 ls []) := by
  have hx := B.1
  have hb := B.2.1
  have step : ∀ (z : CW × Int32 × Int32) (r : (CW × Int32 × Int32) ⊕ (Option Int32 × CW)), fC_where_L44 pr z = some r → (∀ y : CW × Int32 × Int32, r = .inl y → ∀ (H : Heap) (locs : List Loc), GG X (CP X ca fa y.1 ++ (LC X pr :: rest)) s.heap H locs → ∀ ls : Array Slot, lv_has ls 7 [(0, .ref (ca 0)), (4, .ref pr.1), (5, .int y.2.1), (6, .int y.2.2)] → W p l e R s m args below meth c H locs cells slots Q (F0 m 44 ls [])) →
      (∀ (v : Int32) (w : CW), r = .inr (some v, w) → ∀ (H : Heap) (locs : List Loc), GG X (CP X ca fa w ++ (LC X pr :: rest)) s.heap H locs → ∀ ls : Array Slot, W p l e R s m args below meth c H locs cells slots Q (F0 m 69 ls [.int v])) →
      (∀ w : CW, r = .inr (none, w) → ∀ (H : Heap) (locs : List Loc), GG X (CP X ca fa w ++ (LC X pr :: rest)) s.heap H locs → ∀ ls : Array Slot, lv_has ls 7 [(0, .ref (ca 0))] → W p l e R s m args below meth c H locs cells slots Q (F0 m 87 ls [])) →
      ∀ (H : Heap) (locs : List Loc), GG X (CP X ca fa z.1 ++ (LC X pr :: rest)) s.heap H locs → ∀ ls : Array Slot, lv_has ls 7 [(0, .ref (ca 0)), (4, .ref pr.1), (5, .int z.2.1), (6, .int z.2.2)] → W p l e R s m args below meth c H locs cells slots Q (F0 m 44 ls []) := by
    intro z r hf kc kv kn H locs hG ls hl
    obtain ⟨w, x5, x6⟩ := z
    unfold fC_where_L44 at hf
    refine lv_iload hx hb dX0_where_44 (lv_at hl 3 rfl) ?_
    refine lv_iconst (v := (-1)) hx hb dX0_where_46 (by decide) ?_
    refine lv_icmp_eq (tgt := 87) hx hb dX0_where_47 (by decide) (fun c_1 => kn w (Option.some.inj (ifp c_1 hf)).symm H locs hG ls (lv_sub hl [0] rfl)) (fun c_1 => ?_)
    have hf := ifn c_1 hf
    obtain ⟨a, w1, e_1, hf⟩ := b2s hf
    refine lv_aload_n hx hb dX0_where_50 rfl (lv_at hl 0 rfl) ?_
    refine lv_aload hx hb dX0_where_51 (lv_at hl 1 rfl) ?_
    refine lv_iload hx hb dX0_where_53 (lv_at hl 3 rfl) ?_
    refine lv_iconst (v := (-1)) hx hb dX0_where_55 (by decide) ?_
    refine cC_fits B hK hG e_1 rfl hR hcs hl.1 (Nat.le_of_ble_eq_true rfl) dX0_where_56 (fun H locs hG => ?_)
    have nxt : ∀ (x5 : Int32) (ls : Array Slot), lv_has ls 7 [(0, .ref (ca 0)), (4, .ref pr.1), (5, .int x5), (6, .int x6)] → ((fF_next (cfe w1) x6).bind fun c => some (Sum.inl (w1, x5, c))) = some r → W p l e R s m args below meth c H locs cells slots Q (F0 m 73 ls []) := by
      intro x5 ls hl hf
      obtain ⟨c9, e_2, hf⟩ := bo hf
      refine lv_aload_n hx hb dX0_where_73 rfl (lv_at hl 0 rfl) ?_
      refine co_this_g0 B hK hG.1 dX0_where_74 ?_
      refine lv_iload hx hb dX0_where_77 (lv_at hl 3 rfl) ?_
      refine cCF_next B hK hG.2.2 hG.1 e_2 ⟨Nat.le_trans (by decide) hR.1, Nat.le_trans (by decide) hR.2⟩ hcs hl.1 (Nat.le_of_ble_eq_true rfl) dX0_where_79 ?_
      refine lv_istore hx hb dX0_where_82 hl (by decide) rfl (fun ls hl => ?_)
      refine lv_goto (tgt := 44) hx hb dX0_where_84 (by decide) ?_
      exact kc (w1, x5, c9) (Option.some.inj hf).symm H locs hG ls (lv_sub hl [1, 2, 3, 0] rfl)
    refine lv_if_eq (tgt := 73) hx hb dX0_where_59 (by decide) (fun c_2 => nxt x5 ls hl (ifp c_2 hf)) (fun c_2 => ?_)
    have hf := ifn c_2 hf
    refine lv_iload hx hb dX0_where_62 (lv_at hl 2 rfl) ?_
    refine lv_if_ne (tgt := 70) hx hb dX0_where_64 (by decide) (fun c_3 => ?_) (fun c_3 => ?_)
    · have hf := ifn c_3 hf
      refine w_iinc (z := x5 + Int32.ofInt (-1)) (lv' := [(5, .int (x5 + Int32.ofInt (-1))), (0, .ref (ca 0)), (4, .ref pr.1), (6, .int x6)]) rfl hx hb dX0_where_70 hl (k := 2) rfl (by decide) rfl (fun ls hl => ?_)
      exact nxt (x5 + Int32.ofInt (-1)) ls (lv_sub hl [1, 2, 0, 3] rfl) hf
    · have hf := ifp c_3 hf
      refine lv_iload hx hb dX0_where_67 (lv_at hl 3 rfl) ?_
      exact kv x6 w1 (Option.some.inj hf).symm H locs hG ls
  refine lp_ind (r := res) (P := fun z : CW × Int32 × Int32 => ∀ (H : Heap) (locs : List Loc), GG X (CP X ca fa z.1 ++ (LC X pr :: rest)) s.heap H locs → ∀ (ls : Array Slot), lv_has ls 7 [(0, .ref (ca 0)), (4, .ref pr.1), (5, .int z.2.1), (6, .int z.2.2)] → W p l e R s m args below meth c H locs cells slots Q (F0 m 44 ls [])) ?_ ?_ _ hf _ _ hG _ hl
  · intro q hb H locs hG ls hl
    refine step q _ hb (fun _ h => by cases h) (fun v w h => ?_) (fun w h => ?_) H locs hG ls hl
    · have h := Sum.inr.inj h
      rw [h] at k69
      exact k69 v rfl
    · have h := Sum.inr.inj h
      rw [h] at k87
      exact k87 rfl
  · intro q q2 hb ih H locs hG ls hl
    exact step q _ hb (fun y h => by cases h; exact ih) (fun _ _ h => by cases h) (fun _ h => by cases h) H locs hG ls hl
set_option maxHeartbeats 4000000 in
theorem vC_nears_L50 (B : CallFix p m c cX0_nears 12 s args lw_all RX0) (hK : KK X s) {w : CW} {pr : Nat × Nat × (Nat → Int64)} {H : Heap} {locs : List Loc} (hG : GG X (CP X ca fa w ++ (LC X pr :: rest)) s.heap H locs) {res : Int32} {z : Int32 × Int32 × Int32} (hf : lp (fC_nears_L50 pr w) z = some res)
    (k109 : ∀ ls : Array Slot, lv_has ls 12 [(6, .int res)] → W p l e R s m args below meth c H locs cells slots Q (F0 m 109 ls [])) {ls : Array Slot} (hl : lv_has ls 12 [(0, .ref (ca 0)), (5, .int z.1), (6, .int z.2.1), (9, .int z.2.2), (7, .ref pr.1), (8, .int (nI pr.2.1))]) : W p l e R s m args below meth c H locs cells slots Q (F0 m 50 ls []) := by
  have hx := B.1
  have hb := B.2.1
  have step : ∀ (z : Int32 × Int32 × Int32) (r : (Int32 × Int32 × Int32) ⊕ Int32), fC_nears_L50 pr w z = some r → (∀ y : Int32 × Int32 × Int32, r = .inl y → ∀ ls : Array Slot, lv_has ls 12 [(0, .ref (ca 0)), (5, .int y.1), (6, .int y.2.1), (9, .int y.2.2), (7, .ref pr.1), (8, .int (nI pr.2.1))] → W p l e R s m args below meth c H locs cells slots Q (F0 m 50 ls [])) →
      (∀ v : Int32, r = .inr v → ∀ ls : Array Slot, lv_has ls 12 [(6, .int v)] → W p l e R s m args below meth c H locs cells slots Q (F0 m 109 ls [])) → ∀ ls : Array Slot, lv_has ls 12 [(0, .ref (ca 0)), (5, .int z.1), (6, .int z.2.1), (9, .int z.2.2), (7, .ref pr.1), (8, .int (nI pr.2.1))] → W p l e R s m args below meth c H locs cells slots Q (F0 m 50 ls []) := by
    intro z r hf kc kv ls hl
    obtain ⟨x5, x6, x9⟩ := z
    unfold fC_nears_L50 at hf
    refine lv_iload hx hb dX0_nears_50 (lv_at hl 3 rfl) ?_
    refine lv_iload hx hb dX0_nears_52 (lv_at hl 5 rfl) ?_
    refine lv_icmp_ge (tgt := 109) hx hb dX0_nears_54 (by decide) (fun c_1 => kv _ (Option.some.inj (ifp c_1 hf)).symm ls (lv_sub hl [2] rfl)) (fun c_1 => ?_)
    have hf := ifn c_1 hf
    obtain ⟨v, e_1, hf⟩ := bo hf
    obtain ⟨a, e_2, hf⟩ := bo hf
    obtain ⟨b, e_3, hf⟩ := bo hf
    refine lv_aload hx hb dX0_nears_57 (lv_at hl 4 rfl) ?_
    refine lv_iload hx hb dX0_nears_59 (lv_at hl 3 rfl) ?_
    refine co_pr_l B hK hG.1 e_1 dX0_nears_61 ?_
    refine lv_lstore hx hb dX0_nears_62 hl (by decide) rfl (fun ls hl => ?_)
    refine lv_iload hx hb dX0_nears_64 (lv_at hl 3 rfl) ?_
    refine lv_aload_n hx hb dX0_nears_66 rfl (lv_at hl 1 rfl) ?_
    refine co_this_g0 B hK hG.1 dX0_nears_67 ?_
    refine co_fen_g5 B hK hG.1 dX0_nears_70 ?_
    refine lv_lload hx hb dX0_nears_73 (lv_at hl 0 rfl) ?_
    refine lv_l2i hx hb dX0_nears_75 rfl ?_
    refine co_away_l B hK hG.1 e_2 dX0_nears_76 ?_
    refine lv_aload_n hx hb dX0_nears_77 rfl (lv_at hl 1 rfl) ?_
    refine co_this_g0 B hK hG.1 dX0_nears_78 ?_
    refine co_fen_g5 B hK hG.1 dX0_nears_81 ?_
    refine lv_iload hx hb dX0_nears_84 (lv_at hl 2 rfl) ?_
    refine co_away_l B hK hG.1 e_3 dX0_nears_86 ?_
    have nxt : ∀ (t : Int32), (if b ≤ a then 0 else 1) = t → W p l e R s m args below meth c H locs cells slots Q (F0 m 95 ls [.int t, .int x6]) := by
      intro t ht
      rw [ht] at hf
      refine lv_iadd hx hb dX0_nears_95 ?_
      refine lv_istore hx hb dX0_nears_96 hl (by decide) rfl (fun ls hl => ?_)
      refine lv_lload hx hb dX0_nears_98 (lv_at hl 1 rfl) ?_
      refine lv_l2i hx hb dX0_nears_100 rfl ?_
      refine lv_istore hx hb dX0_nears_101 hl (by decide) rfl (fun ls hl => ?_)
      refine w_iinc (z := x9 + 1) (lv' := [(9, .int (x9 + 1)), (5, .int v.toInt32), (6, .int (x6 + t)), (10, .long v), (0, .ref (ca 0)), (7, .ref pr.1), (8, .int (nI pr.2.1))]) rfl hx hb dX0_nears_103 hl (k := 4) rfl (by decide) rfl (fun ls hl => ?_)
      refine lv_goto (tgt := 50) hx hb dX0_nears_106 (by decide) ?_
      exact kc (v.toInt32, x6 + t, x9 + 1) (Option.some.inj hf).symm ls (lv_sub hl [4, 1, 2, 0, 5, 6] rfl)
    refine lv_icmp_ge (tgt := 94) hx hb dX0_nears_87 (by decide) (fun c_2 => ?_) (fun c_2 => ?_)
    · refine lv_iconst (v := 0) hx hb dX0_nears_94 (by decide) ?_
      exact nxt 0 (if_pos c_2)
    · refine lv_iconst (v := 1) hx hb dX0_nears_90 (by decide) ?_
      refine lv_goto (tgt := 95) hx hb dX0_nears_91 (by decide) ?_
      exact nxt 1 (if_neg c_2)
  refine lp_ind (r := res) (P := fun z : Int32 × Int32 × Int32 => ∀ (ls : Array Slot), lv_has ls 12 [(0, .ref (ca 0)), (5, .int z.1), (6, .int z.2.1), (9, .int z.2.2), (7, .ref pr.1), (8, .int (nI pr.2.1))] → W p l e R s m args below meth c H locs cells slots Q (F0 m 50 ls [])) ?_ ?_ _ hf _ hl
  · intro q hb ls hl
    exact step q _ hb (fun _ h => by cases h) (fun v h => by rw [← Sum.inr.inj h]; exact k109) ls hl
  · intro q q2 hb ih ls hl
    exact step q _ hb (fun y h => by cases h; exact ih) (fun _ h => by cases h) ls hl
end WH2
