set_option maxRecDepth 100000
/-! what is on a shelf as a row; entries of tables; a virtual call that throws -/
def fC_rowIn (w : CW) (x1 : Int32) : Option (Int32 ⊕ RV) :=
  (inb 8 x1).bind fun _ => hc3 (chd w x1.toNatClampNeg) (some (.inl (-4))) (fun P => (inL (cpl w) P).bind fun _ => some (.inl (-3))) (fun r => some (.inr r))
theorem rowIn_r {w : CW} {x1 : Int32} {r : RV} (h : fC_rowIn w x1 = some (.inr r)) : inb 8 x1 = some () ∧ chd w x1.toNatClampNeg = some (.inr r) := by
  unfold fC_rowIn at h
  obtain ⟨u, h1, h2⟩ := bo h
  refine ⟨h1, ?_⟩
  match hh : chd w x1.toNatClampNeg, h2 with
  | none, h2 => simp [hc3, hh] at h2
  | some (.inl P), h2 =>
    simp only [hc3, hh] at h2
    obtain ⟨u2, h3, h4⟩ := bo h2
    cases h4
  | some (.inr k), h2 =>
    simp only [hc3, hh] at h2
    cases h2
    rfl
section RI1
variable {p : Program} {l : Launch} {e : Env} {R : Room} {s : State} {m : MethodId} {args : Array Value} {below : List Frame} {meth : Method} {c : Code} {H : Heap} {locs : List Loc} {cells slots : Nat} {Q : State → Prop} {cc : ByteArray} {nL pc : Nat} {ls : Array Slot} {st st0 : List Value} {X : CX} {ws rest : va_W} {own : String}
theorem w_rV_TX {S : Type} {y : MethodName} {code : ByteArray} {nl fr mc ms lo index n : Nat} {ret : Option FieldType} {post : Nat → Heap → S → Prop} {wsOf : S → va_W} {As : List Value} {C : String} {T : u_T} {N ci b : Nat} {fs : List Value} (B : CallFix p m c cc nL s args lw_all own) (hK : KK X s) (hG : GG X ws s.heap H locs) (hM : TX l y code nl ret fr mc ms lo (.ref b :: As) X ws post wsOf) (hT : GoodIn lw_all (wsV own index C y (ws_ y code nl ret))) (q0 : Nat) (hc : vwCl[ci]? = some (C, T, N)) (he : ws[q0]? = some (b, .inr (ci, fs)))
    (hd : y.cls = C ∧ y.cls ≠ "java/lang/invoke/MethodHandle" ∧ y.cls ≠ "java/lang/invoke/VarHandle" ∧ (parseMethodDescriptor y.desc).map (fun d => d.parameters.length) = some n) (hR : fr + 1 ≤ R.frames ∧ 8 + (nl + 11) + lo ≤ R.locals) (hcs : cells + mc ≤ R.cells ∧ slots + ms ≤ R.slots) (hn : As.length = n) (hsz : ls.size = nL) (hst : st0 = As.reverse ++ .ref b :: st) (hcat : (st.map fun v => v.category).sum ≤ 8)
    (hdg : decode cc pc = .ok (.invokevirtual index, 3)) : va_RunT p l e R s m args below meth c H locs cells slots mc ms (F0 m pc ls st0) st (QT X post wsOf (Value.ref b :: As).toArray) (Az X) :=
  runVT B hM (cwV n B.2.2.2.2 hT rfl rfl rfl hd hR) ⟨fun _ _ _ _ q => q, va_recv hK.k hG.1 hc he, fun U hU hW => ⟨rfl, hK.step hG.2.2 hU hW, by rw [hU]; exact hG.1, hG.2.1⟩⟩ rfl hn hsz hst (lv_room hcat) hdg hcs
/-- the first entry takes it -/
theorem w_catchA (B : CallFix p m c cc nL s args lw_all own) (hK : KK X s) {cls name : String} {x a b h ct : Nat} {L : List (Nat × Nat × Nat × Nat)} (htab : c.exceptionTable.toList.map (fun h => (h.startPc, h.endPc, h.handlerPc, h.catchType)) = (a, b, h, ct) :: L) (hct : ct ≠ 0) (hin : a ≤ pc ∧ pc < b) (hlink : Cond.classLink own ct name ∈ lw_all) (hex : ExC s cls x H) (hcast : Cond.castable cls name ∈ lw_tbl) {N : Nat} (hI : Cond.instantiable cls N ∈ lw_all)
    (kk : W p l e R s m args below meth c H locs cells slots Q (F0 m h ls [.ref x])) : WX p l e R s m args below meth c H locs cells slots Q x (F0 m pc ls st) := by
  intro T0 hT0 X0
  obtain ⟨z, t, hz, hz2, -⟩ := List.map_eq_cons_iff.mp htab
  obtain ⟨ce, hce, hvm, hfc⟩ := hex
  obtain ⟨e1, e2, e3, e4⟩ := (show z.startPc = a ∧ z.endPc = b ∧ z.handlerPc = h ∧ z.catchType = ct by
    have := hz2
    simp only [Prod.mk.injEq] at this
    exact this)
  refine WX.takes (pc2 := h) (fun T hT hW => ?_) kk T0 hT0 X0
  obtain ⟨ca, cb, hca, hcb, hasg⟩ := Cond.castable_spec (show (Cond.castable cls name).before #[] s = true from hK.castB hcast)
  cases Option.some.inj (hca.symm.trans hfc)
  have hkc : ∃ k, s.vm.classes[ce.cls]? = some k := by
    obtain ⟨c1, k, hc1, hk1, -⟩ := Cond.instantiable_spec (B.2.2.2.2 _ hI)
    cases Option.some.inj (hc1.symm.trans hfc)
    exact ⟨k, hk1⟩
  obtain ⟨w1, w2, w3⟩ := goTo_link (m := m) (x := z) (f := F0 m pc ls st) X0.admits B.2.2.2.1 (by rw [e4]; exact hct) (by rw [e4]; exact B.2.2.2.2 _ hlink) hW hcb (a := x) (by rw [hT]; exact hce) (by rw [hvm]; rfl) hkc rfl (by
    simp only [covers, e1, e2, F0]
    simp [hin.1, hin.2])
  rw [hz, ← e3]
  exact ⟨_, w1, w2 t hasg⟩
/-- the first entry lets it pass, the second takes it -/
theorem w_catchB (B : CallFix p m c cc nL s args lw_all own) (hK : KK X s) {cls name1 name : String} {x a1 b1 h1 ct1 a b h ct : Nat} {L : List (Nat × Nat × Nat × Nat)} (htab : c.exceptionTable.toList.map (fun h => (h.startPc, h.endPc, h.handlerPc, h.catchType)) = (a1, b1, h1, ct1) :: (a, b, h, ct) :: L) (hct1 : ct1 ≠ 0) (hin1 : a1 ≤ pc ∧ pc < b1) (hlink1 : Cond.classLink own ct1 name1 ∈ lw_all) (hno : va_Nc cls name1 s) (hct : ct ≠ 0) (hin : a ≤ pc ∧ pc < b) (hlink : Cond.classLink own ct name ∈ lw_all) (hex : ExC s cls x H) (hcast : Cond.castable cls name ∈ lw_tbl) {N : Nat} (hI : Cond.instantiable cls N ∈ lw_all)
    (kk : W p l e R s m args below meth c H locs cells slots Q (F0 m h ls [.ref x])) : WX p l e R s m args below meth c H locs cells slots Q x (F0 m pc ls st) := by
  intro T0 hT0 X0
  obtain ⟨z1, t1, hz1, hy1, htl⟩ := List.map_eq_cons_iff.mp htab
  obtain ⟨z, t, hz, hz2, -⟩ := List.map_eq_cons_iff.mp htl
  obtain ⟨ce, hce, hvm, hfc⟩ := hex
  simp only [Prod.mk.injEq] at hz2 hy1
  obtain ⟨e1, e2, e3, e4⟩ := hz2
  obtain ⟨g1, g2, g3, g4⟩ := hy1
  refine WX.takes (pc2 := h) (fun T hT hW => ?_) kk T0 hT0 X0
  obtain ⟨ca, cb, hca, hcb, hasg⟩ := Cond.castable_spec (show (Cond.castable cls name).before #[] s = true from hK.castB hcast)
  cases Option.some.inj (hca.symm.trans hfc)
  obtain ⟨n1, n2, hn1, hn2, hnas⟩ := hno
  cases Option.some.inj (hn1.symm.trans hfc)
  have hkc : ∃ k, s.vm.classes[ce.cls]? = some k := by
    obtain ⟨c1, k, hc1, hk1, -⟩ := Cond.instantiable_spec (B.2.2.2.2 _ hI)
    cases Option.some.inj (hc1.symm.trans hfc)
    exact ⟨k, hk1⟩
  obtain ⟨v1, v2, v3⟩ := goTo_link (m := m) (x := z1) (f := F0 m pc ls st) X0.admits B.2.2.2.1 (by rw [g4]; exact hct1) (by rw [g4]; exact B.2.2.2.2 _ hlink1) hW hn2 (a := x) (by rw [hT]; exact hce) (by rw [hvm]; rfl) hkc rfl (by
    simp only [covers, g1, g2, F0]
    simp [hin1.1, hin1.2])
  obtain ⟨w1, w2, w3⟩ := goTo_link (m := m) (x := z) (f := F0 m pc ls st) (U := T.setVm (T.vm.noted m.cls z1.catchType (.cls n2))) X0.admits B.2.2.2.1 (by rw [e4]; exact hct) (by rw [e4]; exact B.2.2.2.2 _ hlink) v1 hcb (a := x) (by show T.heap[x]? = _; rw [hT]; exact hce) (by rw [hvm]; rfl) hkc rfl (by
    simp only [covers, e1, e2, F0]
    simp [hin.1, hin.2])
  rw [hz1, hz, ← e3]
  exact ⟨_, w1, v3 _ _ _ hnas (w2 t hasg)⟩
/-- two entries let it pass, the third takes it -/
theorem w_catchC (B : CallFix p m c cc nL s args lw_all own) (hK : KK X s) {cls name1 name0 name : String} {x a0 b0 h0 ct0 a1 b1 h1 ct1 a b h ct : Nat} {L : List (Nat × Nat × Nat × Nat)} (htab : c.exceptionTable.toList.map (fun h => (h.startPc, h.endPc, h.handlerPc, h.catchType)) = (a0, b0, h0, ct0) :: (a1, b1, h1, ct1) :: (a, b, h, ct) :: L) (hct0 : ct0 ≠ 0) (hin0 : a0 ≤ pc ∧ pc < b0) (hlink0 : Cond.classLink own ct0 name0 ∈ lw_all) (hno0 : va_Nc cls name0 s) (hct1 : ct1 ≠ 0) (hin1 : a1 ≤ pc ∧ pc < b1) (hlink1 : Cond.classLink own ct1 name1 ∈ lw_all) (hno : va_Nc cls name1 s) (hct : ct ≠ 0) (hin : a ≤ pc ∧ pc < b) (hlink : Cond.classLink own ct name ∈ lw_all) (hex : ExC s cls x H) (hcast : Cond.castable cls name ∈ lw_tbl) {N : Nat} (hI : Cond.instantiable cls N ∈ lw_all)
    (kk : W p l e R s m args below meth c H locs cells slots Q (F0 m h ls [.ref x])) : WX p l e R s m args below meth c H locs cells slots Q x (F0 m pc ls st) := by
  intro T0 hT0 X0
  obtain ⟨z0, t0, hz0, hy0, htl0⟩ := List.map_eq_cons_iff.mp htab
  obtain ⟨z1, t1, hz1, hy1, htl⟩ := List.map_eq_cons_iff.mp htl0
  obtain ⟨z, t, hz, hz2, -⟩ := List.map_eq_cons_iff.mp htl
  obtain ⟨ce, hce, hvm, hfc⟩ := hex
  simp only [Prod.mk.injEq] at hz2 hy1 hy0
  obtain ⟨e1, e2, e3, e4⟩ := hz2
  obtain ⟨g1, g2, g3, g4⟩ := hy1
  obtain ⟨f1, f2, f3, f4⟩ := hy0
  refine WX.takes (pc2 := h) (fun T hT hW => ?_) kk T0 hT0 X0
  obtain ⟨ca, cb, hca, hcb, hasg⟩ := Cond.castable_spec (show (Cond.castable cls name).before #[] s = true from hK.castB hcast)
  cases Option.some.inj (hca.symm.trans hfc)
  obtain ⟨n1, n2, hn1, hn2, hnas⟩ := hno
  cases Option.some.inj (hn1.symm.trans hfc)
  obtain ⟨n3, n4, hn3, hn4, hnas0⟩ := hno0
  cases Option.some.inj (hn3.symm.trans hfc)
  have hkc : ∃ k, s.vm.classes[ce.cls]? = some k := by
    obtain ⟨c1, k, hc1, hk1, -⟩ := Cond.instantiable_spec (B.2.2.2.2 _ hI)
    cases Option.some.inj (hc1.symm.trans hfc)
    exact ⟨k, hk1⟩
  obtain ⟨u1, u2, u3⟩ := goTo_link (m := m) (x := z0) (f := F0 m pc ls st) X0.admits B.2.2.2.1 (by rw [f4]; exact hct0) (by rw [f4]; exact B.2.2.2.2 _ hlink0) hW hn4 (a := x) (by rw [hT]; exact hce) (by rw [hvm]; rfl) hkc rfl (by
    simp only [covers, f1, f2, F0]
    simp [hin0.1, hin0.2])
  obtain ⟨v1, v2, v3⟩ := goTo_link (m := m) (x := z1) (f := F0 m pc ls st) (U := T.setVm (T.vm.noted m.cls z0.catchType (.cls n4))) X0.admits B.2.2.2.1 (by rw [g4]; exact hct1) (by rw [g4]; exact B.2.2.2.2 _ hlink1) u1 hn2 (a := x) (by show T.heap[x]? = _; rw [hT]; exact hce) (by rw [hvm]; rfl) hkc rfl (by
    simp only [covers, g1, g2, F0]
    simp [hin1.1, hin1.2])
  obtain ⟨w1, w2, w3⟩ := goTo_link (m := m) (x := z) (f := F0 m pc ls st) (U := (T.setVm (T.vm.noted m.cls z0.catchType (.cls n4))).setVm ((T.setVm (T.vm.noted m.cls z0.catchType (.cls n4))).vm.noted m.cls z1.catchType (.cls n2))) X0.admits B.2.2.2.1 (by rw [e4]; exact hct) (by rw [e4]; exact B.2.2.2.2 _ hlink) v1 hcb (a := x) (by show T.heap[x]? = _; rw [hT]; exact hce) (by rw [hvm]; rfl) hkc rfl (by
    simp only [covers, e1, e2, F0]
    simp [hin.1, hin.2])
  rw [hz0, hz1, hz, ← e3]
  exact ⟨_, w1, u3 _ _ _ hnas0 (v3 _ _ _ hnas (w2 t hasg))⟩
end RI1
theorem tC_rowIn (l : Launch) (X : CX) (ca fa : Nat → Nat) (rest : va_W) (w : CW) (x1 : Int32) (r : RV) (hf : fC_rowIn w x1 = some (.inr r)) : RO l yX0_rowIn cX0_rowIn 3 (some (.object "java/lang/Object")) 0 0 [.ref (ca 0), .int x1] X (CP X ca fa w ++ rest) (some (.ref r.1)) := by
  refine RO.mk (by decide) (Nat.le_of_ble_eq_true rfl) ?_
  intro p e s m below meth c B hr hlk hK hP ls hl
  have hx := B.1
  have hb := B.2.1
  have hl : lv_has ls 3 [(0, .ref (ca 0)), (1, .int x1)] := hl
  obtain ⟨hu, hh⟩ := rowIn_r hf
  refine lv_aload_n hx hb dX0_rowIn_0 rfl (lv_at hl 0 rfl) ?_
  refine co_this_g4 B hK hP dX0_rowIn_1 ?_
  refine lv_iload_n hx hb dX0_rowIn_4 rfl (lv_at hl 1 rfl) ?_
  refine co_sh_l B hK hP hu dX0_rowIn_5 ?_
  refine co_held B hK hP hu hh dX0_rowIn_6 ?_
  refine lv_astore_n hx hb dX0_rowIn_9 rfl hl (by decide) rfl (fun ls hl => ?_)
  refine lv_aload_n hx hb dX0_rowIn_10 rfl (lv_at hl 0 rfl) ?_
  refine w_instRow B hK hP (cp_row (vp_lt (inb_in hu)) hh) dX0_rowIn_11 ?_
  refine lv_if_eq (tgt := 27) hx hb dX0_rowIn_14 (by decide) (fun _ => ?_) (fun h => absurd rfl h)
  refine lv_aload_n hx hb dX0_rowIn_27 rfl (lv_at hl 0 rfl) ?_
  refine lv_ifnonnull (tgt := 41) hx hb dX0_rowIn_28 (by decide) ?_
  refine lv_aload_n hx hb dX0_rowIn_41 rfl (lv_at hl 0 rfl) ?_
  exact W.aret B.1 B.2.1 hr (Or.inl ⟨_, rfl⟩) (Or.inr ⟨_, rfl⟩) (fun t ht _ => ⟨rfl, ht⟩) (fun q h => by cases h) dX0_rowIn_42 (hlocks := hlk)
theorem tC_rowIn_x (l : Launch) (X : CX) (ca fa : Nat → Nat) (rest : va_W) (w : CW) (x1 : Int32) (b : Int32) (hf : fC_rowIn w x1 = some (.inl b)) : TX l yX0_rowIn cX0_rowIn 3 (some (.object "java/lang/Object")) 5 1 7 113 [.ref (ca 0), .int x1] X (CP X ca fa w ++ rest) (fun x H (u : Nat) => x = u ∧ ExC X.1 RX5 x H) (fun u => XC u b :: (CP X ca fa w ++ rest)) := by
  refine TX.mk (by decide) (Nat.le_of_ble_eq_true rfl) ?_
  intro p e s m below meth c B hlk htab hK hG ls hl
  have hx := B.1
  have hb := B.2.1
  have hl : lv_has ls 3 [(0, .ref (ca 0)), (1, .int x1)] := hl
  unfold fC_rowIn at hf
  obtain ⟨u, hu, hf⟩ := bo hf
  refine lv_aload_n hx hb dX0_rowIn_0 rfl (lv_at hl 0 rfl) ?_
  refine co_this_g4 B hK hG.1 dX0_rowIn_1 ?_
  refine lv_iload_n hx hb dX0_rowIn_4 rfl (lv_at hl 1 rfl) ?_
  refine co_sh_l B hK hG.1 hu dX0_rowIn_5 ?_
  match hh : chd w x1.toNatClampNeg, hf with
  | none, hf =>
    cases Option.some.inj (hc3_0 hf)
    refine co_held B hK hG.1 hu hh dX0_rowIn_6 ?_
    refine lv_astore_nN hx hb dX0_rowIn_9 rfl hl (by decide) rfl (fun ls hl => ?_)
    refine lv_aload_nN hx hb dX0_rowIn_10 rfl (lv_at hl 0 rfl) ?_
    refine lv_instN hx hb dX0_rowIn_11 ?_
    refine lv_if_eq (tgt := 27) hx hb dX0_rowIn_14 (by decide) (fun _ => ?_) (fun h => absurd rfl h)
    refine lv_aload_nN hx hb dX0_rowIn_27 rfl (lv_at hl 0 rfl) ?_
    refine lv_ifnonnullN hx hb dX0_rowIn_28 ?_
    exact w_refuse (x := -4) B hK hG hl.1 (by decide) (Nat.le_of_ble_eq_true rfl) (Nat.le_of_ble_eq_true rfl) ⟨Nat.le_of_ble_eq_true rfl, Nat.le_of_ble_eq_true rfl⟩ dX0_rowIn_31 dX0_rowIn_34 dX0_rowIn_35 dX0_rowIn_37 dX0_rowIn_40 (fun q H1 locs1 hG1 hE => w_leaveT q ⟨rfl, hE.at0 hK⟩ hG1 htab hlk)
  | some (.inl P), hf =>
    obtain ⟨u2, h3, h4⟩ := bo (hc3_1 hf)
    cases Option.some.inj h4
    refine co_held B hK hG.1 hu hh dX0_rowIn_6 ?_
    refine lv_astore_n hx hb dX0_rowIn_9 rfl hl (by decide) rfl (fun ls hl => ?_)
    refine lv_aload_n hx hb dX0_rowIn_10 rfl (lv_at hl 0 rfl) ?_
    refine w_instP B hK (cp_P (inL_in h3) hG.1) dX0_rowIn_11 ?_
    refine lv_if_eq (tgt := 27) hx hb dX0_rowIn_14 (by decide) (fun h => absurd h (by decide)) (fun _ => ?_)
    exact w_refuse (x := -3) B hK hG hl.1 (by decide) (Nat.le_of_ble_eq_true rfl) (Nat.le_of_ble_eq_true rfl) ⟨Nat.le_of_ble_eq_true rfl, Nat.le_of_ble_eq_true rfl⟩ dX0_rowIn_17 dX0_rowIn_20 dX0_rowIn_21 dX0_rowIn_23 dX0_rowIn_26 (fun q H1 locs1 hG1 hE => w_leaveT q ⟨rfl, hE.at0 hK⟩ hG1 htab hlk)
  | some (.inr k), hf =>
    have h9 : (some (Sum.inr k) : Option (Int32 ⊕ RV)) = some (.inl b) := hf
    cases h9
