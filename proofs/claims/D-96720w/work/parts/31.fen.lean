set_option maxRecDepth 100000
section S_F_isCell
variable {p : Program} {l : Launch} {e : Env} {R : Room} {s : State} {m : MethodId} {args : Array Value} {below : List Frame} {meth : Method} {c : Code} {H : Heap} {locs : List Loc} {cells slots : Nat} {Q : State → Prop} {cc : ByteArray} {nL pc : Nat} {ls : Array Slot} {st : List Value} {X : CX} {rest : va_W} {fa : Nat → Nat}
noncomputable def fF_isCell (w : FW) (x1 : Int64) : Option (Int32) :=
  if (lg_cmp x1 0) < 0 then
    some 0
  else
    if 0 ≤ (lg_cmp (x1 / 10) ((w.1 6).toInt64)) then
      some 0
    else
      if 0 ≤ (lg_cmp (lrem x1 10) ((w.1 6).toInt64)) then
        some 0
      else
        some 1

set_option maxHeartbeats 4000000 in
theorem wF_isCell (B : CallFix p m c cX1_isCell 3 s args lw_all RX1) (hK : KK X s) {w : FW} (hP : va_P X.2.2.1 vwCl (FP X fa w ++ rest) s.heap) {x1 : Int64} {res : Int32} (hf : fF_isCell w x1 = some res) (kr : ∀ (r : Int32), res = r → narrow .boolean (.int r) = .int r → ∀ (pc : Nat) (ls : Array Slot), decode cX1_isCell pc = .ok (.ireturn, 1) → W p l e (RM 0 0) s m args below meth c s.heap [] 0 0 Q (F0 m pc ls [.int r])) {ls : Array Slot} (hl : lv_has ls 3 [(0, .ref (fa 0)), (1, .long x1)]) : W p l e (RM 0 0) s m args below meth c s.heap [] 0 0 Q (F0 m 0 ls []) := by
  have hx := B.1
  have hb := B.2.1
  unfold fF_isCell at hf
  refine lv_lload_n hx hb dX1_isCell_0 rfl (lv_at hl 1 rfl) ?_
  refine lv_lconst (v := 0) hx hb dX1_isCell_1 (by decide) ?_
  refine W.lcmp hx hb dX1_isCell_2 ?_
  refine lv_if_lt (tgt := 38) hx hb dX1_isCell_3 (by decide) (fun c_1 => ?_) (fun c_1 => ?_)
  · have hf := ifp c_1 hf
    refine lv_iconst (v := 0) hx hb dX1_isCell_38 (by decide) ?_
    exact kr _ (Option.some.inj hf).symm (by decide) _ _ dX1_isCell_39
  · have hf := ifn c_1 hf
    refine lv_lload_n hx hb dX1_isCell_6 rfl (lv_at hl 1 rfl) ?_
    refine lv_ldc2 (v := 10) hx hb B.2.2.2.1 (B.2.2.2.2 _ q581) dX1_isCell_7 ?_
    refine lv_ldiv hx hb dX1_isCell_10 (by decide) ?_
    refine lv_aload_n hx hb dX1_isCell_11 rfl (lv_at hl 0 rfl) ?_
    refine fe_fen_g6 B hK hP dX1_isCell_12 ?_
    refine lv_i2l hx hb dX1_isCell_15 rfl ?_
    refine W.lcmp hx hb dX1_isCell_16 ?_
    refine lv_if_ge (tgt := 38) hx hb dX1_isCell_17 (by decide) (fun c_2 => ?_) (fun c_2 => ?_)
    · have hf := ifp c_2 hf
      refine lv_iconst (v := 0) hx hb dX1_isCell_38 (by decide) ?_
      exact kr _ (Option.some.inj hf).symm (by decide) _ _ dX1_isCell_39
    · have hf := ifn c_2 hf
      refine lv_lload_n hx hb dX1_isCell_20 rfl (lv_at hl 1 rfl) ?_
      refine lv_ldc2 (v := 10) hx hb B.2.2.2.1 (B.2.2.2.2 _ q581) dX1_isCell_21 ?_
      refine w_lrem hx hb dX1_isCell_24 (by decide) ?_
      refine lv_aload_n hx hb dX1_isCell_25 rfl (lv_at hl 0 rfl) ?_
      refine fe_fen_g6 B hK hP dX1_isCell_26 ?_
      refine lv_i2l hx hb dX1_isCell_29 rfl ?_
      refine W.lcmp hx hb dX1_isCell_30 ?_
      refine lv_if_ge (tgt := 38) hx hb dX1_isCell_31 (by decide) (fun c_3 => ?_) (fun c_3 => ?_)
      · have hf := ifp c_3 hf
        refine lv_iconst (v := 0) hx hb dX1_isCell_38 (by decide) ?_
        exact kr _ (Option.some.inj hf).symm (by decide) _ _ dX1_isCell_39
      · have hf := ifn c_3 hf
        refine lv_iconst (v := 1) hx hb dX1_isCell_34 (by decide) ?_
        refine lv_goto (tgt := 39) hx hb dX1_isCell_35 (by decide) ?_
        exact kr _ (Option.some.inj hf).symm (by decide) _ _ dX1_isCell_39

theorem tF_isCell (l : Launch) (X : CX) (fa : Nat → Nat) (rest : va_W) (w : FW) (x1 : Int64) (r : Int32) (hf : fF_isCell w x1 = some r) : RO l yX1_isCell cX1_isCell 3 (some .boolean) 0 0 [.ref (fa 0), .long x1] X (FP X fa w ++ rest) (some (.int r)) := by
  refine RO.mk (by decide) (Nat.le_of_ble_eq_true rfl) ?_
  intro p e s m below meth c B hr hlk hK hP ls hl
  exact wF_isCell B hK hP hf (fun r h hn pc ls hd => by cases h; exact w_zretR B hr hlk hn rfl hd) hl
end S_F_isCell

section K_cFC_has
variable {p : Program} {l : Launch} {e : Env} {R : Room} {s : State} {m : MethodId} {args : Array Value} {below : List Frame} {meth : Method} {c : Code} {H : Heap} {locs : List Loc} {cells slots : Nat} {Q : State → Prop} {cc : ByteArray} {nL pc : Nat} {ls : Array Slot} {st : List Value} {X : CX} {rest : va_W}
theorem cFC_has (B : CallFix p m c cc nL s args lw_all RX1) (hK : KK X s) {x0 : Int32} {x1 : Int32} {r : Int32} (hf : fC_has x0 x1 = some r) (hR : 0 + 1 ≤ R.frames ∧ 21 ≤ R.locals) (hcs : cells ≤ R.cells ∧ slots ≤ R.slots) (hl : ls.size = nL) (hcat : (st.map fun v => v.category).sum ≤ 8) (hdg : decode cc pc = .ok (.invokestatic 66, 3)) (kk : W p l e R s m args below meth c H locs cells slots Q (F0 m (pc + 3) ls (.int r :: st))) : W p l e R s m args below meth c H locs cells slots Q (F0 m pc ls (.int x1 :: .int x0 :: st)) :=
  w_afterR (w_rSN_ST (As := [.int x0, .int x1]) B hK (tC_has l x0 x1 r hf) q590 q591 q87 q592 (n := 2) (by decide +kernel) hR hcs rfl hl rfl hcat hdg) kk
end K_cFC_has

section S_F_isBog
variable {p : Program} {l : Launch} {e : Env} {R : Room} {s : State} {m : MethodId} {args : Array Value} {below : List Frame} {meth : Method} {c : Code} {H : Heap} {locs : List Loc} {cells slots : Nat} {Q : State → Prop} {cc : ByteArray} {nL pc : Nat} {ls : Array Slot} {st : List Value} {X : CX} {rest : va_W} {fa : Nat → Nat}
noncomputable def fF_isBog (w : FW) (x1 : Int32) : Option (Int32) :=
  (rd (w.2.1 0) 7 (x1 / 10)).bind fun v_1 =>
  (fC_has v_1 (irem x1 10)).bind fun r_3 =>
  (bz r_3).bind fun z_5 =>
  some z_5

set_option maxHeartbeats 4000000 in
theorem wF_isBog (B : CallFix p m c cX1_isBog 2 s args lw_all RX1) (hK : KK X s) {w : FW} (hP : va_P X.2.2.1 vwCl (FP X fa w ++ rest) s.heap) {x1 : Int32} {res : Int32} (hf : fF_isBog w x1 = some res) (kr : ∀ (r : Int32), res = r → narrow .boolean (.int r) = .int r → ∀ (pc : Nat) (ls : Array Slot), decode cX1_isBog pc = .ok (.ireturn, 1) → W p l e (RM 1 21) s m args below meth c s.heap [] 0 0 Q (F0 m pc ls [.int r])) {ls : Array Slot} (hl : lv_has ls 2 [(0, .ref (fa 0)), (1, .int x1)]) : W p l e (RM 1 21) s m args below meth c s.heap [] 0 0 Q (F0 m 0 ls []) := by
  have hx := B.1
  have hb := B.2.1
  unfold fF_isBog at hf
  refine lv_aload_n hx hb dX1_isBog_0 rfl (lv_at hl 0 rfl) ?_
  refine fe_fen_g0 B hK hP dX1_isBog_1 ?_
  refine lv_iload_n hx hb dX1_isBog_4 rfl (lv_at hl 1 rfl) ?_
  refine lv_bipush (v := 10) hx hb dX1_isBog_5 (by decide) ?_
  refine lv_idiv hx hb dX1_isBog_7 (by decide) ?_
  obtain ⟨v_1, e_2, hf⟩ := bo hf
  refine fe_bog_l B hK hP e_2 dX1_isBog_8 ?_
  refine lv_iload_n hx hb dX1_isBog_9 rfl (lv_at hl 1 rfl) ?_
  refine lv_bipush (v := 10) hx hb dX1_isBog_10 (by decide) ?_
  refine w_irem hx hb dX1_isBog_12 (by decide) ?_
  obtain ⟨r_3, e_4, hf⟩ := bo hf
  refine cFC_has B hK e_4 ⟨Nat.le_of_ble_eq_true rfl, Nat.le_of_ble_eq_true rfl⟩ ⟨Nat.zero_le _, Nat.zero_le _⟩ hl.1 (Nat.le_of_ble_eq_true rfl) dX1_isBog_13 ?_
  obtain ⟨z_5, e_6, hf⟩ := bo hf
  obtain ⟨n_7, hz⟩ := bz_in e_6
  rw [← hz] at hf
  exact kr _ (Option.some.inj hf).symm n_7 _ _ dX1_isBog_16

theorem tF_isBog (l : Launch) (X : CX) (fa : Nat → Nat) (rest : va_W) (w : FW) (x1 : Int32) (r : Int32) (hf : fF_isBog w x1 = some r) : RO l yX1_isBog cX1_isBog 2 (some .boolean) 1 21 [.ref (fa 0), .int x1] X (FP X fa w ++ rest) (some (.int r)) := by
  refine RO.mk (by decide) (Nat.le_of_ble_eq_true rfl) ?_
  intro p e s m below meth c B hr hlk hK hP ls hl
  exact wF_isBog B hK hP hf (fun r h hn pc ls hd => by cases h; exact w_zretR B hr hlk hn rfl hd) hl
end S_F_isBog

section K_cF_isCell
variable {p : Program} {l : Launch} {e : Env} {R : Room} {s : State} {m : MethodId} {args : Array Value} {below : List Frame} {meth : Method} {c : Code} {H : Heap} {locs : List Loc} {cells slots : Nat} {Q : State → Prop} {cc : ByteArray} {nL pc : Nat} {ls : Array Slot} {st : List Value} {X : CX} {rest : va_W} {fa : Nat → Nat}
theorem cF_isCell (B : CallFix p m c cc nL s args lw_all RX1) (hK : KK X s) (hS : va_S (Az X) s.heap H locs) {w : FW} (hP : va_P X.2.2.1 vwCl (FP X fa w ++ rest) H) {x1 : Int64} {r : Int32} (hf : fF_isCell w x1 = some r) (hR : 0 + 1 ≤ R.frames ∧ 22 ≤ R.locals) (hcs : cells ≤ R.cells ∧ slots ≤ R.slots) (hl : ls.size = nL) (hcat : (st.map fun v => v.category).sum ≤ 8) (hdg : decode cc pc = .ok (.invokevirtual 70, 3)) (kk : W p l e R s m args below meth c H locs cells slots Q (F0 m (pc + 3) ls (.int r :: st))) : W p l e R s m args below meth c H locs cells slots Q (F0 m pc ls (.long x1 :: .ref (fa 0) :: st)) :=
  w_afterR (w_rV_RO (ws := FP X fa w ++ rest) (As := [.long x1]) B hK hS hP (tF_isCell l X fa rest w x1 r hf) (lw_V q1163 q578 q579 q88 q580) 0 rfl rfl (n := 1) (by decide +kernel) hR hcs rfl hl rfl hcat hdg) kk
end K_cF_isCell

section K_cF_isBog
variable {p : Program} {l : Launch} {e : Env} {R : Room} {s : State} {m : MethodId} {args : Array Value} {below : List Frame} {meth : Method} {c : Code} {H : Heap} {locs : List Loc} {cells slots : Nat} {Q : State → Prop} {cc : ByteArray} {nL pc : Nat} {ls : Array Slot} {st : List Value} {X : CX} {rest : va_W} {fa : Nat → Nat}
theorem cF_isBog (B : CallFix p m c cc nL s args lw_all RX1) (hK : KK X s) (hS : va_S (Az X) s.heap H locs) {w : FW} (hP : va_P X.2.2.1 vwCl (FP X fa w ++ rest) H) {x1 : Int32} {r : Int32} (hf : fF_isBog w x1 = some r) (hR : 1 + 1 ≤ R.frames ∧ 42 ≤ R.locals) (hcs : cells ≤ R.cells ∧ slots ≤ R.slots) (hl : ls.size = nL) (hcat : (st.map fun v => v.category).sum ≤ 8) (hdg : decode cc pc = .ok (.invokevirtual 74, 3)) (kk : W p l e R s m args below meth c H locs cells slots Q (F0 m (pc + 3) ls (.int r :: st))) : W p l e R s m args below meth c H locs cells slots Q (F0 m pc ls (.int x1 :: .ref (fa 0) :: st)) :=
  w_afterR (w_rV_RO (ws := FP X fa w ++ rest) (As := [.int x1]) B hK hS hP (tF_isBog l X fa rest w x1 r hf) (lw_V q1115 q587 q588 q88 q589) 0 rfl rfl (n := 1) (by decide +kernel) hR hcs rfl hl rfl hcat hdg) kk
end K_cF_isBog

section S_F_isDry
variable {p : Program} {l : Launch} {e : Env} {R : Room} {s : State} {m : MethodId} {args : Array Value} {below : List Frame} {meth : Method} {c : Code} {H : Heap} {locs : List Loc} {cells slots : Nat} {Q : State → Prop} {cc : ByteArray} {nL pc : Nat} {ls : Array Slot} {st : List Value} {X : CX} {rest : va_W} {fa : Nat → Nat}
noncomputable def fF_isDry (w : FW) (x1 : Int64) : Option (Int32) :=
  (fF_isCell w x1).bind fun r_1 =>
  if r_1 = 0 then
    some 0
  else
    (fF_isBog w (x1.toInt32)).bind fun r_4 =>
    if r_4 = 0 then
      some 1
    else
      some 0

set_option maxHeartbeats 4000000 in
theorem wF_isDry (B : CallFix p m c cX1_isDry 3 s args lw_all RX1) (hK : KK X s) {w : FW} (hP : va_P X.2.2.1 vwCl (FP X fa w ++ rest) s.heap) {x1 : Int64} {res : Int32} (hf : fF_isDry w x1 = some res) (kr : ∀ (r : Int32), res = r → narrow .boolean (.int r) = .int r → ∀ (pc : Nat) (ls : Array Slot), decode cX1_isDry pc = .ok (.ireturn, 1) → W p l e (RM 2 42) s m args below meth c s.heap [] 0 0 Q (F0 m pc ls [.int r])) {ls : Array Slot} (hl : lv_has ls 3 [(0, .ref (fa 0)), (1, .long x1)]) : W p l e (RM 2 42) s m args below meth c s.heap [] 0 0 Q (F0 m 0 ls []) := by
  have hx := B.1
  have hb := B.2.1
  unfold fF_isDry at hf
  refine lv_aload_n hx hb dX1_isDry_0 rfl (lv_at hl 0 rfl) ?_
  refine lv_lload_n hx hb dX1_isDry_1 rfl (lv_at hl 1 rfl) ?_
  obtain ⟨r_1, e_2, hf⟩ := bo hf
  refine cF_isCell B hK va_S.rf hP e_2 ⟨Nat.le_of_ble_eq_true rfl, Nat.le_of_ble_eq_true rfl⟩ ⟨Nat.zero_le _, Nat.zero_le _⟩ hl.1 (Nat.le_of_ble_eq_true rfl) dX1_isDry_2 ?_
  refine lv_if_eq (tgt := 21) hx hb dX1_isDry_5 (by decide) (fun c_3 => ?_) (fun c_3 => ?_)
  · have hf := ifp c_3 hf
    refine lv_iconst (v := 0) hx hb dX1_isDry_21 (by decide) ?_
    exact kr _ (Option.some.inj hf).symm (by decide) _ _ dX1_isDry_22
  · have hf := ifn c_3 hf
    refine lv_aload_n hx hb dX1_isDry_8 rfl (lv_at hl 0 rfl) ?_
    refine lv_lload_n hx hb dX1_isDry_9 rfl (lv_at hl 1 rfl) ?_
    refine lv_l2i hx hb dX1_isDry_10 rfl ?_
    obtain ⟨r_4, e_5, hf⟩ := bo hf
    refine cF_isBog B hK va_S.rf hP e_5 ⟨Nat.le_of_ble_eq_true rfl, Nat.le_of_ble_eq_true rfl⟩ ⟨Nat.zero_le _, Nat.zero_le _⟩ hl.1 (Nat.le_of_ble_eq_true rfl) dX1_isDry_11 ?_
    refine lv_if_ne (tgt := 21) hx hb dX1_isDry_14 (by decide) (fun c_6 => ?_) (fun c_6 => ?_)
    · have hf := ifn c_6 hf
      refine lv_iconst (v := 0) hx hb dX1_isDry_21 (by decide) ?_
      exact kr _ (Option.some.inj hf).symm (by decide) _ _ dX1_isDry_22
    · have hf := ifp c_6 hf
      refine lv_iconst (v := 1) hx hb dX1_isDry_17 (by decide) ?_
      refine lv_goto (tgt := 22) hx hb dX1_isDry_18 (by decide) ?_
      exact kr _ (Option.some.inj hf).symm (by decide) _ _ dX1_isDry_22

theorem tF_isDry (l : Launch) (X : CX) (fa : Nat → Nat) (rest : va_W) (w : FW) (x1 : Int64) (r : Int32) (hf : fF_isDry w x1 = some r) : RO l yX1_isDry cX1_isDry 3 (some .boolean) 2 42 [.ref (fa 0), .long x1] X (FP X fa w ++ rest) (some (.int r)) := by
  refine RO.mk (by decide) (Nat.le_of_ble_eq_true rfl) ?_
  intro p e s m below meth c B hr hlk hK hP ls hl
  exact wF_isDry B hK hP hf (fun r h hn pc ls hd => by cases h; exact w_zretR B hr hlk hn rfl hd) hl
end S_F_isDry

section S_F_bog
variable {p : Program} {l : Launch} {e : Env} {R : Room} {s : State} {m : MethodId} {args : Array Value} {below : List Frame} {meth : Method} {c : Code} {H : Heap} {locs : List Loc} {cells slots : Nat} {Q : State → Prop} {cc : ByteArray} {nL pc : Nat} {ls : Array Slot} {st : List Value} {X : CX} {rest : va_W} {fa : Nat → Nat}
noncomputable def fF_bog_J49 (w : FW) (t1 : Int32) (t2 : Int32) : Option (FW) :=
  ((sto (w.2.1 0) 7 t1 t2).map (fun g_3 => fau w 0 g_3)).bind fun w_1 =>
  some w_1

set_option maxHeartbeats 4000000 in
theorem wF_bog_J49 (B : CallFix p m c cX1_bog 3 s args lw_all RX1) (hK : KK X s) {w : FW} {t1 : Int32} {t2 : Int32} {res : FW} (hf : fF_bog_J49 w t1 t2 = some res) (kr : ∀ (w1 : FW), res = w1 → ∀ (H : Heap) (locs : List Loc), GG X (FP X fa w1 ++ rest) s.heap H locs → ∀ (pc : Nat) (ls : Array Slot), decode cX1_bog pc = .ok (.return_, 1) → W p l e (RMw 0 0 0 0) s m args below meth c H locs 0 0 Q (F0 m pc ls [])) {H : Heap} {locs : List Loc} (hG : GG X (FP X fa w ++ rest) s.heap H locs) {ls : Array Slot} (hl : lv_has ls 3 []) : W p l e (RMw 0 0 0 0) s m args below meth c H locs 0 0 Q (F0 m 49 ls [.int t2, .int t1, .ref (fa 1)]) := by
  have hx := B.1
  have hb := B.2.1
  unfold fF_bog_J49 at hf
  obtain ⟨w_1, e_2, hf⟩ := bo hf
  refine fe_bog_s B hK hG e_2 dX1_bog_49 (fun H locs hG => ?_)
  exact kr _ (Option.some.inj hf).symm _ _ hG _ _ dX1_bog_50

noncomputable def fF_bog (w : FW) (x1 : Int32) (x2 : Int32) : Option (FW) :=
  if x2 = 0 then
    (rd (w.2.1 0) 7 (x1 / 10)).bind fun v_2 =>
    fF_bog_J49 w (x1 / 10) (v_2 &&& ((ishl 1 (irem x1 10)) ^^^ (-1)))
  else
    (rd (w.2.1 0) 7 (x1 / 10)).bind fun v_4 =>
    fF_bog_J49 w (x1 / 10) (v_4 ||| (ishl 1 (irem x1 10)))

set_option maxHeartbeats 4000000 in
theorem wF_bog (B : CallFix p m c cX1_bog 3 s args lw_all RX1) (hK : KK X s) {w : FW} {x1 : Int32} {x2 : Int32} {res : FW} (hf : fF_bog w x1 x2 = some res) (kr : ∀ (w1 : FW), res = w1 → ∀ (H : Heap) (locs : List Loc), GG X (FP X fa w1 ++ rest) s.heap H locs → ∀ (pc : Nat) (ls : Array Slot), decode cX1_bog pc = .ok (.return_, 1) → W p l e (RMw 0 0 0 0) s m args below meth c H locs 0 0 Q (F0 m pc ls [])) {H : Heap} {locs : List Loc} (hG : GG X (FP X fa w ++ rest) s.heap H locs) {ls : Array Slot} (hl : lv_has ls 3 [(0, .ref (fa 0)), (1, .int x1), (2, .int x2)]) : W p l e (RMw 0 0 0 0) s m args below meth c H locs 0 0 Q (F0 m 0 ls []) := by
  have hx := B.1
  have hb := B.2.1
  unfold fF_bog at hf
  refine lv_aload_n hx hb dX1_bog_0 rfl (lv_at hl 0 rfl) ?_
  refine fe_fen_g0 B hK hG.1 dX1_bog_1 ?_
  refine lv_iload_n hx hb dX1_bog_4 rfl (lv_at hl 1 rfl) ?_
  refine lv_bipush (v := 10) hx hb dX1_bog_5 (by decide) ?_
  refine lv_idiv hx hb dX1_bog_7 (by decide) ?_
  refine lv_iload_n hx hb dX1_bog_8 rfl (lv_at hl 2 rfl) ?_
  refine lv_if_eq (tgt := 31) hx hb dX1_bog_9 (by decide) (fun c_1 => ?_) (fun c_1 => ?_)
  · have hf := ifp c_1 hf
    refine lv_aload_n hx hb dX1_bog_31 rfl (lv_at hl 0 rfl) ?_
    refine fe_fen_g0 B hK hG.1 dX1_bog_32 ?_
    refine lv_iload_n hx hb dX1_bog_35 rfl (lv_at hl 1 rfl) ?_
    refine lv_bipush (v := 10) hx hb dX1_bog_36 (by decide) ?_
    refine lv_idiv hx hb dX1_bog_38 (by decide) ?_
    obtain ⟨v_2, e_3, hf⟩ := bo hf
    refine fe_bog_l B hK hG.1 e_3 dX1_bog_39 ?_
    refine lv_iconst (v := 1) hx hb dX1_bog_40 (by decide) ?_
    refine lv_iload_n hx hb dX1_bog_41 rfl (lv_at hl 1 rfl) ?_
    refine lv_bipush (v := 10) hx hb dX1_bog_42 (by decide) ?_
    refine w_irem hx hb dX1_bog_44 (by decide) ?_
    refine w_ishl hx hb dX1_bog_45 ?_
    refine lv_iconst (v := (-1)) hx hb dX1_bog_46 (by decide) ?_
    refine lv_ixor hx hb dX1_bog_47 ?_
    refine lv_iand hx hb dX1_bog_48 ?_
    exact wF_bog_J49 B hK hf kr hG (lv_sub hl [] rfl)
  · have hf := ifn c_1 hf
    refine lv_aload_n hx hb dX1_bog_12 rfl (lv_at hl 0 rfl) ?_
    refine fe_fen_g0 B hK hG.1 dX1_bog_13 ?_
    refine lv_iload_n hx hb dX1_bog_16 rfl (lv_at hl 1 rfl) ?_
    refine lv_bipush (v := 10) hx hb dX1_bog_17 (by decide) ?_
    refine lv_idiv hx hb dX1_bog_19 (by decide) ?_
    obtain ⟨v_4, e_5, hf⟩ := bo hf
    refine fe_bog_l B hK hG.1 e_5 dX1_bog_20 ?_
    refine lv_iconst (v := 1) hx hb dX1_bog_21 (by decide) ?_
    refine lv_iload_n hx hb dX1_bog_22 rfl (lv_at hl 1 rfl) ?_
    refine lv_bipush (v := 10) hx hb dX1_bog_23 (by decide) ?_
    refine w_irem hx hb dX1_bog_25 (by decide) ?_
    refine w_ishl hx hb dX1_bog_26 ?_
    refine lv_ior hx hb dX1_bog_27 ?_
    refine lv_goto (tgt := 49) hx hb dX1_bog_28 (by decide) ?_
    exact wF_bog_J49 B hK hf kr hG (lv_sub hl [] rfl)

theorem tF_bog (l : Launch) (X : CX) (fa : Nat → Nat) (rest : va_W) (w w' : FW) (x1 : Int32) (x2 : Int32) (hf : fF_bog w x1 x2 = some w') : RW l yX1_bog cX1_bog 3 none 0 0 0 0 [.ref (fa 0), .int x1, .int x2] X (FP X fa w ++ rest) (FP X fa (w') ++ rest) none := by
  refine RW.mk (by decide) (Nat.le_of_ble_eq_true rfl) ?_
  intro p e s m below meth c B hr hlk hK hG ls hl
  exact wF_bog B hK hf (fun w h H locs hG pc ls hd => by cases h; exact w_vretW B hr hlk hG hd) hG hl
end S_F_bog

section S_F_mayBog
variable {p : Program} {l : Launch} {e : Env} {R : Room} {s : State} {m : MethodId} {args : Array Value} {below : List Frame} {meth : Method} {c : Code} {H : Heap} {locs : List Loc} {cells slots : Nat} {Q : State → Prop} {cc : ByteArray} {nL pc : Nat} {ls : Array Slot} {st : List Value} {X : CX} {rest : va_W} {fa : Nat → Nat}
noncomputable def fF_mayBog_J40_L16 (w : FW) (x1 : Int32) (x3 : Int32) (t0 : Int32) (t1 : Int32) : Option ((Int32 × Int32) ⊕ (Int32)) :=
  (some (t0 &&& t1)).bind fun x_1 =>
  (some (x3 + 1)).bind fun x_3 =>
  some (.inl (x_1, x_3))

set_option maxHeartbeats 4000000 in
theorem wF_mayBog_J40_L16 (B : CallFix p m c cX1_mayBog 4 s args lw_all RX1) (hK : KK X s) {w : FW} (hP : va_P X.2.2.1 vwCl (FP X fa w ++ rest) s.heap) {x1 : Int32} {x3 : Int32} {t0 : Int32} {t1 : Int32} {res : (Int32 × Int32) ⊕ (Int32)} (hf : fF_mayBog_J40_L16 w x1 x3 t0 t1 = some res) (kc : ∀ (y2 : Int32) (y3 : Int32), res = .inl (y2, y3) → ∀ (ls : Array Slot), lv_has ls 4 [(0, .ref (fa 0)), (1, .int x1), (2, .int y2), (3, .int y3)] → W p l e (RM 0 0) s m args below meth c s.heap [] 0 0 Q (F0 m 16 ls [])) (ke48 : ∀ (y2 : Int32), res = .inr y2 → ∀ (ls : Array Slot), lv_has ls 4 [(2, .int y2)] → W p l e (RM 0 0) s m args below meth c s.heap [] 0 0 Q (F0 m 48 ls [])) {ls : Array Slot} (hl : lv_has ls 4 [(0, .ref (fa 0)), (1, .int x1), (3, .int x3)]) : W p l e (RM 0 0) s m args below meth c s.heap [] 0 0 Q (F0 m 40 ls [.int t1, .int t0]) := by
  have hx := B.1
  have hb := B.2.1
  unfold fF_mayBog_J40_L16 at hf
  refine lv_iand hx hb dX1_mayBog_40 ?_
  obtain ⟨x_1, e_2, hf⟩ := bo hf
  refine w_istore_n (lv' := [(2, .int x_1), (0, .ref (fa 0)), (1, .int x1), (3, .int x3)]) e_2 hx hb dX1_mayBog_41 rfl hl (by decide) rfl (fun ls hl => ?_)
  obtain ⟨x_3, e_4, hf⟩ := bo hf
  refine w_iinc (k := 3) (lv' := [(3, .int x_3), (2, .int x_1), (0, .ref (fa 0)), (1, .int x1)]) e_4 hx hb dX1_mayBog_42 hl rfl (by decide) rfl (fun ls hl => ?_)
  refine lv_goto (tgt := 16) hx hb dX1_mayBog_45 (by decide) ?_
  exact kc _ _ (Option.some.inj hf).symm _ (lv_sub hl [2, 3, 1, 0] rfl)

noncomputable def fF_mayBog_L16 (w : FW) (x1 : Int32) (x2 : Int32) (x3 : Int32) : Option ((Int32 × Int32) ⊕ (Int32)) :=
  if (w.1 9) ≤ x3 then
    some (.inr x2)
  else
    (rd (w.2.1 2) 4 x3).bind fun v_2 =>
    if v_2 = x1 then
      fF_mayBog_J40_L16 w x1 x3 x2 0
    else
      fF_mayBog_J40_L16 w x1 x3 x2 1

set_option maxHeartbeats 4000000 in
theorem wF_mayBog_L16 (B : CallFix p m c cX1_mayBog 4 s args lw_all RX1) (hK : KK X s) {w : FW} (hP : va_P X.2.2.1 vwCl (FP X fa w ++ rest) s.heap) {x1 : Int32} {x2 : Int32} {x3 : Int32} {res : (Int32 × Int32) ⊕ (Int32)} (hf : fF_mayBog_L16 w x1 x2 x3 = some res) (kc : ∀ (y2 : Int32) (y3 : Int32), res = .inl (y2, y3) → ∀ (ls : Array Slot), lv_has ls 4 [(0, .ref (fa 0)), (1, .int x1), (2, .int y2), (3, .int y3)] → W p l e (RM 0 0) s m args below meth c s.heap [] 0 0 Q (F0 m 16 ls [])) (ke48 : ∀ (y2 : Int32), res = .inr y2 → ∀ (ls : Array Slot), lv_has ls 4 [(2, .int y2)] → W p l e (RM 0 0) s m args below meth c s.heap [] 0 0 Q (F0 m 48 ls [])) {ls : Array Slot} (hl : lv_has ls 4 [(0, .ref (fa 0)), (1, .int x1), (2, .int x2), (3, .int x3)]) : W p l e (RM 0 0) s m args below meth c s.heap [] 0 0 Q (F0 m 16 ls []) := by
  have hx := B.1
  have hb := B.2.1
  unfold fF_mayBog_L16 at hf
  refine lv_iload_n hx hb dX1_mayBog_16 rfl (lv_at hl 3 rfl) ?_
  refine lv_aload_n hx hb dX1_mayBog_17 rfl (lv_at hl 0 rfl) ?_
  refine fe_fen_g9 B hK hP dX1_mayBog_18 ?_
  refine lv_icmp_ge (tgt := 48) hx hb dX1_mayBog_21 (by decide) (fun c_1 => ?_) (fun c_1 => ?_)
  · have hf := ifp c_1 hf
    exact ke48 _ (Option.some.inj hf).symm _ (lv_sub hl [2] rfl)
  · have hf := ifn c_1 hf
    refine lv_iload_n hx hb dX1_mayBog_24 rfl (lv_at hl 2 rfl) ?_
    refine lv_aload_n hx hb dX1_mayBog_25 rfl (lv_at hl 0 rfl) ?_
    refine fe_fen_g2 B hK hP dX1_mayBog_26 ?_
    refine lv_iload_n hx hb dX1_mayBog_29 rfl (lv_at hl 3 rfl) ?_
    obtain ⟨v_2, e_3, hf⟩ := bo hf
    refine fe_cell_l B hK hP e_3 dX1_mayBog_30 ?_
    refine lv_iload_n hx hb dX1_mayBog_31 rfl (lv_at hl 1 rfl) ?_
    refine lv_icmp_eq (tgt := 39) hx hb dX1_mayBog_32 (by decide) (fun c_4 => ?_) (fun c_4 => ?_)
    · have hf := ifp c_4 hf
      refine lv_iconst (v := 0) hx hb dX1_mayBog_39 (by decide) ?_
      exact wF_mayBog_J40_L16 B hK hP hf kc ke48 (lv_sub hl [0, 1, 3] rfl)
    · have hf := ifn c_4 hf
      refine lv_iconst (v := 1) hx hb dX1_mayBog_35 (by decide) ?_
      refine lv_goto (tgt := 40) hx hb dX1_mayBog_36 (by decide) ?_
      exact wF_mayBog_J40_L16 B hK hP hf kc ke48 (lv_sub hl [0, 1, 3] rfl)

set_option maxHeartbeats 4000000 in
theorem vF_mayBog_L16 (B : CallFix p m c cX1_mayBog 4 s args lw_all RX1) (hK : KK X s) {w : FW} (hP : va_P X.2.2.1 vwCl (FP X fa w ++ rest) s.heap) {x1 : Int32} {x2 : Int32} {x3 : Int32} {res : Int32} (hf : lp (fun q : Int32 × Int32 => fF_mayBog_L16 w x1 q.1 q.2) (x2, x3) = some res) (ke48 : ∀ (y2 : Int32), res = y2 → ∀ (ls : Array Slot), lv_has ls 4 [(2, .int y2)] → W p l e (RM 0 0) s m args below meth c s.heap [] 0 0 Q (F0 m 48 ls [])) {ls : Array Slot} (hl : lv_has ls 4 [(0, .ref (fa 0)), (1, .int x1), (2, .int x2), (3, .int x3)]) : W p l e (RM 0 0) s m args below meth c s.heap [] 0 0 Q (F0 m 16 ls []) := by
  refine lp_ind (r := res) (P := fun q : Int32 × Int32 => ∀ (ls : Array Slot), lv_has ls 4 [(0, .ref (fa 0)), (1, .int x1), (2, .int q.1), (3, .int q.2)] → W p l e (RM 0 0) s m args below meth c s.heap [] 0 0 Q (F0 m 16 ls [])) ?_ ?_ _ hf _ hl
  · intro q hb ls hl
    exact wF_mayBog_L16 B hK hP hb (fun _ _ h => by cases h) (fun z0 h => ke48 z0 (Sum.inr.inj h)) hl
  · intro q q2 hb ih ls hl
    exact wF_mayBog_L16 B hK hP hb (fun z0 z1 h => by cases h; exact fun ls hl => ih ls hl) (fun _ h => by cases h) hl

noncomputable def fF_mayBog (w : FW) (x1 : Int32) : Option (Int32) :=
  if x1 = (w.1 7) then
    (lp (fun q : Int32 × Int32 => fF_mayBog_L16 w x1 q.1 q.2) (0, 0)).bind (
      fun q_6 => (fun (y_2 : Int32) =>
        (bz y_2).bind fun z_3 =>
        some z_3
      ) q_6
    )
  else
    (lp (fun q : Int32 × Int32 => fF_mayBog_L16 w x1 q.1 q.2) (1, 0)).bind (
      fun q_12 => (fun (y_8 : Int32) =>
        (bz y_8).bind fun z_9 =>
        some z_9
      ) q_12
    )

set_option maxHeartbeats 4000000 in
theorem wF_mayBog (B : CallFix p m c cX1_mayBog 4 s args lw_all RX1) (hK : KK X s) {w : FW} (hP : va_P X.2.2.1 vwCl (FP X fa w ++ rest) s.heap) {x1 : Int32} {res : Int32} (hf : fF_mayBog w x1 = some res) (kr : ∀ (r : Int32), res = r → narrow .boolean (.int r) = .int r → ∀ (pc : Nat) (ls : Array Slot), decode cX1_mayBog pc = .ok (.ireturn, 1) → W p l e (RM 0 0) s m args below meth c s.heap [] 0 0 Q (F0 m pc ls [.int r])) {ls : Array Slot} (hl : lv_has ls 4 [(0, .ref (fa 0)), (1, .int x1)]) : W p l e (RM 0 0) s m args below meth c s.heap [] 0 0 Q (F0 m 0 ls []) := by
  have hx := B.1
  have hb := B.2.1
  unfold fF_mayBog at hf
  refine lv_iload_n hx hb dX1_mayBog_0 rfl (lv_at hl 1 rfl) ?_
  refine lv_aload_n hx hb dX1_mayBog_1 rfl (lv_at hl 0 rfl) ?_
  refine fe_fen_g7 B hK hP dX1_mayBog_2 ?_
  refine lv_icmp_eq (tgt := 12) hx hb dX1_mayBog_5 (by decide) (fun c_1 => ?_) (fun c_1 => ?_)
  · have hf := ifp c_1 hf
    refine lv_iconst (v := 0) hx hb dX1_mayBog_12 (by decide) ?_
    refine lv_istore_n (lv' := [(2, .int 0), (0, .ref (fa 0)), (1, .int x1)]) hx hb dX1_mayBog_13 rfl hl (by decide) rfl (fun ls hl => ?_)
    refine lv_iconst (v := 0) hx hb dX1_mayBog_14 (by decide) ?_
    refine lv_istore_n (lv' := [(3, .int 0), (2, .int 0), (0, .ref (fa 0)), (1, .int x1)]) hx hb dX1_mayBog_15 rfl hl (by decide) rfl (fun ls hl => ?_)
    obtain ⟨y_2, e_7, hf⟩ := bo hf
    try dsimp only at hf
    refine vF_mayBog_L16 B hK hP e_7 ?_ (lv_sub hl [2, 3, 1, 0] rfl)
    intro z0 hz
    cases hz
    intro ls hl
    refine lv_iload_n hx hb dX1_mayBog_48 rfl (lv_at hl 0 rfl) ?_
    obtain ⟨z_3, e_4, hf⟩ := bo hf
    obtain ⟨n_5, hz⟩ := bz_in e_4
    rw [← hz] at hf
    exact kr _ (Option.some.inj hf).symm n_5 _ _ dX1_mayBog_49
  · have hf := ifn c_1 hf
    refine lv_iconst (v := 1) hx hb dX1_mayBog_8 (by decide) ?_
    refine lv_goto (tgt := 13) hx hb dX1_mayBog_9 (by decide) ?_
    refine lv_istore_n (lv' := [(2, .int 1), (0, .ref (fa 0)), (1, .int x1)]) hx hb dX1_mayBog_13 rfl hl (by decide) rfl (fun ls hl => ?_)
    refine lv_iconst (v := 0) hx hb dX1_mayBog_14 (by decide) ?_
    refine lv_istore_n (lv' := [(3, .int 0), (2, .int 1), (0, .ref (fa 0)), (1, .int x1)]) hx hb dX1_mayBog_15 rfl hl (by decide) rfl (fun ls hl => ?_)
    obtain ⟨y_8, e_13, hf⟩ := bo hf
    try dsimp only at hf
    refine vF_mayBog_L16 B hK hP e_13 ?_ (lv_sub hl [2, 3, 1, 0] rfl)
    intro z0 hz
    cases hz
    intro ls hl
    refine lv_iload_n hx hb dX1_mayBog_48 rfl (lv_at hl 0 rfl) ?_
    obtain ⟨z_9, e_10, hf⟩ := bo hf
    obtain ⟨n_11, hz⟩ := bz_in e_10
    rw [← hz] at hf
    exact kr _ (Option.some.inj hf).symm n_11 _ _ dX1_mayBog_49

theorem tF_mayBog (l : Launch) (X : CX) (fa : Nat → Nat) (rest : va_W) (w : FW) (x1 : Int32) (r : Int32) (hf : fF_mayBog w x1 = some r) : RO l yX1_mayBog cX1_mayBog 4 (some .boolean) 0 0 [.ref (fa 0), .int x1] X (FP X fa w ++ rest) (some (.int r)) := by
  refine RO.mk (by decide) (Nat.le_of_ble_eq_true rfl) ?_
  intro p e s m below meth c B hr hlk hK hP ls hl
  exact wF_mayBog B hK hP hf (fun r h hn pc ls hd => by cases h; exact w_zretR B hr hlk hn rfl hd) hl
end S_F_mayBog

section K_cFJ_bitCount
variable {p : Program} {l : Launch} {e : Env} {R : Room} {s : State} {m : MethodId} {args : Array Value} {below : List Frame} {meth : Method} {c : Code} {H : Heap} {locs : List Loc} {cells slots : Nat} {Q : State → Prop} {cc : ByteArray} {nL pc : Nat} {ls : Array Slot} {st : List Value} {X : CX} {rest : va_W}
theorem cFJ_bitCount (B : CallFix p m c cc nL s args lw_all RX1) {x0 : Int32} {r : Int32} (hf : fJ_bitCount x0 = some r) (hR : 0 + 1 ≤ R.frames ∧ 20 ≤ R.locals) (hcs : cells ≤ R.cells ∧ slots ≤ R.slots) (hl : ls.size = nL) (hcat : (st.map fun v => v.category).sum ≤ 8) (hdg : decode cc pc = .ok (.invokestatic 78, 3)) (kk : W p l e R s m args below meth c H locs cells slots Q (F0 m (pc + 3) ls (.int r :: st))) : W p l e R s m args below meth c H locs cells slots Q (F0 m pc ls (.int x0 :: st)) :=
  w_afterR (w_rS_ST (As := [.int x0]) B (tJ_bitCount l x0 r hf) (lw_S q1379 q1260 q120 q1261) (n := 1) (by decide +kernel) hR hcs rfl hl rfl hcat hdg) kk
end K_cFJ_bitCount

section S_F_manyBogs
variable {p : Program} {l : Launch} {e : Env} {R : Room} {s : State} {m : MethodId} {args : Array Value} {below : List Frame} {meth : Method} {c : Code} {H : Heap} {locs : List Loc} {cells slots : Nat} {Q : State → Prop} {cc : ByteArray} {nL pc : Nat} {ls : Array Slot} {st : List Value} {X : CX} {rest : va_W} {fa : Nat → Nat}
noncomputable def fF_manyBogs_L13 (w : FW) (x1 : Int32) (x3 : Int32) (x4 : Int32) : Option ((Int32 × Int32) ⊕ (Int32)) :=
  if x3 ≤ x4 then
    some (.inr x1)
  else
    (rd (w.2.1 0) 7 x4).bind fun v_2 =>
    (fJ_bitCount v_2).bind fun r_4 =>
    (some (x1 + r_4)).bind fun x_6 =>
    (some (x4 + 1)).bind fun x_8 =>
    some (.inl (x_6, x_8))

set_option maxHeartbeats 4000000 in
theorem wF_manyBogs_L13 (B : CallFix p m c cX1_manyBogs 6 s args lw_all RX1) (hK : KK X s) {w : FW} (hP : va_P X.2.2.1 vwCl (FP X fa w ++ rest) s.heap) {x1 : Int32} {x3 : Int32} {x4 : Int32} {res : (Int32 × Int32) ⊕ (Int32)} (hf : fF_manyBogs_L13 w x1 x3 x4 = some res) (kc : ∀ (y1 : Int32) (y4 : Int32), res = .inl (y1, y4) → ∀ (ls : Array Slot), lv_has ls 6 [(1, .int y1), (2, .ref (fa 1)), (3, .int x3), (4, .int y4)] → W p l e (RM 1 20) s m args below meth c s.heap [] 0 0 Q (F0 m 13 ls [])) (ke39 : ∀ (y1 : Int32), res = .inr y1 → ∀ (ls : Array Slot), lv_has ls 6 [(1, .int y1)] → W p l e (RM 1 20) s m args below meth c s.heap [] 0 0 Q (F0 m 39 ls [])) {ls : Array Slot} (hl : lv_has ls 6 [(1, .int x1), (2, .ref (fa 1)), (3, .int x3), (4, .int x4)]) : W p l e (RM 1 20) s m args below meth c s.heap [] 0 0 Q (F0 m 13 ls []) := by
  have hx := B.1
  have hb := B.2.1
  unfold fF_manyBogs_L13 at hf
  refine lv_iload hx hb dX1_manyBogs_13 (lv_at hl 3 rfl) ?_
  refine lv_iload_n hx hb dX1_manyBogs_15 rfl (lv_at hl 2 rfl) ?_
  refine lv_icmp_ge (tgt := 39) hx hb dX1_manyBogs_16 (by decide) (fun c_1 => ?_) (fun c_1 => ?_)
  · have hf := ifp c_1 hf
    exact ke39 _ (Option.some.inj hf).symm _ (lv_sub hl [0] rfl)
  · have hf := ifn c_1 hf
    refine lv_aload_n hx hb dX1_manyBogs_19 rfl (lv_at hl 1 rfl) ?_
    refine lv_iload hx hb dX1_manyBogs_20 (lv_at hl 3 rfl) ?_
    obtain ⟨v_2, e_3, hf⟩ := bo hf
    refine fe_bog_l B hK hP e_3 dX1_manyBogs_22 ?_
    refine lv_istore (lv' := [(5, .int v_2), (1, .int x1), (2, .ref (fa 1)), (3, .int x3), (4, .int x4)]) hx hb dX1_manyBogs_23 hl (by decide) rfl (fun ls hl => ?_)
    refine lv_iload_n hx hb dX1_manyBogs_25 rfl (lv_at hl 1 rfl) ?_
    refine lv_iload hx hb dX1_manyBogs_26 (lv_at hl 0 rfl) ?_
    obtain ⟨r_4, e_5, hf⟩ := bo hf
    refine cFJ_bitCount B e_5 ⟨Nat.le_of_ble_eq_true rfl, Nat.le_of_ble_eq_true rfl⟩ ⟨Nat.zero_le _, Nat.zero_le _⟩ hl.1 (Nat.le_of_ble_eq_true rfl) dX1_manyBogs_28 ?_
    refine lv_iadd hx hb dX1_manyBogs_31 ?_
    obtain ⟨x_6, e_7, hf⟩ := bo hf
    refine w_istore_n (lv' := [(1, .int x_6), (5, .int v_2), (2, .ref (fa 1)), (3, .int x3), (4, .int x4)]) e_7 hx hb dX1_manyBogs_32 rfl hl (by decide) rfl (fun ls hl => ?_)
    obtain ⟨x_8, e_9, hf⟩ := bo hf
    refine w_iinc (k := 4) (lv' := [(4, .int x_8), (1, .int x_6), (5, .int v_2), (2, .ref (fa 1)), (3, .int x3)]) e_9 hx hb dX1_manyBogs_33 hl rfl (by decide) rfl (fun ls hl => ?_)
    refine lv_goto (tgt := 13) hx hb dX1_manyBogs_36 (by decide) ?_
    exact kc _ _ (Option.some.inj hf).symm _ (lv_sub hl [1, 3, 4, 0] rfl)

set_option maxHeartbeats 4000000 in
theorem vF_manyBogs_L13 (B : CallFix p m c cX1_manyBogs 6 s args lw_all RX1) (hK : KK X s) {w : FW} (hP : va_P X.2.2.1 vwCl (FP X fa w ++ rest) s.heap) {x1 : Int32} {x3 : Int32} {x4 : Int32} {res : Int32} (hf : lp (fun q : Int32 × Int32 => fF_manyBogs_L13 w q.1 x3 q.2) (x1, x4) = some res) (ke39 : ∀ (y1 : Int32), res = y1 → ∀ (ls : Array Slot), lv_has ls 6 [(1, .int y1)] → W p l e (RM 1 20) s m args below meth c s.heap [] 0 0 Q (F0 m 39 ls [])) {ls : Array Slot} (hl : lv_has ls 6 [(1, .int x1), (2, .ref (fa 1)), (3, .int x3), (4, .int x4)]) : W p l e (RM 1 20) s m args below meth c s.heap [] 0 0 Q (F0 m 13 ls []) := by
  refine lp_ind (r := res) (P := fun q : Int32 × Int32 => ∀ (ls : Array Slot), lv_has ls 6 [(1, .int q.1), (2, .ref (fa 1)), (3, .int x3), (4, .int q.2)] → W p l e (RM 1 20) s m args below meth c s.heap [] 0 0 Q (F0 m 13 ls [])) ?_ ?_ _ hf _ hl
  · intro q hb ls hl
    exact wF_manyBogs_L13 B hK hP hb (fun _ _ h => by cases h) (fun z0 h => ke39 z0 (Sum.inr.inj h)) hl
  · intro q q2 hb ih ls hl
    exact wF_manyBogs_L13 B hK hP hb (fun z0 z1 h => by cases h; exact fun ls hl => ih ls hl) (fun _ h => by cases h) hl

noncomputable def fF_manyBogs (w : FW)  : Option (Int32) :=
  (lp (fun q : Int32 × Int32 => fF_manyBogs_L13 w q.1 7 q.2) (0, 0)).bind (
    fun q_2 => (fun (y_1 : Int32) =>
      some y_1
    ) q_2
  )

set_option maxHeartbeats 4000000 in
theorem wF_manyBogs (B : CallFix p m c cX1_manyBogs 6 s args lw_all RX1) (hK : KK X s) {w : FW} (hP : va_P X.2.2.1 vwCl (FP X fa w ++ rest) s.heap)  {res : Int32} (hf : fF_manyBogs w  = some res) (kr : ∀ (r : Int32), res = r → ∀ (pc : Nat) (ls : Array Slot), decode cX1_manyBogs pc = .ok (.ireturn, 1) → W p l e (RM 1 20) s m args below meth c s.heap [] 0 0 Q (F0 m pc ls [.int r])) {ls : Array Slot} (hl : lv_has ls 6 [(0, .ref (fa 0))]) : W p l e (RM 1 20) s m args below meth c s.heap [] 0 0 Q (F0 m 0 ls []) := by
  have hx := B.1
  have hb := B.2.1
  unfold fF_manyBogs at hf
  refine lv_iconst (v := 0) hx hb dX1_manyBogs_0 (by decide) ?_
  refine lv_istore_n (lv' := [(1, .int 0), (0, .ref (fa 0))]) hx hb dX1_manyBogs_1 rfl hl (by decide) rfl (fun ls hl => ?_)
  refine lv_aload_n hx hb dX1_manyBogs_2 rfl (lv_at hl 1 rfl) ?_
  refine fe_fen_g0 B hK hP dX1_manyBogs_3 ?_
  refine lv_astore_n (lv' := [(2, .ref (fa 1)), (1, .int 0), (0, .ref (fa 0))]) hx hb dX1_manyBogs_6 rfl hl (by decide) rfl (fun ls hl => ?_)
  refine lv_aload_n hx hb dX1_manyBogs_7 rfl (lv_at hl 0 rfl) ?_
  refine fe_bog_n B hK hP dX1_manyBogs_8 ?_
  refine lv_istore_n (lv' := [(3, .int 7), (2, .ref (fa 1)), (1, .int 0), (0, .ref (fa 0))]) hx hb dX1_manyBogs_9 rfl hl (by decide) rfl (fun ls hl => ?_)
  refine lv_iconst (v := 0) hx hb dX1_manyBogs_10 (by decide) ?_
  refine lv_istore (lv' := [(4, .int 0), (3, .int 7), (2, .ref (fa 1)), (1, .int 0), (0, .ref (fa 0))]) hx hb dX1_manyBogs_11 hl (by decide) rfl (fun ls hl => ?_)
  obtain ⟨y_1, e_3, hf⟩ := bo hf
  try dsimp only at hf
  refine vF_manyBogs_L13 B hK hP e_3 ?_ (lv_sub hl [3, 2, 1, 0] rfl)
  intro z0 hz
  cases hz
  intro ls hl
  refine lv_iload_n hx hb dX1_manyBogs_39 rfl (lv_at hl 0 rfl) ?_
  exact kr _ (Option.some.inj hf).symm _ _ dX1_manyBogs_40

theorem tF_manyBogs (l : Launch) (X : CX) (fa : Nat → Nat) (rest : va_W) (w : FW)  (r : Int32) (hf : fF_manyBogs w  = some r) : RO l yX1_manyBogs cX1_manyBogs 6 (some .int) 1 20 [.ref (fa 0)] X (FP X fa w ++ rest) (some (.int r)) := by
  refine RO.mk (by decide) (Nat.le_of_ble_eq_true rfl) ?_
  intro p e s m below meth c B hr hlk hK hP ls hl
  exact wF_manyBogs B hK hP hf (fun r h pc ls hd => by cases h; exact w_iretR B hr hlk rfl hd) hl
end S_F_manyBogs

section S_F_isPost
variable {p : Program} {l : Launch} {e : Env} {R : Room} {s : State} {m : MethodId} {args : Array Value} {below : List Frame} {meth : Method} {c : Code} {H : Heap} {locs : List Loc} {cells slots : Nat} {Q : State → Prop} {cc : ByteArray} {nL pc : Nat} {ls : Array Slot} {st : List Value} {X : CX} {rest : va_W} {fa : Nat → Nat}
noncomputable def fF_isPost (w : FW) (x1 : Int64) : Option (Int32) :=
  if (lg_cmp x1 0) < 0 then
    some 0
  else
    if 0 ≤ (lg_cmp x1 ((w.1 8).toInt64)) then
      some 0
    else
      some 1

set_option maxHeartbeats 4000000 in
theorem wF_isPost (B : CallFix p m c cX1_isPost 3 s args lw_all RX1) (hK : KK X s) {w : FW} (hP : va_P X.2.2.1 vwCl (FP X fa w ++ rest) s.heap) {x1 : Int64} {res : Int32} (hf : fF_isPost w x1 = some res) (kr : ∀ (r : Int32), res = r → narrow .boolean (.int r) = .int r → ∀ (pc : Nat) (ls : Array Slot), decode cX1_isPost pc = .ok (.ireturn, 1) → W p l e (RM 0 0) s m args below meth c s.heap [] 0 0 Q (F0 m pc ls [.int r])) {ls : Array Slot} (hl : lv_has ls 3 [(0, .ref (fa 0)), (1, .long x1)]) : W p l e (RM 0 0) s m args below meth c s.heap [] 0 0 Q (F0 m 0 ls []) := by
  have hx := B.1
  have hb := B.2.1
  unfold fF_isPost at hf
  refine lv_lload_n hx hb dX1_isPost_0 rfl (lv_at hl 1 rfl) ?_
  refine lv_lconst (v := 0) hx hb dX1_isPost_1 (by decide) ?_
  refine W.lcmp hx hb dX1_isPost_2 ?_
  refine lv_if_lt (tgt := 20) hx hb dX1_isPost_3 (by decide) (fun c_1 => ?_) (fun c_1 => ?_)
  · have hf := ifp c_1 hf
    refine lv_iconst (v := 0) hx hb dX1_isPost_20 (by decide) ?_
    exact kr _ (Option.some.inj hf).symm (by decide) _ _ dX1_isPost_21
  · have hf := ifn c_1 hf
    refine lv_lload_n hx hb dX1_isPost_6 rfl (lv_at hl 1 rfl) ?_
    refine lv_aload_n hx hb dX1_isPost_7 rfl (lv_at hl 0 rfl) ?_
    refine fe_fen_g8 B hK hP dX1_isPost_8 ?_
    refine lv_i2l hx hb dX1_isPost_11 rfl ?_
    refine W.lcmp hx hb dX1_isPost_12 ?_
    refine lv_if_ge (tgt := 20) hx hb dX1_isPost_13 (by decide) (fun c_2 => ?_) (fun c_2 => ?_)
    · have hf := ifp c_2 hf
      refine lv_iconst (v := 0) hx hb dX1_isPost_20 (by decide) ?_
      exact kr _ (Option.some.inj hf).symm (by decide) _ _ dX1_isPost_21
    · have hf := ifn c_2 hf
      refine lv_iconst (v := 1) hx hb dX1_isPost_16 (by decide) ?_
      refine lv_goto (tgt := 21) hx hb dX1_isPost_17 (by decide) ?_
      exact kr _ (Option.some.inj hf).symm (by decide) _ _ dX1_isPost_21

theorem tF_isPost (l : Launch) (X : CX) (fa : Nat → Nat) (rest : va_W) (w : FW) (x1 : Int64) (r : Int32) (hf : fF_isPost w x1 = some r) : RO l yX1_isPost cX1_isPost 3 (some .boolean) 0 0 [.ref (fa 0), .long x1] X (FP X fa w ++ rest) (some (.int r)) := by
  refine RO.mk (by decide) (Nat.le_of_ble_eq_true rfl) ?_
  intro p e s m below meth c B hr hlk hK hP ls hl
  exact wF_isPost B hK hP hf (fun r h hn pc ls hd => by cases h; exact w_zretR B hr hlk hn rfl hd) hl
end S_F_isPost

section K_cFC_isIn
variable {p : Program} {l : Launch} {e : Env} {R : Room} {s : State} {m : MethodId} {args : Array Value} {below : List Frame} {meth : Method} {c : Code} {H : Heap} {locs : List Loc} {cells slots : Nat} {Q : State → Prop} {cc : ByteArray} {nL pc : Nat} {ls : Array Slot} {st : List Value} {X : CX} {rest : va_W}
theorem cFC_isIn (B : CallFix p m c cc nL s args lw_all RX1) (hK : KK X s) {x0 : Int32} {x1 : Int32} {x2 : Int32} {r : Int32} (hf : fC_isIn x0 x1 x2 = some r) (hR : 0 + 1 ≤ R.frames ∧ 22 ≤ R.locals) (hcs : cells ≤ R.cells ∧ slots ≤ R.slots) (hl : ls.size = nL) (hcat : (st.map fun v => v.category).sum ≤ 8) (hdg : decode cc pc = .ok (.invokestatic 84, 3)) (kk : W p l e R s m args below meth c H locs cells slots Q (F0 m (pc + 3) ls (.int r :: st))) : W p l e R s m args below meth c H locs cells slots Q (F0 m pc ls (.int x2 :: .int x1 :: .int x0 :: st)) :=
  w_afterR (w_rSN_ST (As := [.int x0, .int x1, .int x2]) B hK (tC_isIn l x0 x1 x2 r hf) q696 q342 q87 q343 (n := 3) (by decide +kernel) hR hcs rfl hl rfl hcat hdg) kk
end K_cFC_isIn

section S_F_isWalker
variable {p : Program} {l : Launch} {e : Env} {R : Room} {s : State} {m : MethodId} {args : Array Value} {below : List Frame} {meth : Method} {c : Code} {H : Heap} {locs : List Loc} {cells slots : Nat} {Q : State → Prop} {cc : ByteArray} {nL pc : Nat} {ls : Array Slot} {st : List Value} {X : CX} {rest : va_W} {fa : Nat → Nat}
noncomputable def fF_isWalker (w : FW) (x1 : Int32) : Option (Int32) :=
  (fC_isIn x1 0 ((w.1 9) - 1)).bind fun r_1 =>
  (bz r_1).bind fun z_3 =>
  some z_3

set_option maxHeartbeats 4000000 in
theorem wF_isWalker (B : CallFix p m c cX1_isWalker 2 s args lw_all RX1) (hK : KK X s) {w : FW} (hP : va_P X.2.2.1 vwCl (FP X fa w ++ rest) s.heap) {x1 : Int32} {res : Int32} (hf : fF_isWalker w x1 = some res) (kr : ∀ (r : Int32), res = r → narrow .boolean (.int r) = .int r → ∀ (pc : Nat) (ls : Array Slot), decode cX1_isWalker pc = .ok (.ireturn, 1) → W p l e (RM 1 22) s m args below meth c s.heap [] 0 0 Q (F0 m pc ls [.int r])) {ls : Array Slot} (hl : lv_has ls 2 [(0, .ref (fa 0)), (1, .int x1)]) : W p l e (RM 1 22) s m args below meth c s.heap [] 0 0 Q (F0 m 0 ls []) := by
  have hx := B.1
  have hb := B.2.1
  unfold fF_isWalker at hf
  refine lv_iload_n hx hb dX1_isWalker_0 rfl (lv_at hl 1 rfl) ?_
  refine lv_iconst (v := 0) hx hb dX1_isWalker_1 (by decide) ?_
  refine lv_aload_n hx hb dX1_isWalker_2 rfl (lv_at hl 0 rfl) ?_
  refine fe_fen_g9 B hK hP dX1_isWalker_3 ?_
  refine lv_iconst (v := 1) hx hb dX1_isWalker_6 (by decide) ?_
  refine lv_isub hx hb dX1_isWalker_7 ?_
  obtain ⟨r_1, e_2, hf⟩ := bo hf
  refine cFC_isIn B hK e_2 ⟨Nat.le_of_ble_eq_true rfl, Nat.le_of_ble_eq_true rfl⟩ ⟨Nat.zero_le _, Nat.zero_le _⟩ hl.1 (Nat.le_of_ble_eq_true rfl) dX1_isWalker_8 ?_
  obtain ⟨z_3, e_4, hf⟩ := bo hf
  obtain ⟨n_5, hz⟩ := bz_in e_4
  rw [← hz] at hf
  exact kr _ (Option.some.inj hf).symm n_5 _ _ dX1_isWalker_11

theorem tF_isWalker (l : Launch) (X : CX) (fa : Nat → Nat) (rest : va_W) (w : FW) (x1 : Int32) (r : Int32) (hf : fF_isWalker w x1 = some r) : RO l yX1_isWalker cX1_isWalker 2 (some .boolean) 1 22 [.ref (fa 0), .int x1] X (FP X fa w ++ rest) (some (.int r)) := by
  refine RO.mk (by decide) (Nat.le_of_ble_eq_true rfl) ?_
  intro p e s m below meth c B hr hlk hK hP ls hl
  exact wF_isWalker B hK hP hf (fun r h hn pc ls hd => by cases h; exact w_zretR B hr hlk hn rfl hd) hl
end S_F_isWalker

section S_F_isLost
variable {p : Program} {l : Launch} {e : Env} {R : Room} {s : State} {m : MethodId} {args : Array Value} {below : List Frame} {meth : Method} {c : Code} {H : Heap} {locs : List Loc} {cells slots : Nat} {Q : State → Prop} {cc : ByteArray} {nL pc : Nat} {ls : Array Slot} {st : List Value} {X : CX} {rest : va_W} {fa : Nat → Nat}
noncomputable def fF_isLost (w : FW) (x1 : Int32) : Option (Int32) :=
  (rd (w.2.1 3) 4 x1).bind fun v_1 =>
  if 5 ≤ v_1 then
    some 0
  else
    some 1

set_option maxHeartbeats 4000000 in
theorem wF_isLost (B : CallFix p m c cX1_isLost 2 s args lw_all RX1) (hK : KK X s) {w : FW} (hP : va_P X.2.2.1 vwCl (FP X fa w ++ rest) s.heap) {x1 : Int32} {res : Int32} (hf : fF_isLost w x1 = some res) (kr : ∀ (r : Int32), res = r → narrow .boolean (.int r) = .int r → ∀ (pc : Nat) (ls : Array Slot), decode cX1_isLost pc = .ok (.ireturn, 1) → W p l e (RM 0 0) s m args below meth c s.heap [] 0 0 Q (F0 m pc ls [.int r])) {ls : Array Slot} (hl : lv_has ls 2 [(0, .ref (fa 0)), (1, .int x1)]) : W p l e (RM 0 0) s m args below meth c s.heap [] 0 0 Q (F0 m 0 ls []) := by
  have hx := B.1
  have hb := B.2.1
  unfold fF_isLost at hf
  refine lv_aload_n hx hb dX1_isLost_0 rfl (lv_at hl 0 rfl) ?_
  refine fe_fen_g3 B hK hP dX1_isLost_1 ?_
  refine lv_iload_n hx hb dX1_isLost_4 rfl (lv_at hl 1 rfl) ?_
  obtain ⟨v_1, e_2, hf⟩ := bo hf
  refine fe_sure_l B hK hP e_2 dX1_isLost_5 ?_
  refine lv_iconst (v := 5) hx hb dX1_isLost_6 (by decide) ?_
  refine lv_icmp_ge (tgt := 14) hx hb dX1_isLost_7 (by decide) (fun c_3 => ?_) (fun c_3 => ?_)
  · have hf := ifp c_3 hf
    refine lv_iconst (v := 0) hx hb dX1_isLost_14 (by decide) ?_
    exact kr _ (Option.some.inj hf).symm (by decide) _ _ dX1_isLost_15
  · have hf := ifn c_3 hf
    refine lv_iconst (v := 1) hx hb dX1_isLost_10 (by decide) ?_
    refine lv_goto (tgt := 15) hx hb dX1_isLost_11 (by decide) ?_
    exact kr _ (Option.some.inj hf).symm (by decide) _ _ dX1_isLost_15

theorem tF_isLost (l : Launch) (X : CX) (fa : Nat → Nat) (rest : va_W) (w : FW) (x1 : Int32) (r : Int32) (hf : fF_isLost w x1 = some r) : RO l yX1_isLost cX1_isLost 2 (some .boolean) 0 0 [.ref (fa 0), .int x1] X (FP X fa w ++ rest) (some (.int r)) := by
  refine RO.mk (by decide) (Nat.le_of_ble_eq_true rfl) ?_
  intro p e s m below meth c B hr hlk hK hP ls hl
  exact wF_isLost B hK hP hf (fun r h hn pc ls hd => by cases h; exact w_zretR B hr hlk hn rfl hd) hl
end S_F_isLost

section K_cF_isLost
variable {p : Program} {l : Launch} {e : Env} {R : Room} {s : State} {m : MethodId} {args : Array Value} {below : List Frame} {meth : Method} {c : Code} {H : Heap} {locs : List Loc} {cells slots : Nat} {Q : State → Prop} {cc : ByteArray} {nL pc : Nat} {ls : Array Slot} {st : List Value} {X : CX} {rest : va_W} {fa : Nat → Nat}
theorem cF_isLost (B : CallFix p m c cc nL s args lw_all RX1) (hK : KK X s) (hS : va_S (Az X) s.heap H locs) {w : FW} (hP : va_P X.2.2.1 vwCl (FP X fa w ++ rest) H) {x1 : Int32} {r : Int32} (hf : fF_isLost w x1 = some r) (hR : 0 + 1 ≤ R.frames ∧ 21 ≤ R.locals) (hcs : cells ≤ R.cells ∧ slots ≤ R.slots) (hl : ls.size = nL) (hcat : (st.map fun v => v.category).sum ≤ 8) (hdg : decode cc pc = .ok (.invokevirtual 91, 3)) (kk : W p l e R s m args below meth c H locs cells slots Q (F0 m (pc + 3) ls (.int r :: st))) : W p l e R s m args below meth c H locs cells slots Q (F0 m pc ls (.int x1 :: .ref (fa 0) :: st)) :=
  w_afterR (w_rV_RO (ws := FP X fa w ++ rest) (As := [.int x1]) B hK hS hP (tF_isLost l X fa rest w x1 r hf) (lw_V q512 q513 q514 q88 q515) 0 rfl rfl (n := 1) (by decide +kernel) hR hcs rfl hl rfl hcat hdg) kk
end K_cF_isLost

section S_F_lost
variable {p : Program} {l : Launch} {e : Env} {R : Room} {s : State} {m : MethodId} {args : Array Value} {below : List Frame} {meth : Method} {c : Code} {H : Heap} {locs : List Loc} {cells slots : Nat} {Q : State → Prop} {cc : ByteArray} {nL pc : Nat} {ls : Array Slot} {st : List Value} {X : CX} {rest : va_W} {fa : Nat → Nat}
noncomputable def fF_lost_L10 (w : FW) (x1 : Int32) : Option ((Int32 × FW) ⊕ (FW)) :=
  if (w.1 9) ≤ x1 then
    some (.inr w)
  else
    (fF_isLost w x1).bind fun r_2 =>
    if r_2 = 0 then
      (some (x1 + 1)).bind fun x_5 =>
      some (.inl (x_5, w))
    else
      (rd (w.2.1 2) 4 x1).bind fun v_7 =>
      ((sto (w.2.1 11) 4 (w.1 11) v_7).map (fun g_11 => fau w 11 g_11)).bind fun w_9 =>
      (some (fpt w_9 11 ((w_9.1 11) + 1))).bind fun w_12 =>
      (some (x1 + 1)).bind fun x_14 =>
      some (.inl (x_14, w_12))

set_option maxHeartbeats 4000000 in
theorem wF_lost_L10 (B : CallFix p m c cX1_lost 2 s args lw_all RX1) (hK : KK X s) {w : FW} {x1 : Int32} {res : (Int32 × FW) ⊕ (FW)} (hf : fF_lost_L10 w x1 = some res) (kc : ∀ (y1 : Int32) (w1 : FW), res = .inl (y1, w1) → ∀ (H : Heap) (locs : List Loc), GG X (FP X fa w1 ++ rest) s.heap H locs → ∀ (ls : Array Slot), lv_has ls 2 [(0, .ref (fa 0)), (1, .int y1)] → W p l e (RMw 1 0 0 21) s m args below meth c H locs 0 0 Q (F0 m 10 ls [])) (ke66 : ∀ (w1 : FW), res = .inr w1 → ∀ (H : Heap) (locs : List Loc), GG X (FP X fa w1 ++ rest) s.heap H locs → ∀ (ls : Array Slot), lv_has ls 2 [(0, .ref (fa 0))] → W p l e (RMw 1 0 0 21) s m args below meth c H locs 0 0 Q (F0 m 66 ls [])) {H : Heap} {locs : List Loc} (hG : GG X (FP X fa w ++ rest) s.heap H locs) {ls : Array Slot} (hl : lv_has ls 2 [(0, .ref (fa 0)), (1, .int x1)]) : W p l e (RMw 1 0 0 21) s m args below meth c H locs 0 0 Q (F0 m 10 ls []) := by
  have hx := B.1
  have hb := B.2.1
  unfold fF_lost_L10 at hf
  refine lv_iload_n hx hb dX1_lost_10 rfl (lv_at hl 1 rfl) ?_
  refine lv_aload_n hx hb dX1_lost_11 rfl (lv_at hl 0 rfl) ?_
  refine fe_fen_g9 B hK hG.1 dX1_lost_12 ?_
  refine lv_icmp_ge (tgt := 66) hx hb dX1_lost_15 (by decide) (fun c_1 => ?_) (fun c_1 => ?_)
  · have hf := ifp c_1 hf
    exact ke66 _ (Option.some.inj hf).symm _ _ hG _ (lv_sub hl [0] rfl)
  · have hf := ifn c_1 hf
    refine lv_aload_n hx hb dX1_lost_18 rfl (lv_at hl 0 rfl) ?_
    refine lv_iload_n hx hb dX1_lost_19 rfl (lv_at hl 1 rfl) ?_
    obtain ⟨r_2, e_3, hf⟩ := bo hf
    refine cF_isLost B hK hG.2.2 hG.1 e_3 ⟨Nat.le_of_ble_eq_true rfl, Nat.le_of_ble_eq_true rfl⟩ ⟨Nat.zero_le _, Nat.zero_le _⟩ hl.1 (Nat.le_of_ble_eq_true rfl) dX1_lost_20 ?_
    refine lv_if_eq (tgt := 60) hx hb dX1_lost_23 (by decide) (fun c_4 => ?_) (fun c_4 => ?_)
    · have hf := ifp c_4 hf
      obtain ⟨x_5, e_6, hf⟩ := bo hf
      refine w_iinc (k := 1) (lv' := [(1, .int x_5), (0, .ref (fa 0))]) e_6 hx hb dX1_lost_60 hl rfl (by decide) rfl (fun ls hl => ?_)
      refine lv_goto (tgt := 10) hx hb dX1_lost_63 (by decide) ?_
      exact kc _ _ (Option.some.inj hf).symm _ _ hG _ (lv_sub hl [1, 0] rfl)
    · have hf := ifn c_4 hf
      refine lv_aload_n hx hb dX1_lost_26 rfl (lv_at hl 0 rfl) ?_
      refine fe_fen_g4 B hK hG.1 dX1_lost_27 ?_
      refine fe_lost_g0 B hK hG.1 dX1_lost_30 ?_
      refine lv_aload_n hx hb dX1_lost_33 rfl (lv_at hl 0 rfl) ?_
      refine fe_fen_g4 B hK hG.1 dX1_lost_34 ?_
      refine fe_lost_g1 B hK hG.1 dX1_lost_37 ?_
      refine lv_aload_n hx hb dX1_lost_40 rfl (lv_at hl 0 rfl) ?_
      refine fe_fen_g2 B hK hG.1 dX1_lost_41 ?_
      refine lv_iload_n hx hb dX1_lost_44 rfl (lv_at hl 1 rfl) ?_
      obtain ⟨v_7, e_8, hf⟩ := bo hf
      refine fe_cell_l B hK hG.1 e_8 dX1_lost_45 ?_
      obtain ⟨w_9, e_10, hf⟩ := bo hf
      refine fe_lcell_s B hK hG e_10 dX1_lost_46 (fun H locs hG => ?_)
      refine lv_aload_n hx hb dX1_lost_47 rfl (lv_at hl 0 rfl) ?_
      refine fe_fen_g4 B hK hG.1 dX1_lost_48 ?_
      refine lv_dup hx hb dX1_lost_51 rfl ?_
      refine fe_lost_g1 B hK hG.1 dX1_lost_52 ?_
      refine lv_iconst (v := 1) hx hb dX1_lost_55 (by decide) ?_
      refine lv_iadd hx hb dX1_lost_56 ?_
      obtain ⟨w_12, e_13, hf⟩ := bo hf
      refine fe_lost_p1 B hK hG e_13 dX1_lost_57 (fun H locs hG => ?_)
      obtain ⟨x_14, e_15, hf⟩ := bo hf
      refine w_iinc (k := 1) (lv' := [(1, .int x_14), (0, .ref (fa 0))]) e_15 hx hb dX1_lost_60 hl rfl (by decide) rfl (fun ls hl => ?_)
      refine lv_goto (tgt := 10) hx hb dX1_lost_63 (by decide) ?_
      exact kc _ _ (Option.some.inj hf).symm _ _ hG _ (lv_sub hl [1, 0] rfl)

set_option maxHeartbeats 4000000 in
theorem vF_lost_L10 (B : CallFix p m c cX1_lost 2 s args lw_all RX1) (hK : KK X s) {w : FW} {x1 : Int32} {res : FW} (hf : lp (fun q : Int32 × FW => fF_lost_L10 q.2 q.1) (x1, w) = some res) (ke66 : ∀ (w1 : FW), res = w1 → ∀ (H : Heap) (locs : List Loc), GG X (FP X fa w1 ++ rest) s.heap H locs → ∀ (ls : Array Slot), lv_has ls 2 [(0, .ref (fa 0))] → W p l e (RMw 1 0 0 21) s m args below meth c H locs 0 0 Q (F0 m 66 ls [])) {H : Heap} {locs : List Loc} (hG : GG X (FP X fa w ++ rest) s.heap H locs) {ls : Array Slot} (hl : lv_has ls 2 [(0, .ref (fa 0)), (1, .int x1)]) : W p l e (RMw 1 0 0 21) s m args below meth c H locs 0 0 Q (F0 m 10 ls []) := by
  refine lp_ind (r := res) (P := fun q : Int32 × FW => ∀ (H : Heap) (locs : List Loc) (ls : Array Slot), GG X (FP X fa q.2 ++ rest) s.heap H locs → lv_has ls 2 [(0, .ref (fa 0)), (1, .int q.1)] → W p l e (RMw 1 0 0 21) s m args below meth c H locs 0 0 Q (F0 m 10 ls [])) ?_ ?_ _ hf _ _ _ hG hl
  · intro q hb H locs ls hG hl
    exact wF_lost_L10 B hK hb (fun _ _ h => by cases h) (fun z0 h => ke66 z0 (Sum.inr.inj h)) hG hl
  · intro q q2 hb ih H locs ls hG hl
    exact wF_lost_L10 B hK hb (fun z0 z1 h => by cases h; exact fun H locs hG ls hl => ih H locs ls hG hl) (fun _ h => by cases h) hG hl

noncomputable def fF_lost (w : FW)  : Option (FW) :=
  (some (fpt w 11 0)).bind fun w_1 =>
  (lp (fun q : Int32 × FW => fF_lost_L10 q.2 q.1) (0, w_1)).bind (
    fun q_4 => (fun (w_3 : FW) =>
      some w_3
    ) q_4
  )

set_option maxHeartbeats 4000000 in
theorem wF_lost (B : CallFix p m c cX1_lost 2 s args lw_all RX1) (hK : KK X s) {w : FW}  {res : FW} (hf : fF_lost w  = some res) (kr : ∀ (w1 : FW), res = w1 → ∀ (H : Heap) (locs : List Loc), GG X (FP X fa w1 ++ rest) s.heap H locs → ∀ (pc : Nat) (ls : Array Slot), decode cX1_lost pc = .ok (.areturn, 1) → W p l e (RMw 1 0 0 21) s m args below meth c H locs 0 0 Q (F0 m pc ls [.ref (fa 5)])) {H : Heap} {locs : List Loc} (hG : GG X (FP X fa w ++ rest) s.heap H locs) {ls : Array Slot} (hl : lv_has ls 2 [(0, .ref (fa 0))]) : W p l e (RMw 1 0 0 21) s m args below meth c H locs 0 0 Q (F0 m 0 ls []) := by
  have hx := B.1
  have hb := B.2.1
  unfold fF_lost at hf
  refine lv_aload_n hx hb dX1_lost_0 rfl (lv_at hl 0 rfl) ?_
  refine fe_fen_g4 B hK hG.1 dX1_lost_1 ?_
  refine lv_iconst (v := 0) hx hb dX1_lost_4 (by decide) ?_
  obtain ⟨w_1, e_2, hf⟩ := bo hf
  refine fe_lost_p1 B hK hG e_2 dX1_lost_5 (fun H locs hG => ?_)
  refine lv_iconst (v := 0) hx hb dX1_lost_8 (by decide) ?_
  refine lv_istore_n (lv' := [(1, .int 0), (0, .ref (fa 0))]) hx hb dX1_lost_9 rfl hl (by decide) rfl (fun ls hl => ?_)
  obtain ⟨w_3, e_5, hf⟩ := bo hf
  try dsimp only at hf
  refine vF_lost_L10 B hK e_5 ?_ hG (lv_sub hl [1, 0] rfl)
  intro z0 hz
  cases hz
  intro H locs hG ls hl
  refine lv_aload_n hx hb dX1_lost_66 rfl (lv_at hl 0 rfl) ?_
  refine fe_fen_g4 B hK hG.1 dX1_lost_67 ?_
  exact kr _ (Option.some.inj hf).symm _ _ hG _ _ dX1_lost_70

theorem tF_lost (l : Launch) (X : CX) (fa : Nat → Nat) (rest : va_W) (w w' : FW)  (hf : fF_lost w  = some w') : RW l yX1_lost cX1_lost 2 (some (.object "PointAtWhoIsLost$Lost")) 1 0 0 21 [.ref (fa 0)] X (FP X fa w ++ rest) (FP X fa (w') ++ rest) (some (.ref (fa 5))) := by
  refine RW.mk (by decide) (Nat.le_of_ble_eq_true rfl) ?_
  intro p e s m below meth c B hr hlk hK hG ls hl
  exact wF_lost B hK hf (fun w h H locs hG pc ls hd => by cases h; exact w_aretW B hr (by first | exact Or.inl ⟨_, rfl⟩ | exact Or.inr ⟨_, rfl⟩) hlk hG hd) hG hl
end S_F_lost

section K_cF_isDry
variable {p : Program} {l : Launch} {e : Env} {R : Room} {s : State} {m : MethodId} {args : Array Value} {below : List Frame} {meth : Method} {c : Code} {H : Heap} {locs : List Loc} {cells slots : Nat} {Q : State → Prop} {cc : ByteArray} {nL pc : Nat} {ls : Array Slot} {st : List Value} {X : CX} {rest : va_W} {fa : Nat → Nat}
theorem cF_isDry (B : CallFix p m c cc nL s args lw_all RX1) (hK : KK X s) (hS : va_S (Az X) s.heap H locs) {w : FW} (hP : va_P X.2.2.1 vwCl (FP X fa w ++ rest) H) {x1 : Int64} {r : Int32} (hf : fF_isDry w x1 = some r) (hR : 2 + 1 ≤ R.frames ∧ 64 ≤ R.locals) (hcs : cells ≤ R.cells ∧ slots ≤ R.slots) (hl : ls.size = nL) (hcat : (st.map fun v => v.category).sum ≤ 8) (hdg : decode cc pc = .ok (.invokevirtual 95, 3)) (kk : W p l e R s m args below meth c H locs cells slots Q (F0 m (pc + 3) ls (.int r :: st))) : W p l e R s m args below meth c H locs cells slots Q (F0 m pc ls (.long x1 :: .ref (fa 0) :: st)) :=
  w_afterR (w_rV_RO (ws := FP X fa w ++ rest) (As := [.long x1]) B hK hS hP (tF_isDry l X fa rest w x1 r hf) (lw_V q1159 q1160 q1161 q88 q1162) 0 rfl rfl (n := 1) (by decide +kernel) hR hcs rfl hl rfl hcat hdg) kk
end K_cF_isDry

section S_F_next
variable {p : Program} {l : Launch} {e : Env} {R : Room} {s : State} {m : MethodId} {args : Array Value} {below : List Frame} {meth : Method} {c : Code} {H : Heap} {locs : List Loc} {cells slots : Nat} {Q : State → Prop} {cc : ByteArray} {nL pc : Nat} {ls : Array Slot} {st : List Value} {X : CX} {rest : va_W} {fa : Nat → Nat}
noncomputable def fF_next_L4 (w : FW) (x2 : Int32) : Option ((Int32) ⊕ (Int32)) :=
  if 70 ≤ x2 then
    some (.inr x2)
  else
    (fF_isDry w (x2.toInt64)).bind fun r_2 =>
    if r_2 = 0 then
      (some (x2 + 1)).bind fun x_5 =>
      some (.inl x_5)
    else
      some (.inr x2)

set_option maxHeartbeats 4000000 in
theorem wF_next_L4 (B : CallFix p m c cX1_next 3 s args lw_all RX1) (hK : KK X s) {w : FW} (hP : va_P X.2.2.1 vwCl (FP X fa w ++ rest) s.heap) {x2 : Int32} {res : (Int32) ⊕ (Int32)} (hf : fF_next_L4 w x2 = some res) (kc : ∀ (y2 : Int32), res = .inl y2 → ∀ (ls : Array Slot), lv_has ls 3 [(0, .ref (fa 0)), (2, .int y2)] → W p l e (RM 3 64) s m args below meth c s.heap [] 0 0 Q (F0 m 4 ls [])) (ke25 : ∀ (y2 : Int32), res = .inr y2 → ∀ (ls : Array Slot), lv_has ls 3 [(2, .int y2)] → W p l e (RM 3 64) s m args below meth c s.heap [] 0 0 Q (F0 m 25 ls [])) {ls : Array Slot} (hl : lv_has ls 3 [(0, .ref (fa 0)), (2, .int x2)]) : W p l e (RM 3 64) s m args below meth c s.heap [] 0 0 Q (F0 m 4 ls []) := by
  have hx := B.1
  have hb := B.2.1
  unfold fF_next_L4 at hf
  refine lv_iload_n hx hb dX1_next_4 rfl (lv_at hl 1 rfl) ?_
  refine lv_bipush (v := 70) hx hb dX1_next_5 (by decide) ?_
  refine lv_icmp_ge (tgt := 25) hx hb dX1_next_7 (by decide) (fun c_1 => ?_) (fun c_1 => ?_)
  · have hf := ifp c_1 hf
    exact ke25 _ (Option.some.inj hf).symm _ (lv_sub hl [1] rfl)
  · have hf := ifn c_1 hf
    refine lv_aload_n hx hb dX1_next_10 rfl (lv_at hl 0 rfl) ?_
    refine lv_iload_n hx hb dX1_next_11 rfl (lv_at hl 1 rfl) ?_
    refine lv_i2l hx hb dX1_next_12 rfl ?_
    obtain ⟨r_2, e_3, hf⟩ := bo hf
    refine cF_isDry B hK va_S.rf hP e_3 ⟨Nat.le_of_ble_eq_true rfl, Nat.le_of_ble_eq_true rfl⟩ ⟨Nat.zero_le _, Nat.zero_le _⟩ hl.1 (Nat.le_of_ble_eq_true rfl) dX1_next_13 ?_
    refine lv_if_ne (tgt := 25) hx hb dX1_next_16 (by decide) (fun c_4 => ?_) (fun c_4 => ?_)
    · have hf := ifn c_4 hf
      exact ke25 _ (Option.some.inj hf).symm _ (lv_sub hl [1] rfl)
    · have hf := ifp c_4 hf
      obtain ⟨x_5, e_6, hf⟩ := bo hf
      refine w_iinc (k := 1) (lv' := [(2, .int x_5), (0, .ref (fa 0))]) e_6 hx hb dX1_next_19 hl rfl (by decide) rfl (fun ls hl => ?_)
      refine lv_goto (tgt := 4) hx hb dX1_next_22 (by decide) ?_
      exact kc _ (Option.some.inj hf).symm _ (lv_sub hl [1, 0] rfl)

set_option maxHeartbeats 4000000 in
theorem vF_next_L4 (B : CallFix p m c cX1_next 3 s args lw_all RX1) (hK : KK X s) {w : FW} (hP : va_P X.2.2.1 vwCl (FP X fa w ++ rest) s.heap) {x2 : Int32} {res : Int32} (hf : lp (fun q : Int32 => fF_next_L4 w q) x2 = some res) (ke25 : ∀ (y2 : Int32), res = y2 → ∀ (ls : Array Slot), lv_has ls 3 [(2, .int y2)] → W p l e (RM 3 64) s m args below meth c s.heap [] 0 0 Q (F0 m 25 ls [])) {ls : Array Slot} (hl : lv_has ls 3 [(0, .ref (fa 0)), (2, .int x2)]) : W p l e (RM 3 64) s m args below meth c s.heap [] 0 0 Q (F0 m 4 ls []) := by
  refine lp_ind (r := res) (P := fun q : Int32 => ∀ (ls : Array Slot), lv_has ls 3 [(0, .ref (fa 0)), (2, .int q)] → W p l e (RM 3 64) s m args below meth c s.heap [] 0 0 Q (F0 m 4 ls [])) ?_ ?_ _ hf _ hl
  · intro q hb ls hl
    exact wF_next_L4 B hK hP hb (fun _ h => by cases h) (fun z0 h => ke25 z0 (Sum.inr.inj h)) hl
  · intro q q2 hb ih ls hl
    exact wF_next_L4 B hK hP hb (fun z0 h => by cases h; exact fun ls hl => ih ls hl) (fun _ h => by cases h) hl

noncomputable def fF_next_J25 (w : FW) (x2 : Int32) : Option (Int32) :=
  if 70 ≤ x2 then
    some (-1)
  else
    some x2

set_option maxHeartbeats 4000000 in
theorem wF_next_J25 (B : CallFix p m c cX1_next 3 s args lw_all RX1) (hK : KK X s) {w : FW} (hP : va_P X.2.2.1 vwCl (FP X fa w ++ rest) s.heap) {x2 : Int32} {res : Int32} (hf : fF_next_J25 w x2 = some res) (kr : ∀ (r : Int32), res = r → ∀ (pc : Nat) (ls : Array Slot), decode cX1_next pc = .ok (.ireturn, 1) → W p l e (RM 3 64) s m args below meth c s.heap [] 0 0 Q (F0 m pc ls [.int r])) {ls : Array Slot} (hl : lv_has ls 3 [(2, .int x2)]) : W p l e (RM 3 64) s m args below meth c s.heap [] 0 0 Q (F0 m 25 ls []) := by
  have hx := B.1
  have hb := B.2.1
  unfold fF_next_J25 at hf
  refine lv_iload_n hx hb dX1_next_25 rfl (lv_at hl 0 rfl) ?_
  refine lv_bipush (v := 70) hx hb dX1_next_26 (by decide) ?_
  refine lv_icmp_ge (tgt := 35) hx hb dX1_next_28 (by decide) (fun c_1 => ?_) (fun c_1 => ?_)
  · have hf := ifp c_1 hf
    refine lv_iconst (v := (-1)) hx hb dX1_next_35 (by decide) ?_
    exact kr _ (Option.some.inj hf).symm _ _ dX1_next_36
  · have hf := ifn c_1 hf
    refine lv_iload_n hx hb dX1_next_31 rfl (lv_at hl 0 rfl) ?_
    refine lv_goto (tgt := 36) hx hb dX1_next_32 (by decide) ?_
    exact kr _ (Option.some.inj hf).symm _ _ dX1_next_36

noncomputable def fF_next (w : FW) (x1 : Int32) : Option (Int32) :=
  (some (x1 + 1)).bind fun x_1 =>
  (lp (fun q : Int32 => fF_next_L4 w q) x_1).bind (
    fun q_4 => (fun (y_3 : Int32) =>
      fF_next_J25 w y_3
    ) q_4
  )

set_option maxHeartbeats 4000000 in
theorem wF_next (B : CallFix p m c cX1_next 3 s args lw_all RX1) (hK : KK X s) {w : FW} (hP : va_P X.2.2.1 vwCl (FP X fa w ++ rest) s.heap) {x1 : Int32} {res : Int32} (hf : fF_next w x1 = some res) (kr : ∀ (r : Int32), res = r → ∀ (pc : Nat) (ls : Array Slot), decode cX1_next pc = .ok (.ireturn, 1) → W p l e (RM 3 64) s m args below meth c s.heap [] 0 0 Q (F0 m pc ls [.int r])) {ls : Array Slot} (hl : lv_has ls 3 [(0, .ref (fa 0)), (1, .int x1)]) : W p l e (RM 3 64) s m args below meth c s.heap [] 0 0 Q (F0 m 0 ls []) := by
  have hx := B.1
  have hb := B.2.1
  unfold fF_next at hf
  refine lv_iload_n hx hb dX1_next_0 rfl (lv_at hl 1 rfl) ?_
  refine lv_iconst (v := 1) hx hb dX1_next_1 (by decide) ?_
  refine lv_iadd hx hb dX1_next_2 ?_
  obtain ⟨x_1, e_2, hf⟩ := bo hf
  refine w_istore_n (lv' := [(2, .int x_1), (0, .ref (fa 0)), (1, .int x1)]) e_2 hx hb dX1_next_3 rfl hl (by decide) rfl (fun ls hl => ?_)
  obtain ⟨y_3, e_5, hf⟩ := bo hf
  try dsimp only at hf
  refine vF_next_L4 B hK hP e_5 ?_ (lv_sub hl [1, 0] rfl)
  intro z0 hz
  cases hz
  intro ls hl
  exact wF_next_J25 B hK hP hf kr hl

theorem tF_next (l : Launch) (X : CX) (fa : Nat → Nat) (rest : va_W) (w : FW) (x1 : Int32) (r : Int32) (hf : fF_next w x1 = some r) : RO l yX1_next cX1_next 3 (some .int) 3 64 [.ref (fa 0), .int x1] X (FP X fa w ++ rest) (some (.int r)) := by
  refine RO.mk (by decide) (Nat.le_of_ble_eq_true rfl) ?_
  intro p e s m below meth c B hr hlk hK hP ls hl
  exact wF_next B hK hP hf (fun r h pc ls hd => by cases h; exact w_iretR B hr hlk rfl hd) hl
end S_F_next

section S_F_beside
variable {p : Program} {l : Launch} {e : Env} {R : Room} {s : State} {m : MethodId} {args : Array Value} {below : List Frame} {meth : Method} {c : Code} {H : Heap} {locs : List Loc} {cells slots : Nat} {Q : State → Prop} {cc : ByteArray} {nL pc : Nat} {ls : Array Slot} {st : List Value} {X : CX} {rest : va_W} {fa : Nat → Nat}
noncomputable def fF_beside_J57 (w : FW) (x3 : Int32) (x4 : Int32) (t0 : Int32) : Option (Int32) :=
  if t0 = 0 then
    some (-1)
  else
    (fF_isBog w ((10 * x3) + x4)).bind fun r_2 =>
    if r_2 = 0 then
      some ((10 * x3) + x4)
    else
      some (-1)

set_option maxHeartbeats 4000000 in
theorem wF_beside_J57 (B : CallFix p m c cX1_beside 6 s args lw_all RX1) (hK : KK X s) {w : FW} (hP : va_P X.2.2.1 vwCl (FP X fa w ++ rest) s.heap) {x3 : Int32} {x4 : Int32} {t0 : Int32} {res : Int32} (hf : fF_beside_J57 w x3 x4 t0 = some res) (kr : ∀ (r : Int32), res = r → ∀ (pc : Nat) (ls : Array Slot), decode cX1_beside pc = .ok (.ireturn, 1) → W p l e (RM 2 42) s m args below meth c s.heap [] 0 0 Q (F0 m pc ls [.int r])) {ls : Array Slot} (hl : lv_has ls 6 [(0, .ref (fa 0)), (3, .int x3), (4, .int x4)]) : W p l e (RM 2 42) s m args below meth c s.heap [] 0 0 Q (F0 m 57 ls [.int t0]) := by
  have hx := B.1
  have hb := B.2.1
  unfold fF_beside_J57 at hf
  refine lv_istore (lv' := [(5, .int t0), (0, .ref (fa 0)), (3, .int x3), (4, .int x4)]) hx hb dX1_beside_57 hl (by decide) rfl (fun ls hl => ?_)
  refine lv_iload hx hb dX1_beside_59 (lv_at hl 0 rfl) ?_
  refine lv_if_eq (tgt := 88) hx hb dX1_beside_61 (by decide) (fun c_1 => ?_) (fun c_1 => ?_)
  · have hf := ifp c_1 hf
    refine lv_iconst (v := (-1)) hx hb dX1_beside_88 (by decide) ?_
    exact kr _ (Option.some.inj hf).symm _ _ dX1_beside_89
  · have hf := ifn c_1 hf
    refine lv_aload_n hx hb dX1_beside_64 rfl (lv_at hl 1 rfl) ?_
    refine lv_bipush (v := 10) hx hb dX1_beside_65 (by decide) ?_
    refine lv_iload_n hx hb dX1_beside_67 rfl (lv_at hl 2 rfl) ?_
    refine lv_imul hx hb dX1_beside_68 ?_
    refine lv_iload hx hb dX1_beside_69 (lv_at hl 3 rfl) ?_
    refine lv_iadd hx hb dX1_beside_71 ?_
    obtain ⟨r_2, e_3, hf⟩ := bo hf
    refine cF_isBog B hK va_S.rf hP e_3 ⟨Nat.le_of_ble_eq_true rfl, Nat.le_of_ble_eq_true rfl⟩ ⟨Nat.zero_le _, Nat.zero_le _⟩ hl.1 (Nat.le_of_ble_eq_true rfl) dX1_beside_72 ?_
    refine lv_if_ne (tgt := 88) hx hb dX1_beside_75 (by decide) (fun c_4 => ?_) (fun c_4 => ?_)
    · have hf := ifn c_4 hf
      refine lv_iconst (v := (-1)) hx hb dX1_beside_88 (by decide) ?_
      exact kr _ (Option.some.inj hf).symm _ _ dX1_beside_89
    · have hf := ifp c_4 hf
      refine lv_bipush (v := 10) hx hb dX1_beside_78 (by decide) ?_
      refine lv_iload_n hx hb dX1_beside_80 rfl (lv_at hl 2 rfl) ?_
      refine lv_imul hx hb dX1_beside_81 ?_
      refine lv_iload hx hb dX1_beside_82 (lv_at hl 3 rfl) ?_
      refine lv_iadd hx hb dX1_beside_84 ?_
      refine lv_goto (tgt := 89) hx hb dX1_beside_85 (by decide) ?_
      exact kr _ (Option.some.inj hf).symm _ _ dX1_beside_89

noncomputable def fF_beside_J56 (w : FW) (x3 : Int32) (x4 : Int32) : Option (Int32) :=
  fF_beside_J57 w x3 x4 0

set_option maxHeartbeats 4000000 in
theorem wF_beside_J56 (B : CallFix p m c cX1_beside 6 s args lw_all RX1) (hK : KK X s) {w : FW} (hP : va_P X.2.2.1 vwCl (FP X fa w ++ rest) s.heap) {x3 : Int32} {x4 : Int32} {res : Int32} (hf : fF_beside_J56 w x3 x4 = some res) (kr : ∀ (r : Int32), res = r → ∀ (pc : Nat) (ls : Array Slot), decode cX1_beside pc = .ok (.ireturn, 1) → W p l e (RM 2 42) s m args below meth c s.heap [] 0 0 Q (F0 m pc ls [.int r])) {ls : Array Slot} (hl : lv_has ls 6 [(0, .ref (fa 0)), (3, .int x3), (4, .int x4)]) : W p l e (RM 2 42) s m args below meth c s.heap [] 0 0 Q (F0 m 56 ls []) := by
  have hx := B.1
  have hb := B.2.1
  unfold fF_beside_J56 at hf
  refine lv_iconst (v := 0) hx hb dX1_beside_56 (by decide) ?_
  exact wF_beside_J57 B hK hP hf kr hl

noncomputable def fF_beside (w : FW) (x1 : Int32) (x2 : Int32) : Option (Int32) :=
  (rd dwn 5 x2).bind fun v_4 =>
  (some ((x1 / 10) + v_4)).bind fun x_6 =>
  (rd acr 5 x2).bind fun v_11 =>
  (some ((irem x1 10) + v_11)).bind fun x_13 =>
  (fC_isIn x_6 0 ((w.1 6) - 1)).bind fun r_15 =>
  if r_15 = 0 then
    fF_beside_J56 w x_6 x_13
  else
    (fC_isIn x_13 0 ((w.1 6) - 1)).bind fun r_18 =>
    if r_18 = 0 then
      fF_beside_J56 w x_6 x_13
    else
      fF_beside_J57 w x_6 x_13 1

set_option maxHeartbeats 4000000 in
theorem wF_beside (B : CallFix p m c cX1_beside 6 s args lw_all RX1) (hK : KK X s) {w : FW} (hP : va_P X.2.2.1 vwCl (FP X fa w ++ rest) s.heap) {x1 : Int32} {x2 : Int32} {res : Int32} (hf : fF_beside w x1 x2 = some res) (kr : ∀ (r : Int32), res = r → ∀ (pc : Nat) (ls : Array Slot), decode cX1_beside pc = .ok (.ireturn, 1) → W p l e (RM 2 42) s m args below meth c s.heap [] 0 0 Q (F0 m pc ls [.int r])) {ls : Array Slot} (hl : lv_has ls 6 [(0, .ref (fa 0)), (1, .int x1), (2, .int x2)]) : W p l e (RM 2 42) s m args below meth c s.heap [] 0 0 Q (F0 m 0 ls []) := by
  have hx := B.1
  have hb := B.2.1
  unfold fF_beside at hf
  refine lv_iload_n hx hb dX1_beside_0 rfl (lv_at hl 1 rfl) ?_
  refine lv_bipush (v := 10) hx hb dX1_beside_1 (by decide) ?_
  refine lv_idiv hx hb dX1_beside_3 (by decide) ?_
  obtain ⟨t_1, z_2, b_3⟩ := hK.down
  refine w_gdown B hK va_S.rf z_2 dX1_beside_4 ?_
  refine lv_iload_n hx hb dX1_beside_7 rfl (lv_at hl 2 rfl) ?_
  obtain ⟨v_4, e_5, hf⟩ := bo hf
  refine w_tbl B b_3 va_S.rf e_5 dX1_beside_8 ?_
  refine lv_iadd hx hb dX1_beside_9 ?_
  obtain ⟨x_6, e_7, hf⟩ := bo hf
  refine w_istore_n (lv' := [(3, .int x_6), (0, .ref (fa 0)), (1, .int x1), (2, .int x2)]) e_7 hx hb dX1_beside_10 rfl hl (by decide) rfl (fun ls hl => ?_)
  refine lv_iload_n hx hb dX1_beside_11 rfl (lv_at hl 2 rfl) ?_
  refine lv_bipush (v := 10) hx hb dX1_beside_12 (by decide) ?_
  refine w_irem hx hb dX1_beside_14 (by decide) ?_
  obtain ⟨t_8, z_9, b_10⟩ := hK.across
  refine w_gacross B hK va_S.rf z_9 dX1_beside_15 ?_
  refine lv_iload_n hx hb dX1_beside_18 rfl (lv_at hl 3 rfl) ?_
  obtain ⟨v_11, e_12, hf⟩ := bo hf
  refine w_tbl B b_10 va_S.rf e_12 dX1_beside_19 ?_
  refine lv_iadd hx hb dX1_beside_20 ?_
  obtain ⟨x_13, e_14, hf⟩ := bo hf
  refine w_istore (lv' := [(4, .int x_13), (3, .int x_6), (0, .ref (fa 0)), (1, .int x1), (2, .int x2)]) e_14 hx hb dX1_beside_21 hl (by decide) rfl (fun ls hl => ?_)
  refine lv_iload_n hx hb dX1_beside_23 rfl (lv_at hl 1 rfl) ?_
  refine lv_iconst (v := 0) hx hb dX1_beside_24 (by decide) ?_
  refine lv_aload_n hx hb dX1_beside_25 rfl (lv_at hl 2 rfl) ?_
  refine fe_fen_g6 B hK hP dX1_beside_26 ?_
  refine lv_iconst (v := 1) hx hb dX1_beside_29 (by decide) ?_
  refine lv_isub hx hb dX1_beside_30 ?_
  obtain ⟨r_15, e_16, hf⟩ := bo hf
  refine cFC_isIn B hK e_16 ⟨Nat.le_of_ble_eq_true rfl, Nat.le_of_ble_eq_true rfl⟩ ⟨Nat.zero_le _, Nat.zero_le _⟩ hl.1 (Nat.le_of_ble_eq_true rfl) dX1_beside_31 ?_
  refine lv_if_eq (tgt := 56) hx hb dX1_beside_34 (by decide) (fun c_17 => ?_) (fun c_17 => ?_)
  · have hf := ifp c_17 hf
    exact wF_beside_J56 B hK hP hf kr (lv_sub hl [2, 1, 0] rfl)
  · have hf := ifn c_17 hf
    refine lv_iload hx hb dX1_beside_37 (lv_at hl 0 rfl) ?_
    refine lv_iconst (v := 0) hx hb dX1_beside_39 (by decide) ?_
    refine lv_aload_n hx hb dX1_beside_40 rfl (lv_at hl 2 rfl) ?_
    refine fe_fen_g6 B hK hP dX1_beside_41 ?_
    refine lv_iconst (v := 1) hx hb dX1_beside_44 (by decide) ?_
    refine lv_isub hx hb dX1_beside_45 ?_
    obtain ⟨r_18, e_19, hf⟩ := bo hf
    refine cFC_isIn B hK e_19 ⟨Nat.le_of_ble_eq_true rfl, Nat.le_of_ble_eq_true rfl⟩ ⟨Nat.zero_le _, Nat.zero_le _⟩ hl.1 (Nat.le_of_ble_eq_true rfl) dX1_beside_46 ?_
    refine lv_if_eq (tgt := 56) hx hb dX1_beside_49 (by decide) (fun c_20 => ?_) (fun c_20 => ?_)
    · have hf := ifp c_20 hf
      exact wF_beside_J56 B hK hP hf kr (lv_sub hl [2, 1, 0] rfl)
    · have hf := ifn c_20 hf
      refine lv_iconst (v := 1) hx hb dX1_beside_52 (by decide) ?_
      refine lv_goto (tgt := 57) hx hb dX1_beside_53 (by decide) ?_
      exact wF_beside_J57 B hK hP hf kr (lv_sub hl [2, 1, 0] rfl)

theorem tF_beside (l : Launch) (X : CX) (fa : Nat → Nat) (rest : va_W) (w : FW) (x1 : Int32) (x2 : Int32) (r : Int32) (hf : fF_beside w x1 x2 = some r) : RO l yX1_beside cX1_beside 6 (some .int) 2 42 [.ref (fa 0), .int x1, .int x2] X (FP X fa w ++ rest) (some (.int r)) := by
  refine RO.mk (by decide) (Nat.le_of_ble_eq_true rfl) ?_
  intro p e s m below meth c B hr hlk hK hP ls hl
  exact wF_beside B hK hP hf (fun r h pc ls hd => by cases h; exact w_iretR B hr hlk rfl hd) hl
end S_F_beside

section K_cF_beside
variable {p : Program} {l : Launch} {e : Env} {R : Room} {s : State} {m : MethodId} {args : Array Value} {below : List Frame} {meth : Method} {c : Code} {H : Heap} {locs : List Loc} {cells slots : Nat} {Q : State → Prop} {cc : ByteArray} {nL pc : Nat} {ls : Array Slot} {st : List Value} {X : CX} {rest : va_W} {fa : Nat → Nat}
theorem cF_beside (B : CallFix p m c cc nL s args lw_all RX1) (hK : KK X s) (hS : va_S (Az X) s.heap H locs) {w : FW} (hP : va_P X.2.2.1 vwCl (FP X fa w ++ rest) H) {x1 : Int32} {x2 : Int32} {r : Int32} (hf : fF_beside w x1 x2 = some r) (hR : 2 + 1 ≤ R.frames ∧ 67 ≤ R.locals) (hcs : cells ≤ R.cells ∧ slots ≤ R.slots) (hl : ls.size = nL) (hcat : (st.map fun v => v.category).sum ≤ 8) (hdg : decode cc pc = .ok (.invokevirtual 110, 3)) (kk : W p l e R s m args below meth c H locs cells slots Q (F0 m (pc + 3) ls (.int r :: st))) : W p l e R s m args below meth c H locs cells slots Q (F0 m pc ls (.int x2 :: .int x1 :: .ref (fa 0) :: st)) :=
  w_afterR (w_rV_RO (ws := FP X fa w ++ rest) (As := [.int x1, .int x2]) B hK hS hP (tF_beside l X fa rest w x1 x2 r hf) (lw_V q1107 q1108 q1109 q88 q1110) 0 rfl rfl (n := 2) (by decide +kernel) hR hcs rfl hl rfl hcat hdg) kk
end K_cF_beside

section S_F_spreads
variable {p : Program} {l : Launch} {e : Env} {R : Room} {s : State} {m : MethodId} {args : Array Value} {below : List Frame} {meth : Method} {c : Code} {H : Heap} {locs : List Loc} {cells slots : Nat} {Q : State → Prop} {cc : ByteArray} {nL pc : Nat} {ls : Array Slot} {st : List Value} {X : CX} {rest : va_W} {fa : Nat → Nat}
noncomputable def fF_spreads_L41 (w : FW) (x2 : Int32) (x3 : Int32) (x4 : Int32) : Option ((Int32 × FW) ⊕ (FW)) :=
  if 5 ≤ x4 then
    some (.inr w)
  else
    (rd (w.2.1 5) 70 x3).bind fun v_2 =>
    if v_2 = x2 then
      (fF_beside w x3 x4).bind fun r_5 =>
      if r_5 = (-1) then
        (some (x4 + 1)).bind fun x_8 =>
        some (.inl (x_8, w))
      else
        (rd (w.2.1 5) 70 r_5).bind fun v_10 =>
        if v_10 = (-1) then
          ((sto (w.2.1 5) 70 r_5 (x2 + 1)).map (fun g_17 => fau w 5 g_17)).bind fun w_15 =>
          (some (x4 + 1)).bind fun x_18 =>
          some (.inl (x_18, w_15))
        else
          (some (x4 + 1)).bind fun x_13 =>
          some (.inl (x_13, w))
    else
      some (.inr w)

set_option maxHeartbeats 4000000 in
theorem wF_spreads_L41 (B : CallFix p m c cX1_spreads 6 s args lw_all RX1) (hK : KK X s) {w : FW} {x2 : Int32} {x3 : Int32} {x4 : Int32} {res : (Int32 × FW) ⊕ (FW)} (hf : fF_spreads_L41 w x2 x3 x4 = some res) (kc : ∀ (y4 : Int32) (w1 : FW), res = .inl (y4, w1) → ∀ (H : Heap) (locs : List Loc), GG X (FP X fa w1 ++ rest) s.heap H locs → ∀ (ls : Array Slot), lv_has ls 6 [(0, .ref (fa 0)), (2, .int x2), (3, .int x3), (4, .int y4)] → W p l e (RMw 3 0 0 67) s m args below meth c H locs 0 0 Q (F0 m 41 ls [])) (ke99 : ∀ (w1 : FW), res = .inr w1 → ∀ (H : Heap) (locs : List Loc), GG X (FP X fa w1 ++ rest) s.heap H locs → ∀ (ls : Array Slot), lv_has ls 6 [(0, .ref (fa 0)), (2, .int x2), (3, .int x3)] → W p l e (RMw 3 0 0 67) s m args below meth c H locs 0 0 Q (F0 m 99 ls [])) {H : Heap} {locs : List Loc} (hG : GG X (FP X fa w ++ rest) s.heap H locs) {ls : Array Slot} (hl : lv_has ls 6 [(0, .ref (fa 0)), (2, .int x2), (3, .int x3), (4, .int x4)]) : W p l e (RMw 3 0 0 67) s m args below meth c H locs 0 0 Q (F0 m 41 ls []) := by
  have hx := B.1
  have hb := B.2.1
  unfold fF_spreads_L41 at hf
  refine lv_iload hx hb dX1_spreads_41 (lv_at hl 3 rfl) ?_
  refine lv_iconst (v := 5) hx hb dX1_spreads_43 (by decide) ?_
  refine lv_icmp_ge (tgt := 99) hx hb dX1_spreads_44 (by decide) (fun c_1 => ?_) (fun c_1 => ?_)
  · have hf := ifp c_1 hf
    exact ke99 _ (Option.some.inj hf).symm _ _ hG _ (lv_sub hl [0, 1, 2] rfl)
  · have hf := ifn c_1 hf
    refine lv_aload_n hx hb dX1_spreads_47 rfl (lv_at hl 0 rfl) ?_
    refine fe_fen_g5 B hK hG.1 dX1_spreads_48 ?_
    refine lv_iload_n hx hb dX1_spreads_51 rfl (lv_at hl 2 rfl) ?_
    obtain ⟨v_2, e_3, hf⟩ := bo hf
    refine fe_away_l B hK hG.1 e_3 dX1_spreads_52 ?_
    refine lv_iload_n hx hb dX1_spreads_53 rfl (lv_at hl 1 rfl) ?_
    refine lv_icmp_ne (tgt := 99) hx hb dX1_spreads_54 (by decide) (fun c_4 => ?_) (fun c_4 => ?_)
    · have hf := ifn c_4 hf
      exact ke99 _ (Option.some.inj hf).symm _ _ hG _ (lv_sub hl [0, 1, 2] rfl)
    · have hf := ifp c_4 hf
      refine lv_aload_n hx hb dX1_spreads_57 rfl (lv_at hl 0 rfl) ?_
      refine lv_iload_n hx hb dX1_spreads_58 rfl (lv_at hl 2 rfl) ?_
      refine lv_iload hx hb dX1_spreads_59 (lv_at hl 3 rfl) ?_
      obtain ⟨r_5, e_6, hf⟩ := bo hf
      refine cF_beside B hK hG.2.2 hG.1 e_6 ⟨Nat.le_of_ble_eq_true rfl, Nat.le_of_ble_eq_true rfl⟩ ⟨Nat.zero_le _, Nat.zero_le _⟩ hl.1 (Nat.le_of_ble_eq_true rfl) dX1_spreads_61 ?_
      refine lv_istore (lv' := [(5, .int r_5), (0, .ref (fa 0)), (2, .int x2), (3, .int x3), (4, .int x4)]) hx hb dX1_spreads_64 hl (by decide) rfl (fun ls hl => ?_)
      refine lv_iload hx hb dX1_spreads_66 (lv_at hl 0 rfl) ?_
      refine lv_iconst (v := (-1)) hx hb dX1_spreads_68 (by decide) ?_
      refine lv_icmp_eq (tgt := 93) hx hb dX1_spreads_69 (by decide) (fun c_7 => ?_) (fun c_7 => ?_)
      · have hf := ifp c_7 hf
        obtain ⟨x_8, e_9, hf⟩ := bo hf
        refine w_iinc (k := 4) (lv' := [(4, .int x_8), (5, .int r_5), (0, .ref (fa 0)), (2, .int x2), (3, .int x3)]) e_9 hx hb dX1_spreads_93 hl rfl (by decide) rfl (fun ls hl => ?_)
        refine lv_goto (tgt := 41) hx hb dX1_spreads_96 (by decide) ?_
        exact kc _ _ (Option.some.inj hf).symm _ _ hG _ (lv_sub hl [2, 3, 4, 0] rfl)
      · have hf := ifn c_7 hf
        refine lv_aload_n hx hb dX1_spreads_72 rfl (lv_at hl 1 rfl) ?_
        refine fe_fen_g5 B hK hG.1 dX1_spreads_73 ?_
        refine lv_iload hx hb dX1_spreads_76 (lv_at hl 0 rfl) ?_
        obtain ⟨v_10, e_11, hf⟩ := bo hf
        refine fe_away_l B hK hG.1 e_11 dX1_spreads_78 ?_
        refine lv_iconst (v := (-1)) hx hb dX1_spreads_79 (by decide) ?_
        refine lv_icmp_ne (tgt := 93) hx hb dX1_spreads_80 (by decide) (fun c_12 => ?_) (fun c_12 => ?_)
        · have hf := ifn c_12 hf
          obtain ⟨x_13, e_14, hf⟩ := bo hf
          refine w_iinc (k := 4) (lv' := [(4, .int x_13), (5, .int r_5), (0, .ref (fa 0)), (2, .int x2), (3, .int x3)]) e_14 hx hb dX1_spreads_93 hl rfl (by decide) rfl (fun ls hl => ?_)
          refine lv_goto (tgt := 41) hx hb dX1_spreads_96 (by decide) ?_
          exact kc _ _ (Option.some.inj hf).symm _ _ hG _ (lv_sub hl [2, 3, 4, 0] rfl)
        · have hf := ifp c_12 hf
          refine lv_aload_n hx hb dX1_spreads_83 rfl (lv_at hl 1 rfl) ?_
          refine fe_fen_g5 B hK hG.1 dX1_spreads_84 ?_
          refine lv_iload hx hb dX1_spreads_87 (lv_at hl 0 rfl) ?_
          refine lv_iload_n hx hb dX1_spreads_89 rfl (lv_at hl 2 rfl) ?_
          refine lv_iconst (v := 1) hx hb dX1_spreads_90 (by decide) ?_
          refine lv_iadd hx hb dX1_spreads_91 ?_
          obtain ⟨w_15, e_16, hf⟩ := bo hf
          refine fe_away_s B hK hG e_16 dX1_spreads_92 (fun H locs hG => ?_)
          obtain ⟨x_18, e_19, hf⟩ := bo hf
          refine w_iinc (k := 4) (lv' := [(4, .int x_18), (5, .int r_5), (0, .ref (fa 0)), (2, .int x2), (3, .int x3)]) e_19 hx hb dX1_spreads_93 hl rfl (by decide) rfl (fun ls hl => ?_)
          refine lv_goto (tgt := 41) hx hb dX1_spreads_96 (by decide) ?_
          exact kc _ _ (Option.some.inj hf).symm _ _ hG _ (lv_sub hl [2, 3, 4, 0] rfl)

set_option maxHeartbeats 4000000 in
theorem vF_spreads_L41 (B : CallFix p m c cX1_spreads 6 s args lw_all RX1) (hK : KK X s) {w : FW} {x2 : Int32} {x3 : Int32} {x4 : Int32} {res : FW} (hf : lp (fun q : Int32 × FW => fF_spreads_L41 q.2 x2 x3 q.1) (x4, w) = some res) (ke99 : ∀ (w1 : FW), res = w1 → ∀ (H : Heap) (locs : List Loc), GG X (FP X fa w1 ++ rest) s.heap H locs → ∀ (ls : Array Slot), lv_has ls 6 [(0, .ref (fa 0)), (2, .int x2), (3, .int x3)] → W p l e (RMw 3 0 0 67) s m args below meth c H locs 0 0 Q (F0 m 99 ls [])) {H : Heap} {locs : List Loc} (hG : GG X (FP X fa w ++ rest) s.heap H locs) {ls : Array Slot} (hl : lv_has ls 6 [(0, .ref (fa 0)), (2, .int x2), (3, .int x3), (4, .int x4)]) : W p l e (RMw 3 0 0 67) s m args below meth c H locs 0 0 Q (F0 m 41 ls []) := by
  refine lp_ind (r := res) (P := fun q : Int32 × FW => ∀ (H : Heap) (locs : List Loc) (ls : Array Slot), GG X (FP X fa q.2 ++ rest) s.heap H locs → lv_has ls 6 [(0, .ref (fa 0)), (2, .int x2), (3, .int x3), (4, .int q.1)] → W p l e (RMw 3 0 0 67) s m args below meth c H locs 0 0 Q (F0 m 41 ls [])) ?_ ?_ _ hf _ _ _ hG hl
  · intro q hb H locs ls hG hl
    exact wF_spreads_L41 B hK hb (fun _ _ h => by cases h) (fun z0 h => ke99 z0 (Sum.inr.inj h)) hG hl
  · intro q q2 hb ih H locs ls hG hl
    exact wF_spreads_L41 B hK hb (fun z0 z1 h => by cases h; exact fun H locs hG ls hl => ih H locs ls hG hl) (fun _ h => by cases h) hG hl

noncomputable def fF_spreads_L32 (w : FW) (x2 : Int32) (x3 : Int32) : Option ((Int32 × FW) ⊕ (FW)) :=
  if 70 ≤ x3 then
    some (.inr w)
  else
    (lp (fun q : Int32 × FW => fF_spreads_L41 q.2 x2 x3 q.1) (1, w)).bind (
      fun q_5 => (fun (w_2 : FW) =>
        (some (x3 + 1)).bind fun x_3 =>
        some (.inl (x_3, w_2))
      ) q_5
    )

set_option maxHeartbeats 4000000 in
theorem wF_spreads_L32 (B : CallFix p m c cX1_spreads 6 s args lw_all RX1) (hK : KK X s) {w : FW} {x2 : Int32} {x3 : Int32} {res : (Int32 × FW) ⊕ (FW)} (hf : fF_spreads_L32 w x2 x3 = some res) (kc : ∀ (y3 : Int32) (w1 : FW), res = .inl (y3, w1) → ∀ (H : Heap) (locs : List Loc), GG X (FP X fa w1 ++ rest) s.heap H locs → ∀ (ls : Array Slot), lv_has ls 6 [(0, .ref (fa 0)), (2, .int x2), (3, .int y3)] → W p l e (RMw 3 0 0 67) s m args below meth c H locs 0 0 Q (F0 m 32 ls [])) (ke105 : ∀ (w1 : FW), res = .inr w1 → ∀ (H : Heap) (locs : List Loc), GG X (FP X fa w1 ++ rest) s.heap H locs → ∀ (ls : Array Slot), lv_has ls 6 [(0, .ref (fa 0)), (2, .int x2)] → W p l e (RMw 3 0 0 67) s m args below meth c H locs 0 0 Q (F0 m 105 ls [])) {H : Heap} {locs : List Loc} (hG : GG X (FP X fa w ++ rest) s.heap H locs) {ls : Array Slot} (hl : lv_has ls 6 [(0, .ref (fa 0)), (2, .int x2), (3, .int x3)]) : W p l e (RMw 3 0 0 67) s m args below meth c H locs 0 0 Q (F0 m 32 ls []) := by
  have hx := B.1
  have hb := B.2.1
  unfold fF_spreads_L32 at hf
  refine lv_iload_n hx hb dX1_spreads_32 rfl (lv_at hl 2 rfl) ?_
  refine lv_bipush (v := 70) hx hb dX1_spreads_33 (by decide) ?_
  refine lv_icmp_ge (tgt := 105) hx hb dX1_spreads_35 (by decide) (fun c_1 => ?_) (fun c_1 => ?_)
  · have hf := ifp c_1 hf
    exact ke105 _ (Option.some.inj hf).symm _ _ hG _ (lv_sub hl [0, 1] rfl)
  · have hf := ifn c_1 hf
    refine lv_iconst (v := 1) hx hb dX1_spreads_38 (by decide) ?_
    refine lv_istore (lv' := [(4, .int 1), (0, .ref (fa 0)), (2, .int x2), (3, .int x3)]) hx hb dX1_spreads_39 hl (by decide) rfl (fun ls hl => ?_)
    obtain ⟨w_2, e_6, hf⟩ := bo hf
    try dsimp only at hf
    refine vF_spreads_L41 B hK e_6 ?_ hG (lv_sub hl [1, 2, 3, 0] rfl)
    intro z0 hz
    cases hz
    intro H locs hG ls hl
    obtain ⟨x_3, e_4, hf⟩ := bo hf
    refine w_iinc (k := 2) (lv' := [(3, .int x_3), (0, .ref (fa 0)), (2, .int x2)]) e_4 hx hb dX1_spreads_99 hl rfl (by decide) rfl (fun ls hl => ?_)
    refine lv_goto (tgt := 32) hx hb dX1_spreads_102 (by decide) ?_
    exact kc _ _ (Option.some.inj hf).symm _ _ hG _ (lv_sub hl [1, 2, 0] rfl)

set_option maxHeartbeats 4000000 in
theorem vF_spreads_L32 (B : CallFix p m c cX1_spreads 6 s args lw_all RX1) (hK : KK X s) {w : FW} {x2 : Int32} {x3 : Int32} {res : FW} (hf : lp (fun q : Int32 × FW => fF_spreads_L32 q.2 x2 q.1) (x3, w) = some res) (ke105 : ∀ (w1 : FW), res = w1 → ∀ (H : Heap) (locs : List Loc), GG X (FP X fa w1 ++ rest) s.heap H locs → ∀ (ls : Array Slot), lv_has ls 6 [(0, .ref (fa 0)), (2, .int x2)] → W p l e (RMw 3 0 0 67) s m args below meth c H locs 0 0 Q (F0 m 105 ls [])) {H : Heap} {locs : List Loc} (hG : GG X (FP X fa w ++ rest) s.heap H locs) {ls : Array Slot} (hl : lv_has ls 6 [(0, .ref (fa 0)), (2, .int x2), (3, .int x3)]) : W p l e (RMw 3 0 0 67) s m args below meth c H locs 0 0 Q (F0 m 32 ls []) := by
  refine lp_ind (r := res) (P := fun q : Int32 × FW => ∀ (H : Heap) (locs : List Loc) (ls : Array Slot), GG X (FP X fa q.2 ++ rest) s.heap H locs → lv_has ls 6 [(0, .ref (fa 0)), (2, .int x2), (3, .int q.1)] → W p l e (RMw 3 0 0 67) s m args below meth c H locs 0 0 Q (F0 m 32 ls [])) ?_ ?_ _ hf _ _ _ hG hl
  · intro q hb H locs ls hG hl
    exact wF_spreads_L32 B hK hb (fun _ _ h => by cases h) (fun z0 h => ke105 z0 (Sum.inr.inj h)) hG hl
  · intro q q2 hb ih H locs ls hG hl
    exact wF_spreads_L32 B hK hb (fun z0 z1 h => by cases h; exact fun H locs hG ls hl => ih H locs ls hG hl) (fun _ h => by cases h) hG hl

noncomputable def fF_spreads_L17 (w : FW) (x2 : Int32) : Option ((Int32 × FW) ⊕ (FW)) :=
  if ((w.1 6) * (w.1 6)) ≤ x2 then
    some (.inr w)
  else
    (lp (fun q : Int32 × FW => fF_spreads_L32 q.2 x2 q.1) (0, w)).bind (
      fun q_5 => (fun (w_2 : FW) =>
        (some (x2 + 1)).bind fun x_3 =>
        some (.inl (x_3, w_2))
      ) q_5
    )

set_option maxHeartbeats 4000000 in
theorem wF_spreads_L17 (B : CallFix p m c cX1_spreads 6 s args lw_all RX1) (hK : KK X s) {w : FW} {x2 : Int32} {res : (Int32 × FW) ⊕ (FW)} (hf : fF_spreads_L17 w x2 = some res) (kc : ∀ (y2 : Int32) (w1 : FW), res = .inl (y2, w1) → ∀ (H : Heap) (locs : List Loc), GG X (FP X fa w1 ++ rest) s.heap H locs → ∀ (ls : Array Slot), lv_has ls 6 [(0, .ref (fa 0)), (2, .int y2)] → W p l e (RMw 3 0 0 67) s m args below meth c H locs 0 0 Q (F0 m 17 ls [])) (ke111 : ∀ (w1 : FW), res = .inr w1 → ∀ (H : Heap) (locs : List Loc), GG X (FP X fa w1 ++ rest) s.heap H locs → ∀ (ls : Array Slot), lv_has ls 6 [(0, .ref (fa 0))] → W p l e (RMw 3 0 0 67) s m args below meth c H locs 0 0 Q (F0 m 111 ls [])) {H : Heap} {locs : List Loc} (hG : GG X (FP X fa w ++ rest) s.heap H locs) {ls : Array Slot} (hl : lv_has ls 6 [(0, .ref (fa 0)), (2, .int x2)]) : W p l e (RMw 3 0 0 67) s m args below meth c H locs 0 0 Q (F0 m 17 ls []) := by
  have hx := B.1
  have hb := B.2.1
  unfold fF_spreads_L17 at hf
  refine lv_iload_n hx hb dX1_spreads_17 rfl (lv_at hl 1 rfl) ?_
  refine lv_aload_n hx hb dX1_spreads_18 rfl (lv_at hl 0 rfl) ?_
  refine fe_fen_g6 B hK hG.1 dX1_spreads_19 ?_
  refine lv_aload_n hx hb dX1_spreads_22 rfl (lv_at hl 0 rfl) ?_
  refine fe_fen_g6 B hK hG.1 dX1_spreads_23 ?_
  refine lv_imul hx hb dX1_spreads_26 ?_
  refine lv_icmp_ge (tgt := 111) hx hb dX1_spreads_27 (by decide) (fun c_1 => ?_) (fun c_1 => ?_)
  · have hf := ifp c_1 hf
    exact ke111 _ (Option.some.inj hf).symm _ _ hG _ (lv_sub hl [0] rfl)
  · have hf := ifn c_1 hf
    refine lv_iconst (v := 0) hx hb dX1_spreads_30 (by decide) ?_
    refine lv_istore_n (lv' := [(3, .int 0), (0, .ref (fa 0)), (2, .int x2)]) hx hb dX1_spreads_31 rfl hl (by decide) rfl (fun ls hl => ?_)
    obtain ⟨w_2, e_6, hf⟩ := bo hf
    try dsimp only at hf
    refine vF_spreads_L32 B hK e_6 ?_ hG (lv_sub hl [1, 2, 0] rfl)
    intro z0 hz
    cases hz
    intro H locs hG ls hl
    obtain ⟨x_3, e_4, hf⟩ := bo hf
    refine w_iinc (k := 1) (lv' := [(2, .int x_3), (0, .ref (fa 0))]) e_4 hx hb dX1_spreads_105 hl rfl (by decide) rfl (fun ls hl => ?_)
    refine lv_goto (tgt := 17) hx hb dX1_spreads_108 (by decide) ?_
    exact kc _ _ (Option.some.inj hf).symm _ _ hG _ (lv_sub hl [1, 0] rfl)

set_option maxHeartbeats 4000000 in
theorem vF_spreads_L17 (B : CallFix p m c cX1_spreads 6 s args lw_all RX1) (hK : KK X s) {w : FW} {x2 : Int32} {res : FW} (hf : lp (fun q : Int32 × FW => fF_spreads_L17 q.2 q.1) (x2, w) = some res) (ke111 : ∀ (w1 : FW), res = w1 → ∀ (H : Heap) (locs : List Loc), GG X (FP X fa w1 ++ rest) s.heap H locs → ∀ (ls : Array Slot), lv_has ls 6 [(0, .ref (fa 0))] → W p l e (RMw 3 0 0 67) s m args below meth c H locs 0 0 Q (F0 m 111 ls [])) {H : Heap} {locs : List Loc} (hG : GG X (FP X fa w ++ rest) s.heap H locs) {ls : Array Slot} (hl : lv_has ls 6 [(0, .ref (fa 0)), (2, .int x2)]) : W p l e (RMw 3 0 0 67) s m args below meth c H locs 0 0 Q (F0 m 17 ls []) := by
  refine lp_ind (r := res) (P := fun q : Int32 × FW => ∀ (H : Heap) (locs : List Loc) (ls : Array Slot), GG X (FP X fa q.2 ++ rest) s.heap H locs → lv_has ls 6 [(0, .ref (fa 0)), (2, .int q.1)] → W p l e (RMw 3 0 0 67) s m args below meth c H locs 0 0 Q (F0 m 17 ls [])) ?_ ?_ _ hf _ _ _ hG hl
  · intro q hb H locs ls hG hl
    exact wF_spreads_L17 B hK hb (fun _ _ h => by cases h) (fun z0 h => ke111 z0 (Sum.inr.inj h)) hG hl
  · intro q q2 hb ih H locs ls hG hl
    exact wF_spreads_L17 B hK hb (fun z0 z1 h => by cases h; exact fun H locs hG ls hl => ih H locs ls hG hl) (fun _ h => by cases h) hG hl

noncomputable def fF_spreads (w : FW) (x1 : Int32) : Option (FW) :=
  (some (fau w 5 (fun j => if j < 70 then (-1) else w.2.1 5 j))).bind fun w_1 =>
  ((sto (w_1.2.1 5) 70 x1 0).map (fun g_5 => fau w_1 5 g_5)).bind fun w_3 =>
  (lp (fun q : Int32 × FW => fF_spreads_L17 q.2 q.1) (0, w_3)).bind (
    fun q_7 => (fun (w_6 : FW) =>
      some w_6
    ) q_7
  )

set_option maxHeartbeats 4000000 in
theorem wF_spreads (B : CallFix p m c cX1_spreads 6 s args lw_all RX1) (hK : KK X s) {w : FW} {x1 : Int32} {res : FW} (hf : fF_spreads w x1 = some res) (kr : ∀ (w1 : FW), res = w1 → ∀ (H : Heap) (locs : List Loc), GG X (FP X fa w1 ++ rest) s.heap H locs → ∀ (pc : Nat) (ls : Array Slot), decode cX1_spreads pc = .ok (.areturn, 1) → W p l e (RMw 3 0 0 67) s m args below meth c H locs 0 0 Q (F0 m pc ls [.ref (fa 6)])) {H : Heap} {locs : List Loc} (hG : GG X (FP X fa w ++ rest) s.heap H locs) {ls : Array Slot} (hl : lv_has ls 6 [(0, .ref (fa 0)), (1, .int x1)]) : W p l e (RMw 3 0 0 67) s m args below meth c H locs 0 0 Q (F0 m 0 ls []) := by
  have hx := B.1
  have hb := B.2.1
  unfold fF_spreads at hf
  refine lv_aload_n hx hb dX1_spreads_0 rfl (lv_at hl 0 rfl) ?_
  refine fe_fen_g5 B hK hG.1 dX1_spreads_1 ?_
  refine lv_iconst (v := (-1)) hx hb dX1_spreads_4 (by decide) ?_
  obtain ⟨w_1, e_2, hf⟩ := bo hf
  refine fe_fill B hK hG e_2 ⟨Nat.le_of_ble_eq_true rfl, Nat.le_of_ble_eq_true rfl⟩ ⟨Nat.zero_le _, Nat.zero_le _⟩ hl.1 (Nat.le_of_ble_eq_true rfl) dX1_spreads_5 (fun H locs hG => ?_)
  refine lv_aload_n hx hb dX1_spreads_8 rfl (lv_at hl 0 rfl) ?_
  refine fe_fen_g5 B hK hG.1 dX1_spreads_9 ?_
  refine lv_iload_n hx hb dX1_spreads_12 rfl (lv_at hl 1 rfl) ?_
  refine lv_iconst (v := 0) hx hb dX1_spreads_13 (by decide) ?_
  obtain ⟨w_3, e_4, hf⟩ := bo hf
  refine fe_away_s B hK hG e_4 dX1_spreads_14 (fun H locs hG => ?_)
  refine lv_iconst (v := 0) hx hb dX1_spreads_15 (by decide) ?_
  refine lv_istore_n (lv' := [(2, .int 0), (0, .ref (fa 0)), (1, .int x1)]) hx hb dX1_spreads_16 rfl hl (by decide) rfl (fun ls hl => ?_)
  obtain ⟨w_6, e_8, hf⟩ := bo hf
  try dsimp only at hf
  refine vF_spreads_L17 B hK e_8 ?_ hG (lv_sub hl [1, 0] rfl)
  intro z0 hz
  cases hz
  intro H locs hG ls hl
  refine lv_aload_n hx hb dX1_spreads_111 rfl (lv_at hl 0 rfl) ?_
  refine fe_fen_g5 B hK hG.1 dX1_spreads_112 ?_
  exact kr _ (Option.some.inj hf).symm _ _ hG _ _ dX1_spreads_115

theorem tF_spreads (l : Launch) (X : CX) (fa : Nat → Nat) (rest : va_W) (w w' : FW) (x1 : Int32) (hf : fF_spreads w x1 = some w') : RW l yX1_spreads cX1_spreads 6 (some (.array .int)) 3 0 0 67 [.ref (fa 0), .int x1] X (FP X fa w ++ rest) (FP X fa (w') ++ rest) (some (.ref (fa 6))) := by
  refine RW.mk (by decide) (Nat.le_of_ble_eq_true rfl) ?_
  intro p e s m below meth c B hr hlk hK hG ls hl
  exact wF_spreads B hK hf (fun w h H locs hG pc ls hd => by cases h; exact w_aretW B hr (by first | exact Or.inl ⟨_, rfl⟩ | exact Or.inr ⟨_, rfl⟩) hlk hG hd) hG hl
end S_F_spreads

section K_cF_spreads
variable {p : Program} {l : Launch} {e : Env} {R : Room} {s : State} {m : MethodId} {args : Array Value} {below : List Frame} {meth : Method} {c : Code} {H : Heap} {locs : List Loc} {cells slots : Nat} {Q : State → Prop} {cc : ByteArray} {nL pc : Nat} {ls : Array Slot} {st : List Value} {X : CX} {rest : va_W} {fa : Nat → Nat}
theorem cF_spreads (B : CallFix p m c cc nL s args lw_all RX1) (hK : KK X s) {w : FW} (hG : GG X (FP X fa w ++ rest) s.heap H locs) {x1 : Int32} {f1 : FW} {w' : FW} (hf : fF_spreads w x1 = some f1) (hw : some (f1) = some w') (hR : 3 + 1 ≤ R.frames ∧ 92 ≤ R.locals) (hcs : cells ≤ R.cells ∧ slots ≤ R.slots) (hl : ls.size = nL) (hcat : (st.map fun v => v.category).sum ≤ 8) (hdg : decode cc pc = .ok (.invokevirtual 114, 3)) (kk : ∀ (H1 : Heap) (locs1 : List Loc), GG X (FP X fa (w') ++ rest) s.heap H1 locs1 → W p l e R s m args below meth c H1 locs1 cells slots Q (F0 m (pc + 3) ls (.ref (fa 6) :: st))) : W p l e R s m args below meth c H locs cells slots Q (F0 m pc ls (.int x1 :: .ref (fa 0) :: st)) := by
  cases hw
  exact w_afterW (w_rV_RW (ws := FP X fa w ++ rest) (As := [.int x1]) B hK hG (tF_spreads l X fa rest w f1 x1 hf) (lw_V q1100 q1101 q1102 q88 q1103) 0 rfl rfl (n := 1) (by decide +kernel) hR hcs rfl hl rfl hcat hdg) hG.2.2 kk
end K_cF_spreads

section S_F_path
variable {p : Program} {l : Launch} {e : Env} {R : Room} {s : State} {m : MethodId} {args : Array Value} {below : List Frame} {meth : Method} {c : Code} {H : Heap} {locs : List Loc} {cells slots : Nat} {Q : State → Prop} {cc : ByteArray} {nL pc : Nat} {ls : Array Slot} {st : List Value} {X : CX} {rest : va_W} {fa : Nat → Nat}
noncomputable def fF_path (w : FW) (x1 : Int32) (x2 : Int32) : Option (Int32 × FW) :=
  (fF_spreads w x1).bind fun f_2 =>
  (some (f_2)).bind fun w_3 =>
  (rd (w_3.2.1 5) 70 x2).bind fun v_5 =>
  some (v_5, w_3)

set_option maxHeartbeats 4000000 in
theorem wF_path (B : CallFix p m c cX1_path 3 s args lw_all RX1) (hK : KK X s) {w : FW} {x1 : Int32} {x2 : Int32} {res : Int32 × FW} (hf : fF_path w x1 x2 = some res) (kr : ∀ (r : Int32) (w1 : FW), res = (r, w1) → ∀ (H : Heap) (locs : List Loc), GG X (FP X fa w1 ++ rest) s.heap H locs → ∀ (pc : Nat) (ls : Array Slot), decode cX1_path pc = .ok (.ireturn, 1) → W p l e (RMw 4 0 0 92) s m args below meth c H locs 0 0 Q (F0 m pc ls [.int r])) {H : Heap} {locs : List Loc} (hG : GG X (FP X fa w ++ rest) s.heap H locs) {ls : Array Slot} (hl : lv_has ls 3 [(0, .ref (fa 0)), (1, .int x1), (2, .int x2)]) : W p l e (RMw 4 0 0 92) s m args below meth c H locs 0 0 Q (F0 m 0 ls []) := by
  have hx := B.1
  have hb := B.2.1
  unfold fF_path at hf
  refine lv_aload_n hx hb dX1_path_0 rfl (lv_at hl 0 rfl) ?_
  refine lv_iload_n hx hb dX1_path_1 rfl (lv_at hl 1 rfl) ?_
  obtain ⟨f_2, e_1, hf⟩ := bo hf
  obtain ⟨w_3, e_4, hf⟩ := bo hf
  refine cF_spreads B hK hG e_1 e_4 ⟨Nat.le_of_ble_eq_true rfl, Nat.le_of_ble_eq_true rfl⟩ ⟨Nat.zero_le _, Nat.zero_le _⟩ hl.1 (Nat.le_of_ble_eq_true rfl) dX1_path_2 (fun H locs hG => ?_)
  refine lv_iload_n hx hb dX1_path_5 rfl (lv_at hl 2 rfl) ?_
  obtain ⟨v_5, e_6, hf⟩ := bo hf
  refine fe_away_l B hK hG.1 e_6 dX1_path_6 ?_
  exact kr _ _ (Option.some.inj hf).symm _ _ hG _ _ dX1_path_7

theorem tF_path (l : Launch) (X : CX) (fa : Nat → Nat) (rest : va_W) (w w' : FW) (x1 : Int32) (x2 : Int32) (r : Int32) (hf : fF_path w x1 x2 = some (r, w')) : RW l yX1_path cX1_path 3 (some .int) 4 0 0 92 [.ref (fa 0), .int x1, .int x2] X (FP X fa w ++ rest) (FP X fa (w') ++ rest) (some (.int r)) := by
  refine RW.mk (by decide) (Nat.le_of_ble_eq_true rfl) ?_
  intro p e s m below meth c B hr hlk hK hG ls hl
  exact wF_path B hK hf (fun r w h H locs hG pc ls hd => by cases h; exact w_iretW B hr hlk hG hd) hG hl
end S_F_path

section S_F_stands
variable {p : Program} {l : Launch} {e : Env} {R : Room} {s : State} {m : MethodId} {args : Array Value} {below : List Frame} {meth : Method} {c : Code} {H : Heap} {locs : List Loc} {cells slots : Nat} {Q : State → Prop} {cc : ByteArray} {nL pc : Nat} {ls : Array Slot} {st : List Value} {X : CX} {rest : va_W} {fa : Nat → Nat}
noncomputable def fF_stands (w : FW) (x1 : Int32) (x2 : Int32) (x3 : Int32) : Option (FW) :=
  ((sto (w.2.1 2) 4 x1 x2).map (fun g_3 => fau w 2 g_3)).bind fun w_1 =>
  if x2 = (w_1.1 7) then
    ((sto (w_1.2.1 3) 4 x1 9).map (fun g_16 => fau w_1 3 g_16)).bind fun w_14 =>
    some w_14
  else
    if x3 = 0 then
      some w_1
    else
      (fF_isLost w_1 x1).bind fun r_6 =>
      if r_6 = 0 then
        some w_1
      else
        (rd (w_1.2.1 3) 4 x1).bind fun v_9 =>
        ((sto (w_1.2.1 3) 4 x1 (imax 0 (v_9 - 1))).map (fun g_13 => fau w_1 3 g_13)).bind fun w_11 =>
        some w_11

set_option maxHeartbeats 4000000 in
theorem wF_stands (B : CallFix p m c cX1_stands 4 s args lw_all RX1) (hK : KK X s) {w : FW} {x1 : Int32} {x2 : Int32} {x3 : Int32} {res : FW} (hf : fF_stands w x1 x2 x3 = some res) (kr : ∀ (w1 : FW), res = w1 → ∀ (H : Heap) (locs : List Loc), GG X (FP X fa w1 ++ rest) s.heap H locs → ∀ (pc : Nat) (ls : Array Slot), decode cX1_stands pc = .ok (.return_, 1) → W p l e (RMw 1 0 0 21) s m args below meth c H locs 0 0 Q (F0 m pc ls [])) {H : Heap} {locs : List Loc} (hG : GG X (FP X fa w ++ rest) s.heap H locs) {ls : Array Slot} (hl : lv_has ls 4 [(0, .ref (fa 0)), (1, .int x1), (2, .int x2), (3, .int x3)]) : W p l e (RMw 1 0 0 21) s m args below meth c H locs 0 0 Q (F0 m 0 ls []) := by
  have hx := B.1
  have hb := B.2.1
  unfold fF_stands at hf
  refine lv_aload_n hx hb dX1_stands_0 rfl (lv_at hl 0 rfl) ?_
  refine fe_fen_g2 B hK hG.1 dX1_stands_1 ?_
  refine lv_iload_n hx hb dX1_stands_4 rfl (lv_at hl 1 rfl) ?_
  refine lv_iload_n hx hb dX1_stands_5 rfl (lv_at hl 2 rfl) ?_
  obtain ⟨w_1, e_2, hf⟩ := bo hf
  refine fe_cell_s B hK hG e_2 dX1_stands_6 (fun H locs hG => ?_)
  refine lv_iload_n hx hb dX1_stands_7 rfl (lv_at hl 2 rfl) ?_
  refine lv_aload_n hx hb dX1_stands_8 rfl (lv_at hl 0 rfl) ?_
  refine fe_fen_g7 B hK hG.1 dX1_stands_9 ?_
  refine lv_icmp_ne (tgt := 26) hx hb dX1_stands_12 (by decide) (fun c_4 => ?_) (fun c_4 => ?_)
  · have hf := ifn c_4 hf
    refine lv_iload_n hx hb dX1_stands_26 rfl (lv_at hl 3 rfl) ?_
    refine lv_if_eq (tgt := 56) hx hb dX1_stands_27 (by decide) (fun c_5 => ?_) (fun c_5 => ?_)
    · have hf := ifp c_5 hf
      exact kr _ (Option.some.inj hf).symm _ _ hG _ _ dX1_stands_56
    · have hf := ifn c_5 hf
      refine lv_aload_n hx hb dX1_stands_30 rfl (lv_at hl 0 rfl) ?_
      refine lv_iload_n hx hb dX1_stands_31 rfl (lv_at hl 1 rfl) ?_
      obtain ⟨r_6, e_7, hf⟩ := bo hf
      refine cF_isLost B hK hG.2.2 hG.1 e_7 ⟨Nat.le_of_ble_eq_true rfl, Nat.le_of_ble_eq_true rfl⟩ ⟨Nat.zero_le _, Nat.zero_le _⟩ hl.1 (Nat.le_of_ble_eq_true rfl) dX1_stands_32 ?_
      refine lv_if_eq (tgt := 56) hx hb dX1_stands_35 (by decide) (fun c_8 => ?_) (fun c_8 => ?_)
      · have hf := ifp c_8 hf
        exact kr _ (Option.some.inj hf).symm _ _ hG _ _ dX1_stands_56
      · have hf := ifn c_8 hf
        refine lv_aload_n hx hb dX1_stands_38 rfl (lv_at hl 0 rfl) ?_
        refine fe_fen_g3 B hK hG.1 dX1_stands_39 ?_
        refine lv_iload_n hx hb dX1_stands_42 rfl (lv_at hl 1 rfl) ?_
        refine lv_iconst (v := 0) hx hb dX1_stands_43 (by decide) ?_
        refine lv_aload_n hx hb dX1_stands_44 rfl (lv_at hl 0 rfl) ?_
        refine fe_fen_g3 B hK hG.1 dX1_stands_45 ?_
        refine lv_iload_n hx hb dX1_stands_48 rfl (lv_at hl 1 rfl) ?_
        obtain ⟨v_9, e_10, hf⟩ := bo hf
        refine fe_sure_l B hK hG.1 e_10 dX1_stands_49 ?_
        refine lv_iconst (v := 1) hx hb dX1_stands_50 (by decide) ?_
        refine lv_isub hx hb dX1_stands_51 ?_
        refine w_max B hl.1 q1332 q813 q104 q814 (Nat.le_of_ble_eq_true rfl) (Nat.le_of_ble_eq_true rfl) (Nat.le_of_ble_eq_true rfl) (Nat.zero_le _) (Nat.zero_le _) dX1_stands_52 ?_
        obtain ⟨w_11, e_12, hf⟩ := bo hf
        refine fe_sure_s B hK hG e_12 dX1_stands_55 (fun H locs hG => ?_)
        exact kr _ (Option.some.inj hf).symm _ _ hG _ _ dX1_stands_56
  · have hf := ifp c_4 hf
    refine lv_aload_n hx hb dX1_stands_15 rfl (lv_at hl 0 rfl) ?_
    refine fe_fen_g3 B hK hG.1 dX1_stands_16 ?_
    refine lv_iload_n hx hb dX1_stands_19 rfl (lv_at hl 1 rfl) ?_
    refine lv_bipush (v := 9) hx hb dX1_stands_20 (by decide) ?_
    obtain ⟨w_14, e_15, hf⟩ := bo hf
    refine fe_sure_s B hK hG e_15 dX1_stands_22 (fun H locs hG => ?_)
    refine lv_goto (tgt := 56) hx hb dX1_stands_23 (by decide) ?_
    exact kr _ (Option.some.inj hf).symm _ _ hG _ _ dX1_stands_56

theorem tF_stands (l : Launch) (X : CX) (fa : Nat → Nat) (rest : va_W) (w w' : FW) (x1 : Int32) (x2 : Int32) (x3 : Int32) (hf : fF_stands w x1 x2 x3 = some w') : RW l yX1_stands cX1_stands 4 none 1 0 0 21 [.ref (fa 0), .int x1, .int x2, .int x3] X (FP X fa w ++ rest) (FP X fa (w') ++ rest) none := by
  refine RW.mk (by decide) (Nat.le_of_ble_eq_true rfl) ?_
  intro p e s m below meth c B hr hlk hK hG ls hl
  exact wF_stands B hK hf (fun w h H locs hG pc ls hd => by cases h; exact w_vretW B hr hlk hG hd) hG hl
end S_F_stands

section K_cF_stands
variable {p : Program} {l : Launch} {e : Env} {R : Room} {s : State} {m : MethodId} {args : Array Value} {below : List Frame} {meth : Method} {c : Code} {H : Heap} {locs : List Loc} {cells slots : Nat} {Q : State → Prop} {cc : ByteArray} {nL pc : Nat} {ls : Array Slot} {st : List Value} {X : CX} {rest : va_W} {fa : Nat → Nat}
theorem cF_stands (B : CallFix p m c cc nL s args lw_all RX1) (hK : KK X s) {w : FW} (hG : GG X (FP X fa w ++ rest) s.heap H locs) {x1 : Int32} {x2 : Int32} {x3 : Int32} {f1 : FW} {w' : FW} (hf : fF_stands w x1 x2 x3 = some f1) (hw : some (f1) = some w') (hR : 1 + 1 ≤ R.frames ∧ 44 ≤ R.locals) (hcs : cells ≤ R.cells ∧ slots ≤ R.slots) (hl : ls.size = nL) (hcat : (st.map fun v => v.category).sum ≤ 8) (hdg : decode cc pc = .ok (.invokevirtual 123, 3)) (kk : ∀ (H1 : Heap) (locs1 : List Loc), GG X (FP X fa (w') ++ rest) s.heap H1 locs1 → W p l e R s m args below meth c H1 locs1 cells slots Q (F0 m (pc + 3) ls st)) : W p l e R s m args below meth c H locs cells slots Q (F0 m pc ls (.int x3 :: .int x2 :: .int x1 :: .ref (fa 0) :: st)) := by
  cases hw
  exact w_afterWv (w_rV_RW (ws := FP X fa w ++ rest) (As := [.int x1, .int x2, .int x3]) B hK hG (tF_stands l X fa rest w f1 x1 x2 x3 hf) (lw_V q1350 q1329 q1330 q88 q1331) 0 rfl rfl (n := 3) (by decide +kernel) hR hcs rfl hl rfl hcat hdg) hG.2.2 kk
end K_cF_stands

section S_F_homeward
variable {p : Program} {l : Launch} {e : Env} {R : Room} {s : State} {m : MethodId} {args : Array Value} {below : List Frame} {meth : Method} {c : Code} {H : Heap} {locs : List Loc} {cells slots : Nat} {Q : State → Prop} {cc : ByteArray} {nL pc : Nat} {ls : Array Slot} {st : List Value} {X : CX} {rest : va_W} {fa : Nat → Nat}
noncomputable def fF_homeward_L35 (w : FW) (x1 : Int32) (x2 : Int32) : Option ((Int32) ⊕ (((Unit) ⊕ Int32))) :=
  if 5 ≤ x2 then
    some (.inr (.inl ()))
  else
    (rd (w.2.1 2) 4 x1).bind fun v_2 =>
    (fF_beside w v_2 x2).bind fun r_4 =>
    if r_4 = (-1) then
      (some (x2 + 1)).bind fun x_7 =>
      some (.inl x_7)
    else
      (rd (w.2.1 5) 70 r_4).bind fun v_9 =>
      if v_9 = (-1) then
        (some (x2 + 1)).bind fun x_12 =>
        some (.inl x_12)
      else
        (rd (w.2.1 5) 70 r_4).bind fun v_14 =>
        (rd (w.2.1 2) 4 x1).bind fun v_16 =>
        (rd (w.2.1 5) 70 v_16).bind fun v_18 =>
        if v_18 ≤ v_14 then
          (some (x2 + 1)).bind fun x_21 =>
          some (.inl x_21)
        else
          some (.inr (.inr r_4))

set_option maxHeartbeats 4000000 in
theorem wF_homeward_L35 (B : CallFix p m c cX1_homeward 4 s args lw_all RX1) (hK : KK X s) {w : FW} {x1 : Int32} {x2 : Int32} {res : (Int32) ⊕ (((Unit) ⊕ Int32))} (hf : fF_homeward_L35 w x1 x2 = some res) (kc : ∀ (y2 : Int32), res = .inl y2 → ∀ (H : Heap) (locs : List Loc), GG X (FP X fa w ++ rest) s.heap H locs → ∀ (ls : Array Slot), lv_has ls 4 [(0, .ref (fa 0)), (1, .int x1), (2, .int y2)] → W p l e (RMw 4 0 0 92) s m args below meth c H locs 0 0 Q (F0 m 35 ls [])) (ke101 : res = .inr (.inl ()) → ∀ (H : Heap) (locs : List Loc), GG X (FP X fa w ++ rest) s.heap H locs → ∀ (ls : Array Slot), lv_has ls 4 [] → W p l e (RMw 4 0 0 92) s m args below meth c H locs 0 0 Q (F0 m 101 ls [])) (ke87 : ∀ (y3 : Int32), res = .inr (.inr y3) → ∀ (H : Heap) (locs : List Loc), GG X (FP X fa w ++ rest) s.heap H locs → ∀ (ls : Array Slot), lv_has ls 4 [(0, .ref (fa 0)), (1, .int x1), (3, .int y3)] → W p l e (RMw 4 0 0 92) s m args below meth c H locs 0 0 Q (F0 m 87 ls [])) {H : Heap} {locs : List Loc} (hG : GG X (FP X fa w ++ rest) s.heap H locs) {ls : Array Slot} (hl : lv_has ls 4 [(0, .ref (fa 0)), (1, .int x1), (2, .int x2)]) : W p l e (RMw 4 0 0 92) s m args below meth c H locs 0 0 Q (F0 m 35 ls []) := by
  have hx := B.1
  have hb := B.2.1
  unfold fF_homeward_L35 at hf
  refine lv_iload_n hx hb dX1_homeward_35 rfl (lv_at hl 2 rfl) ?_
  refine lv_iconst (v := 5) hx hb dX1_homeward_36 (by decide) ?_
  refine lv_icmp_ge (tgt := 101) hx hb dX1_homeward_37 (by decide) (fun c_1 => ?_) (fun c_1 => ?_)
  · have hf := ifp c_1 hf
    exact ke101 (Option.some.inj hf).symm _ _ hG _ (lv_sub hl [] rfl)
  · have hf := ifn c_1 hf
    refine lv_aload_n hx hb dX1_homeward_40 rfl (lv_at hl 0 rfl) ?_
    refine lv_aload_n hx hb dX1_homeward_41 rfl (lv_at hl 0 rfl) ?_
    refine fe_fen_g2 B hK hG.1 dX1_homeward_42 ?_
    refine lv_iload_n hx hb dX1_homeward_45 rfl (lv_at hl 1 rfl) ?_
    obtain ⟨v_2, e_3, hf⟩ := bo hf
    refine fe_cell_l B hK hG.1 e_3 dX1_homeward_46 ?_
    refine lv_iload_n hx hb dX1_homeward_47 rfl (lv_at hl 2 rfl) ?_
    obtain ⟨r_4, e_5, hf⟩ := bo hf
    refine cF_beside B hK hG.2.2 hG.1 e_5 ⟨Nat.le_of_ble_eq_true rfl, Nat.le_of_ble_eq_true rfl⟩ ⟨Nat.zero_le _, Nat.zero_le _⟩ hl.1 (Nat.le_of_ble_eq_true rfl) dX1_homeward_48 ?_
    refine lv_istore_n (lv' := [(3, .int r_4), (0, .ref (fa 0)), (1, .int x1), (2, .int x2)]) hx hb dX1_homeward_51 rfl hl (by decide) rfl (fun ls hl => ?_)
    refine lv_iload_n hx hb dX1_homeward_52 rfl (lv_at hl 0 rfl) ?_
    refine lv_iconst (v := (-1)) hx hb dX1_homeward_53 (by decide) ?_
    refine lv_icmp_eq (tgt := 95) hx hb dX1_homeward_54 (by decide) (fun c_6 => ?_) (fun c_6 => ?_)
    · have hf := ifp c_6 hf
      obtain ⟨x_7, e_8, hf⟩ := bo hf
      refine w_iinc (k := 3) (lv' := [(2, .int x_7), (3, .int r_4), (0, .ref (fa 0)), (1, .int x1)]) e_8 hx hb dX1_homeward_95 hl rfl (by decide) rfl (fun ls hl => ?_)
      refine lv_goto (tgt := 35) hx hb dX1_homeward_98 (by decide) ?_
      exact kc _ (Option.some.inj hf).symm _ _ hG _ (lv_sub hl [2, 3, 0] rfl)
    · have hf := ifn c_6 hf
      refine lv_aload_n hx hb dX1_homeward_57 rfl (lv_at hl 1 rfl) ?_
      refine fe_fen_g5 B hK hG.1 dX1_homeward_58 ?_
      refine lv_iload_n hx hb dX1_homeward_61 rfl (lv_at hl 0 rfl) ?_
      obtain ⟨v_9, e_10, hf⟩ := bo hf
      refine fe_away_l B hK hG.1 e_10 dX1_homeward_62 ?_
      refine lv_iconst (v := (-1)) hx hb dX1_homeward_63 (by decide) ?_
      refine lv_icmp_eq (tgt := 95) hx hb dX1_homeward_64 (by decide) (fun c_11 => ?_) (fun c_11 => ?_)
      · have hf := ifp c_11 hf
        obtain ⟨x_12, e_13, hf⟩ := bo hf
        refine w_iinc (k := 3) (lv' := [(2, .int x_12), (3, .int r_4), (0, .ref (fa 0)), (1, .int x1)]) e_13 hx hb dX1_homeward_95 hl rfl (by decide) rfl (fun ls hl => ?_)
        refine lv_goto (tgt := 35) hx hb dX1_homeward_98 (by decide) ?_
        exact kc _ (Option.some.inj hf).symm _ _ hG _ (lv_sub hl [2, 3, 0] rfl)
      · have hf := ifn c_11 hf
        refine lv_aload_n hx hb dX1_homeward_67 rfl (lv_at hl 1 rfl) ?_
        refine fe_fen_g5 B hK hG.1 dX1_homeward_68 ?_
        refine lv_iload_n hx hb dX1_homeward_71 rfl (lv_at hl 0 rfl) ?_
        obtain ⟨v_14, e_15, hf⟩ := bo hf
        refine fe_away_l B hK hG.1 e_15 dX1_homeward_72 ?_
        refine lv_aload_n hx hb dX1_homeward_73 rfl (lv_at hl 1 rfl) ?_
        refine fe_fen_g5 B hK hG.1 dX1_homeward_74 ?_
        refine lv_aload_n hx hb dX1_homeward_77 rfl (lv_at hl 1 rfl) ?_
        refine fe_fen_g2 B hK hG.1 dX1_homeward_78 ?_
        refine lv_iload_n hx hb dX1_homeward_81 rfl (lv_at hl 2 rfl) ?_
        obtain ⟨v_16, e_17, hf⟩ := bo hf
        refine fe_cell_l B hK hG.1 e_17 dX1_homeward_82 ?_
        obtain ⟨v_18, e_19, hf⟩ := bo hf
        refine fe_away_l B hK hG.1 e_19 dX1_homeward_83 ?_
        refine lv_icmp_ge (tgt := 95) hx hb dX1_homeward_84 (by decide) (fun c_20 => ?_) (fun c_20 => ?_)
        · have hf := ifp c_20 hf
          obtain ⟨x_21, e_22, hf⟩ := bo hf
          refine w_iinc (k := 3) (lv' := [(2, .int x_21), (3, .int r_4), (0, .ref (fa 0)), (1, .int x1)]) e_22 hx hb dX1_homeward_95 hl rfl (by decide) rfl (fun ls hl => ?_)
          refine lv_goto (tgt := 35) hx hb dX1_homeward_98 (by decide) ?_
          exact kc _ (Option.some.inj hf).symm _ _ hG _ (lv_sub hl [2, 3, 0] rfl)
        · have hf := ifn c_20 hf
          exact ke87 _ (Option.some.inj hf).symm _ _ hG _ (lv_sub hl [1, 2, 0] rfl)

set_option maxHeartbeats 4000000 in
theorem vF_homeward_L35 (B : CallFix p m c cX1_homeward 4 s args lw_all RX1) (hK : KK X s) {w : FW} {x1 : Int32} {x2 : Int32} {res : ((Unit) ⊕ Int32)} (hf : lp (fun q : Int32 => fF_homeward_L35 w x1 q) x2 = some res) (ke101 : res = (.inl ()) → ∀ (H : Heap) (locs : List Loc), GG X (FP X fa w ++ rest) s.heap H locs → ∀ (ls : Array Slot), lv_has ls 4 [] → W p l e (RMw 4 0 0 92) s m args below meth c H locs 0 0 Q (F0 m 101 ls [])) (ke87 : ∀ (y3 : Int32), res = (.inr y3) → ∀ (H : Heap) (locs : List Loc), GG X (FP X fa w ++ rest) s.heap H locs → ∀ (ls : Array Slot), lv_has ls 4 [(0, .ref (fa 0)), (1, .int x1), (3, .int y3)] → W p l e (RMw 4 0 0 92) s m args below meth c H locs 0 0 Q (F0 m 87 ls [])) {H : Heap} {locs : List Loc} (hG : GG X (FP X fa w ++ rest) s.heap H locs) {ls : Array Slot} (hl : lv_has ls 4 [(0, .ref (fa 0)), (1, .int x1), (2, .int x2)]) : W p l e (RMw 4 0 0 92) s m args below meth c H locs 0 0 Q (F0 m 35 ls []) := by
  refine lp_ind (r := res) (P := fun q : Int32 => ∀ (H : Heap) (locs : List Loc) (ls : Array Slot), GG X (FP X fa w ++ rest) s.heap H locs → lv_has ls 4 [(0, .ref (fa 0)), (1, .int x1), (2, .int q)] → W p l e (RMw 4 0 0 92) s m args below meth c H locs 0 0 Q (F0 m 35 ls [])) ?_ ?_ _ hf _ _ _ hG hl
  · intro q hb H locs ls hG hl
    exact wF_homeward_L35 B hK hb (fun _ h => by cases h) (fun h => ke101 (Sum.inr.inj h)) (fun z0 h => ke87 z0 (Sum.inr.inj h)) hG hl
  · intro q q2 hb ih H locs ls hG hl
    exact wF_homeward_L35 B hK hb (fun z0 h => by cases h; exact fun H locs hG ls hl => ih H locs ls hG hl) (fun h => by cases h) (fun _ h => by cases h) hG hl

noncomputable def fF_homeward (w : FW) (x1 : Int32) : Option (FW) :=
  (rd (w.2.1 2) 4 x1).bind fun v_1 =>
  if v_1 = (w.1 7) then
    (fF_stands w x1 (w.1 7) 0).bind fun f_17 =>
    (some (f_17)).bind fun w_18 =>
    some w_18
  else
    (fF_spreads w (w.1 7)).bind fun f_5 =>
    (some (f_5)).bind fun w_6 =>
    (lp (fun q : Int32 => fF_homeward_L35 w_6 x1 q) 1).bind
      (Sum.elim (
        fun _ =>
          some w_6
      )
        (
          fun q_14 => (fun (y_8 : Int32) =>
            (fF_stands w_6 x1 y_8 1).bind fun f_10 =>
            (some (f_10)).bind fun w_11 =>
            some w_11
          ) q_14
        )
      )

set_option maxHeartbeats 4000000 in
theorem wF_homeward (B : CallFix p m c cX1_homeward 4 s args lw_all RX1) (hK : KK X s) {w : FW} {x1 : Int32} {res : FW} (hf : fF_homeward w x1 = some res) (kr : ∀ (w1 : FW), res = w1 → ∀ (H : Heap) (locs : List Loc), GG X (FP X fa w1 ++ rest) s.heap H locs → ∀ (pc : Nat) (ls : Array Slot), decode cX1_homeward pc = .ok (.return_, 1) → W p l e (RMw 4 0 0 92) s m args below meth c H locs 0 0 Q (F0 m pc ls [])) {H : Heap} {locs : List Loc} (hG : GG X (FP X fa w ++ rest) s.heap H locs) {ls : Array Slot} (hl : lv_has ls 4 [(0, .ref (fa 0)), (1, .int x1)]) : W p l e (RMw 4 0 0 92) s m args below meth c H locs 0 0 Q (F0 m 0 ls []) := by
  have hx := B.1
  have hb := B.2.1
  unfold fF_homeward at hf
  refine lv_aload_n hx hb dX1_homeward_0 rfl (lv_at hl 0 rfl) ?_
  refine fe_fen_g2 B hK hG.1 dX1_homeward_1 ?_
  refine lv_iload_n hx hb dX1_homeward_4 rfl (lv_at hl 1 rfl) ?_
  obtain ⟨v_1, e_2, hf⟩ := bo hf
  refine fe_cell_l B hK hG.1 e_2 dX1_homeward_5 ?_
  refine lv_aload_n hx hb dX1_homeward_6 rfl (lv_at hl 0 rfl) ?_
  refine fe_fen_g7 B hK hG.1 dX1_homeward_7 ?_
  refine lv_icmp_ne (tgt := 24) hx hb dX1_homeward_10 (by decide) (fun c_3 => ?_) (fun c_3 => ?_)
  · have hf := ifn c_3 hf
    refine lv_aload_n hx hb dX1_homeward_24 rfl (lv_at hl 0 rfl) ?_
    refine lv_aload_n hx hb dX1_homeward_25 rfl (lv_at hl 0 rfl) ?_
    refine fe_fen_g7 B hK hG.1 dX1_homeward_26 ?_
    obtain ⟨f_5, e_4, hf⟩ := bo hf
    obtain ⟨w_6, e_7, hf⟩ := bo hf
    refine cF_spreads B hK hG e_4 e_7 ⟨Nat.le_of_ble_eq_true rfl, Nat.le_of_ble_eq_true rfl⟩ ⟨Nat.zero_le _, Nat.zero_le _⟩ hl.1 (Nat.le_of_ble_eq_true rfl) dX1_homeward_29 (fun H locs hG => ?_)
    refine lv_pop hx hb dX1_homeward_32 rfl ?_
    refine lv_iconst (v := 1) hx hb dX1_homeward_33 (by decide) ?_
    refine lv_istore_n (lv' := [(2, .int 1), (0, .ref (fa 0)), (1, .int x1)]) hx hb dX1_homeward_34 rfl hl (by decide) rfl (fun ls hl => ?_)
    rcases bs hf with ⟨⟨⟩, e_15, hf⟩ | ⟨y_8, e_15, hf⟩
    · refine vF_homeward_L35 B hK e_15 ?_ (fun _ h => by cases h) hG (lv_sub hl [1, 2, 0] rfl)
      intro hz
      intro H locs hG ls hl
      exact kr _ (Option.some.inj hf).symm _ _ hG _ _ dX1_homeward_101
    · try dsimp only at hf
      refine vF_homeward_L35 B hK e_15 (fun h => by cases h) ?_ hG (lv_sub hl [1, 2, 0] rfl)
      intro z0 hz
      cases hz
      intro H locs hG ls hl
      refine lv_aload_n hx hb dX1_homeward_87 rfl (lv_at hl 0 rfl) ?_
      refine lv_iload_n hx hb dX1_homeward_88 rfl (lv_at hl 1 rfl) ?_
      refine lv_iload_n hx hb dX1_homeward_89 rfl (lv_at hl 2 rfl) ?_
      refine lv_iconst (v := 1) hx hb dX1_homeward_90 (by decide) ?_
      obtain ⟨f_10, e_9, hf⟩ := bo hf
      obtain ⟨w_11, e_12, hf⟩ := bo hf
      refine cF_stands B hK hG e_9 e_12 ⟨Nat.le_of_ble_eq_true rfl, Nat.le_of_ble_eq_true rfl⟩ ⟨Nat.zero_le _, Nat.zero_le _⟩ hl.1 (Nat.le_of_ble_eq_true rfl) dX1_homeward_91 (fun H locs hG => ?_)
      exact kr _ (Option.some.inj hf).symm _ _ hG _ _ dX1_homeward_94
  · have hf := ifp c_3 hf
    refine lv_aload_n hx hb dX1_homeward_13 rfl (lv_at hl 0 rfl) ?_
    refine lv_iload_n hx hb dX1_homeward_14 rfl (lv_at hl 1 rfl) ?_
    refine lv_aload_n hx hb dX1_homeward_15 rfl (lv_at hl 0 rfl) ?_
    refine fe_fen_g7 B hK hG.1 dX1_homeward_16 ?_
    refine lv_iconst (v := 0) hx hb dX1_homeward_19 (by decide) ?_
    obtain ⟨f_17, e_16, hf⟩ := bo hf
    obtain ⟨w_18, e_19, hf⟩ := bo hf
    refine cF_stands B hK hG e_16 e_19 ⟨Nat.le_of_ble_eq_true rfl, Nat.le_of_ble_eq_true rfl⟩ ⟨Nat.zero_le _, Nat.zero_le _⟩ hl.1 (Nat.le_of_ble_eq_true rfl) dX1_homeward_20 (fun H locs hG => ?_)
    exact kr _ (Option.some.inj hf).symm _ _ hG _ _ dX1_homeward_23

theorem tF_homeward (l : Launch) (X : CX) (fa : Nat → Nat) (rest : va_W) (w w' : FW) (x1 : Int32) (hf : fF_homeward w x1 = some w') : RW l yX1_homeward cX1_homeward 4 none 4 0 0 92 [.ref (fa 0), .int x1] X (FP X fa w ++ rest) (FP X fa (w') ++ rest) none := by
  refine RW.mk (by decide) (Nat.le_of_ble_eq_true rfl) ?_
  intro p e s m below meth c B hr hlk hK hG ls hl
  exact wF_homeward B hK hf (fun w h H locs hG pc ls hd => by cases h; exact w_vretW B hr hlk hG hd) hG hl
end S_F_homeward

section S_F_draw
variable {p : Program} {l : Launch} {e : Env} {R : Room} {s : State} {m : MethodId} {args : Array Value} {below : List Frame} {meth : Method} {c : Code} {H : Heap} {locs : List Loc} {cells slots : Nat} {Q : State → Prop} {cc : ByteArray} {nL pc : Nat} {ls : Array Slot} {st : List Value} {X : CX} {rest : va_W} {fa : Nat → Nat}
noncomputable def fF_draw (w : FW) (x1 : Int32) : Option (Int32 × FW) :=
  (some (fpt w 10 (((w.1 10) * 1103515245) + 12345))).bind fun w_1 =>
  (nz x1).bind fun _ =>
  some ((irem (iushr (w_1.1 10) 16) x1), w_1)

set_option maxHeartbeats 4000000 in
theorem wF_draw (B : CallFix p m c cX1_draw 2 s args lw_all RX1) (hK : KK X s) {w : FW} {x1 : Int32} {res : Int32 × FW} (hf : fF_draw w x1 = some res) (kr : ∀ (r : Int32) (w1 : FW), res = (r, w1) → ∀ (H : Heap) (locs : List Loc), GG X (FP X fa w1 ++ rest) s.heap H locs → ∀ (pc : Nat) (ls : Array Slot), decode cX1_draw pc = .ok (.ireturn, 1) → W p l e (RMw 0 0 0 0) s m args below meth c H locs 0 0 Q (F0 m pc ls [.int r])) {H : Heap} {locs : List Loc} (hG : GG X (FP X fa w ++ rest) s.heap H locs) {ls : Array Slot} (hl : lv_has ls 2 [(0, .ref (fa 0)), (1, .int x1)]) : W p l e (RMw 0 0 0 0) s m args below meth c H locs 0 0 Q (F0 m 0 ls []) := by
  have hx := B.1
  have hb := B.2.1
  unfold fF_draw at hf
  refine lv_aload_n hx hb dX1_draw_0 rfl (lv_at hl 0 rfl) ?_
  refine lv_aload_n hx hb dX1_draw_1 rfl (lv_at hl 0 rfl) ?_
  refine fe_fen_g10 B hK hG.1 dX1_draw_2 ?_
  refine lv_ldc (v := 1103515245) hx hb B.2.2.2.1 (B.2.2.2.2 _ q1349) dX1_draw_5 ?_
  refine lv_imul hx hb dX1_draw_7 ?_
  refine lv_sipush (v := 12345) hx hb dX1_draw_8 (by decide) ?_
  refine lv_iadd hx hb dX1_draw_11 ?_
  obtain ⟨w_1, e_2, hf⟩ := bo hf
  refine fe_fen_p10 B hK hG e_2 dX1_draw_12 (fun H locs hG => ?_)
  refine lv_aload_n hx hb dX1_draw_15 rfl (lv_at hl 0 rfl) ?_
  refine fe_fen_g10 B hK hG.1 dX1_draw_16 ?_
  refine lv_bipush (v := 16) hx hb dX1_draw_19 (by decide) ?_
  refine w_iushr hx hb dX1_draw_21 ?_
  refine lv_iload_n hx hb dX1_draw_22 rfl (lv_at hl 1 rfl) ?_
  obtain ⟨u_4, e_3, hf⟩ := bo hf
  refine w_irem hx hb dX1_draw_23 (nz_in e_3) ?_
  exact kr _ _ (Option.some.inj hf).symm _ _ hG _ _ dX1_draw_24

theorem tF_draw (l : Launch) (X : CX) (fa : Nat → Nat) (rest : va_W) (w w' : FW) (x1 : Int32) (r : Int32) (hf : fF_draw w x1 = some (r, w')) : RW l yX1_draw cX1_draw 2 (some .int) 0 0 0 0 [.ref (fa 0), .int x1] X (FP X fa w ++ rest) (FP X fa (w') ++ rest) (some (.int r)) := by
  refine RW.mk (by decide) (Nat.le_of_ble_eq_true rfl) ?_
  intro p e s m below meth c B hr hlk hK hG ls hl
  exact wF_draw B hK hf (fun r w h H locs hG pc ls hd => by cases h; exact w_iretW B hr hlk hG hd) hG hl
end S_F_draw

section K_cF_draw
variable {p : Program} {l : Launch} {e : Env} {R : Room} {s : State} {m : MethodId} {args : Array Value} {below : List Frame} {meth : Method} {c : Code} {H : Heap} {locs : List Loc} {cells slots : Nat} {Q : State → Prop} {cc : ByteArray} {nL pc : Nat} {ls : Array Slot} {st : List Value} {X : CX} {rest : va_W} {fa : Nat → Nat}
theorem cF_draw (B : CallFix p m c cc nL s args lw_all RX1) (hK : KK X s) {w : FW} (hG : GG X (FP X fa w ++ rest) s.heap H locs) {x1 : Int32} {r : Int32} {f1 : FW} {w' : FW} (hf : fF_draw w x1 = some (r, f1)) (hw : some (f1) = some w') (hR : 0 + 1 ≤ R.frames ∧ 21 ≤ R.locals) (hcs : cells ≤ R.cells ∧ slots ≤ R.slots) (hl : ls.size = nL) (hcat : (st.map fun v => v.category).sum ≤ 8) (hdg : decode cc pc = .ok (.invokevirtual 127, 3)) (kk : ∀ (H1 : Heap) (locs1 : List Loc), GG X (FP X fa (w') ++ rest) s.heap H1 locs1 → W p l e R s m args below meth c H1 locs1 cells slots Q (F0 m (pc + 3) ls (.int r :: st))) : W p l e R s m args below meth c H locs cells slots Q (F0 m pc ls (.int x1 :: .ref (fa 0) :: st)) := by
  cases hw
  exact w_afterW (w_rV_RW (ws := FP X fa w ++ rest) (As := [.int x1]) B hK hG (tF_draw l X fa rest w f1 x1 r hf) (lw_V q1345 q1346 q1347 q88 q1348) 0 rfl rfl (n := 1) (by decide +kernel) hR hcs rfl hl rfl hcat hdg) hG.2.2 kk
end K_cF_draw

section K_cF_homeward
variable {p : Program} {l : Launch} {e : Env} {R : Room} {s : State} {m : MethodId} {args : Array Value} {below : List Frame} {meth : Method} {c : Code} {H : Heap} {locs : List Loc} {cells slots : Nat} {Q : State → Prop} {cc : ByteArray} {nL pc : Nat} {ls : Array Slot} {st : List Value} {X : CX} {rest : va_W} {fa : Nat → Nat}
theorem cF_homeward (B : CallFix p m c cc nL s args lw_all RX1) (hK : KK X s) {w : FW} (hG : GG X (FP X fa w ++ rest) s.heap H locs) {x1 : Int32} {f1 : FW} {w' : FW} (hf : fF_homeward w x1 = some f1) (hw : some (f1) = some w') (hR : 4 + 1 ≤ R.frames ∧ 115 ≤ R.locals) (hcs : cells ≤ R.cells ∧ slots ≤ R.slots) (hl : ls.size = nL) (hcat : (st.map fun v => v.category).sum ≤ 8) (hdg : decode cc pc = .ok (.invokevirtual 130, 3)) (kk : ∀ (H1 : Heap) (locs1 : List Loc), GG X (FP X fa (w') ++ rest) s.heap H1 locs1 → W p l e R s m args below meth c H1 locs1 cells slots Q (F0 m (pc + 3) ls st)) : W p l e R s m args below meth c H locs cells slots Q (F0 m pc ls (.int x1 :: .ref (fa 0) :: st)) := by
  cases hw
  exact w_afterWv (w_rV_RW (ws := FP X fa w ++ rest) (As := [.int x1]) B hK hG (tF_homeward l X fa rest w f1 x1 hf) (lw_V q1351 q1353 qs32 q88 q1354) 0 rfl rfl (n := 1) (by decide +kernel) hR hcs rfl hl rfl hcat hdg) hG.2.2 kk
end K_cF_homeward

section S_F_day
variable {p : Program} {l : Launch} {e : Env} {R : Room} {s : State} {m : MethodId} {args : Array Value} {below : List Frame} {meth : Method} {c : Code} {H : Heap} {locs : List Loc} {cells slots : Nat} {Q : State → Prop} {cc : ByteArray} {nL pc : Nat} {ls : Array Slot} {st : List Value} {X : CX} {rest : va_W} {fa : Nat → Nat}
noncomputable def fF_day_J71_L2 (w : FW) (x1 : Int32) (t1 : Int32) (t2 : Int32) (t3 : Int32) : Option ((Int32 × FW) ⊕ (FW)) :=
  (fF_stands w t1 t2 t3).bind fun f_2 =>
  (some (f_2)).bind fun w_3 =>
  (some (x1 + 1)).bind fun x_5 =>
  some (.inl (x_5, w_3))

set_option maxHeartbeats 4000000 in
theorem wF_day_J71_L2 (B : CallFix p m c cX1_day 4 s args lw_all RX1) (hK : KK X s) {w : FW} {x1 : Int32} {t1 : Int32} {t2 : Int32} {t3 : Int32} {res : (Int32 × FW) ⊕ (FW)} (hf : fF_day_J71_L2 w x1 t1 t2 t3 = some res) (kc : ∀ (y1 : Int32) (w1 : FW), res = .inl (y1, w1) → ∀ (H : Heap) (locs : List Loc), GG X (FP X fa w1 ++ rest) s.heap H locs → ∀ (ls : Array Slot), lv_has ls 4 [(0, .ref (fa 0)), (1, .int y1)] → W p l e (RMw 5 0 0 115) s m args below meth c H locs 0 0 Q (F0 m 2 ls [])) (ke80 : ∀ (w1 : FW), res = .inr w1 → ∀ (H : Heap) (locs : List Loc), GG X (FP X fa w1 ++ rest) s.heap H locs → ∀ (ls : Array Slot), lv_has ls 4 [(0, .ref (fa 0))] → W p l e (RMw 5 0 0 115) s m args below meth c H locs 0 0 Q (F0 m 80 ls [])) {H : Heap} {locs : List Loc} (hG : GG X (FP X fa w ++ rest) s.heap H locs) {ls : Array Slot} (hl : lv_has ls 4 [(0, .ref (fa 0)), (1, .int x1)]) : W p l e (RMw 5 0 0 115) s m args below meth c H locs 0 0 Q (F0 m 71 ls [.int t3, .int t2, .int t1, .ref (fa 0)]) := by
  have hx := B.1
  have hb := B.2.1
  unfold fF_day_J71_L2 at hf
  obtain ⟨f_2, e_1, hf⟩ := bo hf
  obtain ⟨w_3, e_4, hf⟩ := bo hf
  refine cF_stands B hK hG e_1 e_4 ⟨Nat.le_of_ble_eq_true rfl, Nat.le_of_ble_eq_true rfl⟩ ⟨Nat.zero_le _, Nat.zero_le _⟩ hl.1 (Nat.le_of_ble_eq_true rfl) dX1_day_71 (fun H locs hG => ?_)
  obtain ⟨x_5, e_6, hf⟩ := bo hf
  refine w_iinc (k := 1) (lv' := [(1, .int x_5), (0, .ref (fa 0))]) e_6 hx hb dX1_day_74 hl rfl (by decide) rfl (fun ls hl => ?_)
  refine lv_goto (tgt := 2) hx hb dX1_day_77 (by decide) ?_
  exact kc _ _ (Option.some.inj hf).symm _ _ hG _ (lv_sub hl [1, 0] rfl)

noncomputable def fF_day_J61_L2 (w : FW) (x1 : Int32) (x3 : Int32) (t1 : Int32) (t2 : Int32) : Option ((Int32 × FW) ⊕ (FW)) :=
  if x3 = (-1) then
    fF_day_J71_L2 w x1 t1 t2 0
  else
    fF_day_J71_L2 w x1 t1 t2 1

set_option maxHeartbeats 4000000 in
theorem wF_day_J61_L2 (B : CallFix p m c cX1_day 4 s args lw_all RX1) (hK : KK X s) {w : FW} {x1 : Int32} {x3 : Int32} {t1 : Int32} {t2 : Int32} {res : (Int32 × FW) ⊕ (FW)} (hf : fF_day_J61_L2 w x1 x3 t1 t2 = some res) (kc : ∀ (y1 : Int32) (w1 : FW), res = .inl (y1, w1) → ∀ (H : Heap) (locs : List Loc), GG X (FP X fa w1 ++ rest) s.heap H locs → ∀ (ls : Array Slot), lv_has ls 4 [(0, .ref (fa 0)), (1, .int y1)] → W p l e (RMw 5 0 0 115) s m args below meth c H locs 0 0 Q (F0 m 2 ls [])) (ke80 : ∀ (w1 : FW), res = .inr w1 → ∀ (H : Heap) (locs : List Loc), GG X (FP X fa w1 ++ rest) s.heap H locs → ∀ (ls : Array Slot), lv_has ls 4 [(0, .ref (fa 0))] → W p l e (RMw 5 0 0 115) s m args below meth c H locs 0 0 Q (F0 m 80 ls [])) {H : Heap} {locs : List Loc} (hG : GG X (FP X fa w ++ rest) s.heap H locs) {ls : Array Slot} (hl : lv_has ls 4 [(0, .ref (fa 0)), (1, .int x1), (3, .int x3)]) : W p l e (RMw 5 0 0 115) s m args below meth c H locs 0 0 Q (F0 m 61 ls [.int t2, .int t1, .ref (fa 0)]) := by
  have hx := B.1
  have hb := B.2.1
  unfold fF_day_J61_L2 at hf
  refine lv_iload_n hx hb dX1_day_61 rfl (lv_at hl 2 rfl) ?_
  refine lv_iconst (v := (-1)) hx hb dX1_day_62 (by decide) ?_
  refine lv_icmp_eq (tgt := 70) hx hb dX1_day_63 (by decide) (fun c_1 => ?_) (fun c_1 => ?_)
  · have hf := ifp c_1 hf
    refine lv_iconst (v := 0) hx hb dX1_day_70 (by decide) ?_
    exact wF_day_J71_L2 B hK hf kc ke80 hG (lv_sub hl [0, 1] rfl)
  · have hf := ifn c_1 hf
    refine lv_iconst (v := 1) hx hb dX1_day_66 (by decide) ?_
    refine lv_goto (tgt := 71) hx hb dX1_day_67 (by decide) ?_
    exact wF_day_J71_L2 B hK hf kc ke80 hG (lv_sub hl [0, 1] rfl)

noncomputable def fF_day_J43_L2 (w : FW) (x1 : Int32) (t0 : Int32) : Option ((Int32 × FW) ⊕ (FW)) :=
  if t0 = (-1) then
    (rd (w.2.1 2) 4 x1).bind fun v_2 =>
    fF_day_J61_L2 w x1 t0 x1 v_2
  else
    fF_day_J61_L2 w x1 t0 x1 t0

set_option maxHeartbeats 4000000 in
theorem wF_day_J43_L2 (B : CallFix p m c cX1_day 4 s args lw_all RX1) (hK : KK X s) {w : FW} {x1 : Int32} {t0 : Int32} {res : (Int32 × FW) ⊕ (FW)} (hf : fF_day_J43_L2 w x1 t0 = some res) (kc : ∀ (y1 : Int32) (w1 : FW), res = .inl (y1, w1) → ∀ (H : Heap) (locs : List Loc), GG X (FP X fa w1 ++ rest) s.heap H locs → ∀ (ls : Array Slot), lv_has ls 4 [(0, .ref (fa 0)), (1, .int y1)] → W p l e (RMw 5 0 0 115) s m args below meth c H locs 0 0 Q (F0 m 2 ls [])) (ke80 : ∀ (w1 : FW), res = .inr w1 → ∀ (H : Heap) (locs : List Loc), GG X (FP X fa w1 ++ rest) s.heap H locs → ∀ (ls : Array Slot), lv_has ls 4 [(0, .ref (fa 0))] → W p l e (RMw 5 0 0 115) s m args below meth c H locs 0 0 Q (F0 m 80 ls [])) {H : Heap} {locs : List Loc} (hG : GG X (FP X fa w ++ rest) s.heap H locs) {ls : Array Slot} (hl : lv_has ls 4 [(0, .ref (fa 0)), (1, .int x1)]) : W p l e (RMw 5 0 0 115) s m args below meth c H locs 0 0 Q (F0 m 43 ls [.int t0]) := by
  have hx := B.1
  have hb := B.2.1
  unfold fF_day_J43_L2 at hf
  refine lv_istore_n (lv' := [(3, .int t0), (0, .ref (fa 0)), (1, .int x1)]) hx hb dX1_day_43 rfl hl (by decide) rfl (fun ls hl => ?_)
  refine lv_aload_n hx hb dX1_day_44 rfl (lv_at hl 1 rfl) ?_
  refine lv_iload_n hx hb dX1_day_45 rfl (lv_at hl 2 rfl) ?_
  refine lv_iload_n hx hb dX1_day_46 rfl (lv_at hl 0 rfl) ?_
  refine lv_iconst (v := (-1)) hx hb dX1_day_47 (by decide) ?_
  refine lv_icmp_ne (tgt := 60) hx hb dX1_day_48 (by decide) (fun c_1 => ?_) (fun c_1 => ?_)
  · have hf := ifn c_1 hf
    refine lv_iload_n hx hb dX1_day_60 rfl (lv_at hl 0 rfl) ?_
    exact wF_day_J61_L2 B hK hf kc ke80 hG (lv_sub hl [1, 2, 0] rfl)
  · have hf := ifp c_1 hf
    refine lv_aload_n hx hb dX1_day_51 rfl (lv_at hl 1 rfl) ?_
    refine fe_fen_g2 B hK hG.1 dX1_day_52 ?_
    refine lv_iload_n hx hb dX1_day_55 rfl (lv_at hl 2 rfl) ?_
    obtain ⟨v_2, e_3, hf⟩ := bo hf
    refine fe_cell_l B hK hG.1 e_3 dX1_day_56 ?_
    refine lv_goto (tgt := 61) hx hb dX1_day_57 (by decide) ?_
    exact wF_day_J61_L2 B hK hf kc ke80 hG (lv_sub hl [1, 2, 0] rfl)

noncomputable def fF_day_L2 (w : FW) (x1 : Int32) : Option ((Int32 × FW) ⊕ (FW)) :=
  if (w.1 9) ≤ x1 then
    some (.inr w)
  else
    (fF_isLost w x1).bind fun r_2 =>
    if r_2 = 0 then
      (some (x1 + 1)).bind fun x_5 =>
      some (.inl (x_5, w))
    else
      b2 (fF_draw w 5) fun r_11 f_8 =>
      (some (f_8)).bind fun w_9 =>
      if r_11 = 0 then
        fF_day_J43_L2 w_9 x1 (-1)
      else
        (rd (w_9.2.1 2) 4 x1).bind fun v_13 =>
        (fF_beside w_9 v_13 r_11).bind fun r_15 =>
        fF_day_J43_L2 w_9 x1 r_15

set_option maxHeartbeats 4000000 in
theorem wF_day_L2 (B : CallFix p m c cX1_day 4 s args lw_all RX1) (hK : KK X s) {w : FW} {x1 : Int32} {res : (Int32 × FW) ⊕ (FW)} (hf : fF_day_L2 w x1 = some res) (kc : ∀ (y1 : Int32) (w1 : FW), res = .inl (y1, w1) → ∀ (H : Heap) (locs : List Loc), GG X (FP X fa w1 ++ rest) s.heap H locs → ∀ (ls : Array Slot), lv_has ls 4 [(0, .ref (fa 0)), (1, .int y1)] → W p l e (RMw 5 0 0 115) s m args below meth c H locs 0 0 Q (F0 m 2 ls [])) (ke80 : ∀ (w1 : FW), res = .inr w1 → ∀ (H : Heap) (locs : List Loc), GG X (FP X fa w1 ++ rest) s.heap H locs → ∀ (ls : Array Slot), lv_has ls 4 [(0, .ref (fa 0))] → W p l e (RMw 5 0 0 115) s m args below meth c H locs 0 0 Q (F0 m 80 ls [])) {H : Heap} {locs : List Loc} (hG : GG X (FP X fa w ++ rest) s.heap H locs) {ls : Array Slot} (hl : lv_has ls 4 [(0, .ref (fa 0)), (1, .int x1)]) : W p l e (RMw 5 0 0 115) s m args below meth c H locs 0 0 Q (F0 m 2 ls []) := by
  have hx := B.1
  have hb := B.2.1
  unfold fF_day_L2 at hf
  refine lv_iload_n hx hb dX1_day_2 rfl (lv_at hl 1 rfl) ?_
  refine lv_aload_n hx hb dX1_day_3 rfl (lv_at hl 0 rfl) ?_
  refine fe_fen_g9 B hK hG.1 dX1_day_4 ?_
  refine lv_icmp_ge (tgt := 80) hx hb dX1_day_7 (by decide) (fun c_1 => ?_) (fun c_1 => ?_)
  · have hf := ifp c_1 hf
    exact ke80 _ (Option.some.inj hf).symm _ _ hG _ (lv_sub hl [0] rfl)
  · have hf := ifn c_1 hf
    refine lv_aload_n hx hb dX1_day_10 rfl (lv_at hl 0 rfl) ?_
    refine lv_iload_n hx hb dX1_day_11 rfl (lv_at hl 1 rfl) ?_
    obtain ⟨r_2, e_3, hf⟩ := bo hf
    refine cF_isLost B hK hG.2.2 hG.1 e_3 ⟨Nat.le_of_ble_eq_true rfl, Nat.le_of_ble_eq_true rfl⟩ ⟨Nat.zero_le _, Nat.zero_le _⟩ hl.1 (Nat.le_of_ble_eq_true rfl) dX1_day_12 ?_
    refine lv_if_eq (tgt := 74) hx hb dX1_day_15 (by decide) (fun c_4 => ?_) (fun c_4 => ?_)
    · have hf := ifp c_4 hf
      obtain ⟨x_5, e_6, hf⟩ := bo hf
      refine w_iinc (k := 1) (lv' := [(1, .int x_5), (0, .ref (fa 0))]) e_6 hx hb dX1_day_74 hl rfl (by decide) rfl (fun ls hl => ?_)
      refine lv_goto (tgt := 2) hx hb dX1_day_77 (by decide) ?_
      exact kc _ _ (Option.some.inj hf).symm _ _ hG _ (lv_sub hl [1, 0] rfl)
    · have hf := ifn c_4 hf
      refine lv_aload_n hx hb dX1_day_18 rfl (lv_at hl 0 rfl) ?_
      refine lv_iconst (v := 5) hx hb dX1_day_19 (by decide) ?_
      obtain ⟨r_11, f_8, e_7, hf⟩ := b2s hf
      obtain ⟨w_9, e_10, hf⟩ := bo hf
      refine cF_draw B hK hG e_7 e_10 ⟨Nat.le_of_ble_eq_true rfl, Nat.le_of_ble_eq_true rfl⟩ ⟨Nat.zero_le _, Nat.zero_le _⟩ hl.1 (Nat.le_of_ble_eq_true rfl) dX1_day_20 (fun H locs hG => ?_)
      refine lv_istore_n (lv' := [(2, .int r_11), (0, .ref (fa 0)), (1, .int x1)]) hx hb dX1_day_23 rfl hl (by decide) rfl (fun ls hl => ?_)
      refine lv_iload_n hx hb dX1_day_24 rfl (lv_at hl 0 rfl) ?_
      refine lv_if_ne (tgt := 32) hx hb dX1_day_25 (by decide) (fun c_12 => ?_) (fun c_12 => ?_)
      · have hf := ifn c_12 hf
        refine lv_aload_n hx hb dX1_day_32 rfl (lv_at hl 1 rfl) ?_
        refine lv_aload_n hx hb dX1_day_33 rfl (lv_at hl 1 rfl) ?_
        refine fe_fen_g2 B hK hG.1 dX1_day_34 ?_
        refine lv_iload_n hx hb dX1_day_37 rfl (lv_at hl 2 rfl) ?_
        obtain ⟨v_13, e_14, hf⟩ := bo hf
        refine fe_cell_l B hK hG.1 e_14 dX1_day_38 ?_
        refine lv_iload_n hx hb dX1_day_39 rfl (lv_at hl 0 rfl) ?_
        obtain ⟨r_15, e_16, hf⟩ := bo hf
        refine cF_beside B hK hG.2.2 hG.1 e_16 ⟨Nat.le_of_ble_eq_true rfl, Nat.le_of_ble_eq_true rfl⟩ ⟨Nat.zero_le _, Nat.zero_le _⟩ hl.1 (Nat.le_of_ble_eq_true rfl) dX1_day_40 ?_
        exact wF_day_J43_L2 B hK hf kc ke80 hG (lv_sub hl [1, 2] rfl)
      · have hf := ifp c_12 hf
        refine lv_iconst (v := (-1)) hx hb dX1_day_28 (by decide) ?_
        refine lv_goto (tgt := 43) hx hb dX1_day_29 (by decide) ?_
        exact wF_day_J43_L2 B hK hf kc ke80 hG (lv_sub hl [1, 2] rfl)

set_option maxHeartbeats 4000000 in
theorem vF_day_L2 (B : CallFix p m c cX1_day 4 s args lw_all RX1) (hK : KK X s) {w : FW} {x1 : Int32} {res : FW} (hf : lp (fun q : Int32 × FW => fF_day_L2 q.2 q.1) (x1, w) = some res) (ke80 : ∀ (w1 : FW), res = w1 → ∀ (H : Heap) (locs : List Loc), GG X (FP X fa w1 ++ rest) s.heap H locs → ∀ (ls : Array Slot), lv_has ls 4 [(0, .ref (fa 0))] → W p l e (RMw 5 0 0 115) s m args below meth c H locs 0 0 Q (F0 m 80 ls [])) {H : Heap} {locs : List Loc} (hG : GG X (FP X fa w ++ rest) s.heap H locs) {ls : Array Slot} (hl : lv_has ls 4 [(0, .ref (fa 0)), (1, .int x1)]) : W p l e (RMw 5 0 0 115) s m args below meth c H locs 0 0 Q (F0 m 2 ls []) := by
  refine lp_ind (r := res) (P := fun q : Int32 × FW => ∀ (H : Heap) (locs : List Loc) (ls : Array Slot), GG X (FP X fa q.2 ++ rest) s.heap H locs → lv_has ls 4 [(0, .ref (fa 0)), (1, .int q.1)] → W p l e (RMw 5 0 0 115) s m args below meth c H locs 0 0 Q (F0 m 2 ls [])) ?_ ?_ _ hf _ _ _ hG hl
  · intro q hb H locs ls hG hl
    exact wF_day_L2 B hK hb (fun _ _ h => by cases h) (fun z0 h => ke80 z0 (Sum.inr.inj h)) hG hl
  · intro q q2 hb ih H locs ls hG hl
    exact wF_day_L2 B hK hb (fun z0 z1 h => by cases h; exact fun H locs hG ls hl => ih H locs ls hG hl) (fun _ h => by cases h) hG hl

noncomputable def fF_day_L82 (w : FW) (x1 : Int32) : Option ((Int32 × FW) ⊕ (FW)) :=
  if (w.1 9) ≤ x1 then
    some (.inr w)
  else
    (fF_isLost w x1).bind fun r_2 =>
    if r_2 = 0 then
      (fF_homeward w x1).bind fun f_8 =>
      (some (f_8)).bind fun w_9 =>
      (some (x1 + 1)).bind fun x_11 =>
      some (.inl (x_11, w_9))
    else
      (some (x1 + 1)).bind fun x_5 =>
      some (.inl (x_5, w))

set_option maxHeartbeats 4000000 in
theorem wF_day_L82 (B : CallFix p m c cX1_day 4 s args lw_all RX1) (hK : KK X s) {w : FW} {x1 : Int32} {res : (Int32 × FW) ⊕ (FW)} (hf : fF_day_L82 w x1 = some res) (kc : ∀ (y1 : Int32) (w1 : FW), res = .inl (y1, w1) → ∀ (H : Heap) (locs : List Loc), GG X (FP X fa w1 ++ rest) s.heap H locs → ∀ (ls : Array Slot), lv_has ls 4 [(0, .ref (fa 0)), (1, .int y1)] → W p l e (RMw 5 0 0 115) s m args below meth c H locs 0 0 Q (F0 m 82 ls [])) (ke109 : ∀ (w1 : FW), res = .inr w1 → ∀ (H : Heap) (locs : List Loc), GG X (FP X fa w1 ++ rest) s.heap H locs → ∀ (ls : Array Slot), lv_has ls 4 [] → W p l e (RMw 5 0 0 115) s m args below meth c H locs 0 0 Q (F0 m 109 ls [])) {H : Heap} {locs : List Loc} (hG : GG X (FP X fa w ++ rest) s.heap H locs) {ls : Array Slot} (hl : lv_has ls 4 [(0, .ref (fa 0)), (1, .int x1)]) : W p l e (RMw 5 0 0 115) s m args below meth c H locs 0 0 Q (F0 m 82 ls []) := by
  have hx := B.1
  have hb := B.2.1
  unfold fF_day_L82 at hf
  refine lv_iload_n hx hb dX1_day_82 rfl (lv_at hl 1 rfl) ?_
  refine lv_aload_n hx hb dX1_day_83 rfl (lv_at hl 0 rfl) ?_
  refine fe_fen_g9 B hK hG.1 dX1_day_84 ?_
  refine lv_icmp_ge (tgt := 109) hx hb dX1_day_87 (by decide) (fun c_1 => ?_) (fun c_1 => ?_)
  · have hf := ifp c_1 hf
    exact ke109 _ (Option.some.inj hf).symm _ _ hG _ (lv_sub hl [] rfl)
  · have hf := ifn c_1 hf
    refine lv_aload_n hx hb dX1_day_90 rfl (lv_at hl 0 rfl) ?_
    refine lv_iload_n hx hb dX1_day_91 rfl (lv_at hl 1 rfl) ?_
    obtain ⟨r_2, e_3, hf⟩ := bo hf
    refine cF_isLost B hK hG.2.2 hG.1 e_3 ⟨Nat.le_of_ble_eq_true rfl, Nat.le_of_ble_eq_true rfl⟩ ⟨Nat.zero_le _, Nat.zero_le _⟩ hl.1 (Nat.le_of_ble_eq_true rfl) dX1_day_92 ?_
    refine lv_if_ne (tgt := 103) hx hb dX1_day_95 (by decide) (fun c_4 => ?_) (fun c_4 => ?_)
    · have hf := ifn c_4 hf
      obtain ⟨x_5, e_6, hf⟩ := bo hf
      refine w_iinc (k := 1) (lv' := [(1, .int x_5), (0, .ref (fa 0))]) e_6 hx hb dX1_day_103 hl rfl (by decide) rfl (fun ls hl => ?_)
      refine lv_goto (tgt := 82) hx hb dX1_day_106 (by decide) ?_
      exact kc _ _ (Option.some.inj hf).symm _ _ hG _ (lv_sub hl [1, 0] rfl)
    · have hf := ifp c_4 hf
      refine lv_aload_n hx hb dX1_day_98 rfl (lv_at hl 0 rfl) ?_
      refine lv_iload_n hx hb dX1_day_99 rfl (lv_at hl 1 rfl) ?_
      obtain ⟨f_8, e_7, hf⟩ := bo hf
      obtain ⟨w_9, e_10, hf⟩ := bo hf
      refine cF_homeward B hK hG e_7 e_10 ⟨Nat.le_of_ble_eq_true rfl, Nat.le_of_ble_eq_true rfl⟩ ⟨Nat.zero_le _, Nat.zero_le _⟩ hl.1 (Nat.le_of_ble_eq_true rfl) dX1_day_100 (fun H locs hG => ?_)
      obtain ⟨x_11, e_12, hf⟩ := bo hf
      refine w_iinc (k := 1) (lv' := [(1, .int x_11), (0, .ref (fa 0))]) e_12 hx hb dX1_day_103 hl rfl (by decide) rfl (fun ls hl => ?_)
      refine lv_goto (tgt := 82) hx hb dX1_day_106 (by decide) ?_
      exact kc _ _ (Option.some.inj hf).symm _ _ hG _ (lv_sub hl [1, 0] rfl)

set_option maxHeartbeats 4000000 in
theorem vF_day_L82 (B : CallFix p m c cX1_day 4 s args lw_all RX1) (hK : KK X s) {w : FW} {x1 : Int32} {res : FW} (hf : lp (fun q : Int32 × FW => fF_day_L82 q.2 q.1) (x1, w) = some res) (ke109 : ∀ (w1 : FW), res = w1 → ∀ (H : Heap) (locs : List Loc), GG X (FP X fa w1 ++ rest) s.heap H locs → ∀ (ls : Array Slot), lv_has ls 4 [] → W p l e (RMw 5 0 0 115) s m args below meth c H locs 0 0 Q (F0 m 109 ls [])) {H : Heap} {locs : List Loc} (hG : GG X (FP X fa w ++ rest) s.heap H locs) {ls : Array Slot} (hl : lv_has ls 4 [(0, .ref (fa 0)), (1, .int x1)]) : W p l e (RMw 5 0 0 115) s m args below meth c H locs 0 0 Q (F0 m 82 ls []) := by
  refine lp_ind (r := res) (P := fun q : Int32 × FW => ∀ (H : Heap) (locs : List Loc) (ls : Array Slot), GG X (FP X fa q.2 ++ rest) s.heap H locs → lv_has ls 4 [(0, .ref (fa 0)), (1, .int q.1)] → W p l e (RMw 5 0 0 115) s m args below meth c H locs 0 0 Q (F0 m 82 ls [])) ?_ ?_ _ hf _ _ _ hG hl
  · intro q hb H locs ls hG hl
    exact wF_day_L82 B hK hb (fun _ _ h => by cases h) (fun z0 h => ke109 z0 (Sum.inr.inj h)) hG hl
  · intro q q2 hb ih H locs ls hG hl
    exact wF_day_L82 B hK hb (fun z0 z1 h => by cases h; exact fun H locs hG ls hl => ih H locs ls hG hl) (fun _ h => by cases h) hG hl

noncomputable def fF_day (w : FW)  : Option (FW) :=
  (lp (fun q : Int32 × FW => fF_day_L2 q.2 q.1) (0, w)).bind (
    fun q_5 => (fun (w_1 : FW) =>
      (lp (fun q : Int32 × FW => fF_day_L82 q.2 q.1) (0, w_1)).bind (
        fun q_3 => (fun (w_2 : FW) =>
          some w_2
        ) q_3
      )
    ) q_5
  )

set_option maxHeartbeats 4000000 in
theorem wF_day (B : CallFix p m c cX1_day 4 s args lw_all RX1) (hK : KK X s) {w : FW}  {res : FW} (hf : fF_day w  = some res) (kr : ∀ (w1 : FW), res = w1 → ∀ (H : Heap) (locs : List Loc), GG X (FP X fa w1 ++ rest) s.heap H locs → ∀ (pc : Nat) (ls : Array Slot), decode cX1_day pc = .ok (.return_, 1) → W p l e (RMw 5 0 0 115) s m args below meth c H locs 0 0 Q (F0 m pc ls [])) {H : Heap} {locs : List Loc} (hG : GG X (FP X fa w ++ rest) s.heap H locs) {ls : Array Slot} (hl : lv_has ls 4 [(0, .ref (fa 0))]) : W p l e (RMw 5 0 0 115) s m args below meth c H locs 0 0 Q (F0 m 0 ls []) := by
  have hx := B.1
  have hb := B.2.1
  unfold fF_day at hf
  refine lv_iconst (v := 0) hx hb dX1_day_0 (by decide) ?_
  refine lv_istore_n (lv' := [(1, .int 0), (0, .ref (fa 0))]) hx hb dX1_day_1 rfl hl (by decide) rfl (fun ls hl => ?_)
  obtain ⟨w_1, e_6, hf⟩ := bo hf
  try dsimp only at hf
  refine vF_day_L2 B hK e_6 ?_ hG (lv_sub hl [1, 0] rfl)
  intro z0 hz
  cases hz
  intro H locs hG ls hl
  refine lv_iconst (v := 0) hx hb dX1_day_80 (by decide) ?_
  refine lv_istore_n (lv' := [(1, .int 0), (0, .ref (fa 0))]) hx hb dX1_day_81 rfl hl (by decide) rfl (fun ls hl => ?_)
  obtain ⟨w_2, e_4, hf⟩ := bo hf
  try dsimp only at hf
  refine vF_day_L82 B hK e_4 ?_ hG (lv_sub hl [1, 0] rfl)
  intro z0 hz
  cases hz
  intro H locs hG ls hl
  exact kr _ (Option.some.inj hf).symm _ _ hG _ _ dX1_day_109

theorem tF_day (l : Launch) (X : CX) (fa : Nat → Nat) (rest : va_W) (w w' : FW)  (hf : fF_day w  = some w') : RW l yX1_day cX1_day 4 none 5 0 0 115 [.ref (fa 0)] X (FP X fa w ++ rest) (FP X fa (w') ++ rest) none := by
  refine RW.mk (by decide) (Nat.le_of_ble_eq_true rfl) ?_
  intro p e s m below meth c B hr hlk hK hG ls hl
  exact wF_day B hK hf (fun w h H locs hG pc ls hd => by cases h; exact w_vretW B hr hlk hG hd) hG hl
end S_F_day

section S_F_addsWalker
variable {p : Program} {l : Launch} {e : Env} {R : Room} {s : State} {m : MethodId} {args : Array Value} {below : List Frame} {meth : Method} {c : Code} {H : Heap} {locs : List Loc} {cells slots : Nat} {Q : State → Prop} {cc : ByteArray} {nL pc : Nat} {ls : Array Slot} {st : List Value} {X : CX} {rest : va_W} {fa : Nat → Nat}
noncomputable def fF_addsWalker (w : FW) (x1 : Int32) (x2 : Int32) : Option (Int32 × FW) :=
  ((sto (w.2.1 2) 4 (w.1 9) x1).map (fun g_3 => fau w 2 g_3)).bind fun w_1 =>
  ((sto (w_1.2.1 3) 4 (w_1.1 9) x2).map (fun g_6 => fau w_1 3 g_6)).bind fun w_4 =>
  (some (fpt w_4 9 ((w_4.1 9) + 1))).bind fun w_7 =>
  some (((w_7.1 9) - 1), w_7)

set_option maxHeartbeats 4000000 in
theorem wF_addsWalker (B : CallFix p m c cX1_addsWalker 3 s args lw_all RX1) (hK : KK X s) {w : FW} {x1 : Int32} {x2 : Int32} {res : Int32 × FW} (hf : fF_addsWalker w x1 x2 = some res) (kr : ∀ (r : Int32) (w1 : FW), res = (r, w1) → ∀ (H : Heap) (locs : List Loc), GG X (FP X fa w1 ++ rest) s.heap H locs → ∀ (pc : Nat) (ls : Array Slot), decode cX1_addsWalker pc = .ok (.ireturn, 1) → W p l e (RMw 0 0 0 0) s m args below meth c H locs 0 0 Q (F0 m pc ls [.int r])) {H : Heap} {locs : List Loc} (hG : GG X (FP X fa w ++ rest) s.heap H locs) {ls : Array Slot} (hl : lv_has ls 3 [(0, .ref (fa 0)), (1, .int x1), (2, .int x2)]) : W p l e (RMw 0 0 0 0) s m args below meth c H locs 0 0 Q (F0 m 0 ls []) := by
  have hx := B.1
  have hb := B.2.1
  unfold fF_addsWalker at hf
  refine lv_aload_n hx hb dX1_addsWalker_0 rfl (lv_at hl 0 rfl) ?_
  refine fe_fen_g2 B hK hG.1 dX1_addsWalker_1 ?_
  refine lv_aload_n hx hb dX1_addsWalker_4 rfl (lv_at hl 0 rfl) ?_
  refine fe_fen_g9 B hK hG.1 dX1_addsWalker_5 ?_
  refine lv_iload_n hx hb dX1_addsWalker_8 rfl (lv_at hl 1 rfl) ?_
  obtain ⟨w_1, e_2, hf⟩ := bo hf
  refine fe_cell_s B hK hG e_2 dX1_addsWalker_9 (fun H locs hG => ?_)
  refine lv_aload_n hx hb dX1_addsWalker_10 rfl (lv_at hl 0 rfl) ?_
  refine fe_fen_g3 B hK hG.1 dX1_addsWalker_11 ?_
  refine lv_aload_n hx hb dX1_addsWalker_14 rfl (lv_at hl 0 rfl) ?_
  refine fe_fen_g9 B hK hG.1 dX1_addsWalker_15 ?_
  refine lv_iload_n hx hb dX1_addsWalker_18 rfl (lv_at hl 2 rfl) ?_
  obtain ⟨w_4, e_5, hf⟩ := bo hf
  refine fe_sure_s B hK hG e_5 dX1_addsWalker_19 (fun H locs hG => ?_)
  refine lv_aload_n hx hb dX1_addsWalker_20 rfl (lv_at hl 0 rfl) ?_
  refine lv_dup hx hb dX1_addsWalker_21 rfl ?_
  refine fe_fen_g9 B hK hG.1 dX1_addsWalker_22 ?_
  refine lv_iconst (v := 1) hx hb dX1_addsWalker_25 (by decide) ?_
  refine lv_iadd hx hb dX1_addsWalker_26 ?_
  obtain ⟨w_7, e_8, hf⟩ := bo hf
  refine fe_fen_p9 B hK hG e_8 dX1_addsWalker_27 (fun H locs hG => ?_)
  refine lv_aload_n hx hb dX1_addsWalker_30 rfl (lv_at hl 0 rfl) ?_
  refine fe_fen_g9 B hK hG.1 dX1_addsWalker_31 ?_
  refine lv_iconst (v := 1) hx hb dX1_addsWalker_34 (by decide) ?_
  refine lv_isub hx hb dX1_addsWalker_35 ?_
  exact kr _ _ (Option.some.inj hf).symm _ _ hG _ _ dX1_addsWalker_36

theorem tF_addsWalker (l : Launch) (X : CX) (fa : Nat → Nat) (rest : va_W) (w w' : FW) (x1 : Int32) (x2 : Int32) (r : Int32) (hf : fF_addsWalker w x1 x2 = some (r, w')) : RW l yX1_addsWalker cX1_addsWalker 3 (some .int) 0 0 0 0 [.ref (fa 0), .int x1, .int x2] X (FP X fa w ++ rest) (FP X fa (w') ++ rest) (some (.int r)) := by
  refine RW.mk (by decide) (Nat.le_of_ble_eq_true rfl) ?_
  intro p e s m below meth c B hr hlk hK hG ls hl
  exact wF_addsWalker B hK hf (fun r w h H locs hG pc ls hd => by cases h; exact w_iretW B hr hlk hG hd) hG hl
end S_F_addsWalker

section S_L_alone
variable {p : Program} {l : Launch} {e : Env} {R : Room} {s : State} {m : MethodId} {args : Array Value} {below : List Frame} {meth : Method} {c : Code} {H : Heap} {locs : List Loc} {cells slots : Nat} {Q : State → Prop} {cc : ByteArray} {nL pc : Nat} {ls : Array Slot} {st : List Value} {X : CX} {rest : va_W} {la : Nat → Nat}
noncomputable def fL_alone (w : LW) (x1 : Int32) : Option (LW) :=
  ((sto w.2 4 0 x1).map (fun g_3 => (w.1, g_3))).bind fun w_1 =>
  (some ((1, w_1.2))).bind fun w_4 =>
  some w_4

set_option maxHeartbeats 4000000 in
theorem wL_alone (B : CallFix p m c cX2_alone 2 s args lw_all RX2) (hK : KK X s) {w : LW} {x1 : Int32} {res : LW} (hf : fL_alone w x1 = some res) (kr : ∀ (w1 : LW), res = w1 → ∀ (H : Heap) (locs : List Loc), GG X (LoP X la w1 ++ rest) s.heap H locs → ∀ (pc : Nat) (ls : Array Slot), decode cX2_alone pc = .ok (.areturn, 1) → W p l e (RMw 0 0 0 0) s m args below meth c H locs 0 0 Q (F0 m pc ls [.ref (la 0)])) {H : Heap} {locs : List Loc} (hG : GG X (LoP X la w ++ rest) s.heap H locs) {ls : Array Slot} (hl : lv_has ls 2 [(0, .ref (la 0)), (1, .int x1)]) : W p l e (RMw 0 0 0 0) s m args below meth c H locs 0 0 Q (F0 m 0 ls []) := by
  have hx := B.1
  have hb := B.2.1
  unfold fL_alone at hf
  refine lv_aload_n hx hb dX2_alone_0 rfl (lv_at hl 0 rfl) ?_
  refine lo_lost_g0 B hK hG.1 dX2_alone_1 ?_
  refine lv_iconst (v := 0) hx hb dX2_alone_4 (by decide) ?_
  refine lv_iload_n hx hb dX2_alone_5 rfl (lv_at hl 1 rfl) ?_
  obtain ⟨w_1, e_2, hf⟩ := bo hf
  refine lo_cell_s B hK hG e_2 dX2_alone_6 (fun H locs hG => ?_)
  refine lv_aload_n hx hb dX2_alone_7 rfl (lv_at hl 0 rfl) ?_
  refine lv_iconst (v := 1) hx hb dX2_alone_8 (by decide) ?_
  obtain ⟨w_4, e_5, hf⟩ := bo hf
  refine lo_lost_p1 B hK hG e_5 dX2_alone_9 (fun H locs hG => ?_)
  refine lv_aload_n hx hb dX2_alone_12 rfl (lv_at hl 0 rfl) ?_
  exact kr _ (Option.some.inj hf).symm _ _ hG _ _ dX2_alone_13

theorem tL_alone (l : Launch) (X : CX) (la : Nat → Nat) (rest : va_W) (w w' : LW) (x1 : Int32) (hf : fL_alone w x1 = some w') : RW l yX2_alone cX2_alone 2 (some (.object "PointAtWhoIsLost$Lost")) 0 0 0 0 [.ref (la 0), .int x1] X (LoP X la w ++ rest) (LoP X la (w') ++ rest) (some (.ref (la 0))) := by
  refine RW.mk (by decide) (Nat.le_of_ble_eq_true rfl) ?_
  intro p e s m below meth c B hr hlk hK hG ls hl
  exact wL_alone B hK hf (fun w h H locs hG pc ls hd => by cases h; exact w_aretW B hr (by first | exact Or.inl ⟨_, rfl⟩ | exact Or.inr ⟨_, rfl⟩) hlk hG hd) hG hl
end S_L_alone

section K_cLC_far
variable {p : Program} {l : Launch} {e : Env} {R : Room} {s : State} {m : MethodId} {args : Array Value} {below : List Frame} {meth : Method} {c : Code} {H : Heap} {locs : List Loc} {cells slots : Nat} {Q : State → Prop} {cc : ByteArray} {nL pc : Nat} {ls : Array Slot} {st : List Value} {X : CX} {rest : va_W}
theorem cLC_far (B : CallFix p m c cc nL s args lw_all RX2) (hK : KK X s) {x0 : Int32} {x1 : Int32} {r : Int32} (hf : fC_far x0 x1 = some r) (hR : 1 + 1 ≤ R.frames ∧ 42 ≤ R.locals) (hcs : cells ≤ R.cells ∧ slots ≤ R.slots) (hl : ls.size = nL) (hcat : (st.map fun v => v.category).sum ≤ 8) (hdg : decode cc pc = .ok (.invokestatic 19, 3)) (kk : W p l e R s m args below meth c H locs cells slots Q (F0 m (pc + 3) ls (.int r :: st))) : W p l e R s m args below meth c H locs cells slots Q (F0 m pc ls (.int x1 :: .int x0 :: st)) :=
  w_afterR (w_rSN_ST (As := [.int x0, .int x1]) B hK (tC_far l x0 x1 r hf) q527 q528 q87 q529 (n := 2) (by decide +kernel) hR hcs rfl hl rfl hcat hdg) kk
end K_cLC_far

section S_L_nearest
variable {p : Program} {l : Launch} {e : Env} {R : Room} {s : State} {m : MethodId} {args : Array Value} {below : List Frame} {meth : Method} {c : Code} {H : Heap} {locs : List Loc} {cells slots : Nat} {Q : State → Prop} {cc : ByteArray} {nL pc : Nat} {ls : Array Slot} {st : List Value} {X : CX} {rest : va_W} {la : Nat → Nat}
noncomputable def fL_nearest_J40_L4 (w : LW) (x1 : Int32) (x3 : Int32) : Option ((Int32 × Int32) ⊕ (Int32)) :=
  (some (x3 + 1)).bind fun x_1 =>
  some (.inl (x3, x_1))

set_option maxHeartbeats 4000000 in
theorem wL_nearest_J40_L4 (B : CallFix p m c cX2_nearest 4 s args lw_all RX2) (hK : KK X s) {w : LW} (hP : va_P X.2.2.1 vwCl (LoP X la w ++ rest) s.heap) {x1 : Int32} {x3 : Int32} {res : (Int32 × Int32) ⊕ (Int32)} (hf : fL_nearest_J40_L4 w x1 x3 = some res) (kc : ∀ (y2 : Int32) (y3 : Int32), res = .inl (y2, y3) → ∀ (ls : Array Slot), lv_has ls 4 [(0, .ref (la 0)), (1, .int x1), (2, .int y2), (3, .int y3)] → W p l e (RM 2 42) s m args below meth c s.heap [] 0 0 Q (F0 m 4 ls [])) (ke52 : ∀ (y2 : Int32), res = .inr y2 → ∀ (ls : Array Slot), lv_has ls 4 [(2, .int y2)] → W p l e (RM 2 42) s m args below meth c s.heap [] 0 0 Q (F0 m 52 ls [])) {ls : Array Slot} (hl : lv_has ls 4 [(0, .ref (la 0)), (1, .int x1), (3, .int x3)]) : W p l e (RM 2 42) s m args below meth c s.heap [] 0 0 Q (F0 m 40 ls []) := by
  have hx := B.1
  have hb := B.2.1
  unfold fL_nearest_J40_L4 at hf
  refine lv_iload_n hx hb dX2_nearest_40 rfl (lv_at hl 2 rfl) ?_
  refine lv_goto (tgt := 45) hx hb dX2_nearest_41 (by decide) ?_
  refine lv_istore_n (lv' := [(2, .int x3), (0, .ref (la 0)), (1, .int x1), (3, .int x3)]) hx hb dX2_nearest_45 rfl hl (by decide) rfl (fun ls hl => ?_)
  obtain ⟨x_1, e_2, hf⟩ := bo hf
  refine w_iinc (k := 3) (lv' := [(3, .int x_1), (2, .int x3), (0, .ref (la 0)), (1, .int x1)]) e_2 hx hb dX2_nearest_46 hl rfl (by decide) rfl (fun ls hl => ?_)
  refine lv_goto (tgt := 4) hx hb dX2_nearest_49 (by decide) ?_
  exact kc _ _ (Option.some.inj hf).symm _ (lv_sub hl [2, 3, 1, 0] rfl)

noncomputable def fL_nearest_L4 (w : LW) (x1 : Int32) (x2 : Int32) (x3 : Int32) : Option ((Int32 × Int32) ⊕ (Int32)) :=
  if w.1 ≤ x3 then
    some (.inr x2)
  else
    if x2 = (-1) then
      fL_nearest_J40_L4 w x1 x3
    else
      (rd w.2 4 x3).bind fun v_3 =>
      (fC_far v_3 x1).bind fun r_5 =>
      (rd w.2 4 x2).bind fun v_7 =>
      (fC_far v_7 x1).bind fun r_9 =>
      if r_9 ≤ r_5 then
        (some (x3 + 1)).bind fun x_12 =>
        some (.inl (x2, x_12))
      else
        fL_nearest_J40_L4 w x1 x3

set_option maxHeartbeats 4000000 in
theorem wL_nearest_L4 (B : CallFix p m c cX2_nearest 4 s args lw_all RX2) (hK : KK X s) {w : LW} (hP : va_P X.2.2.1 vwCl (LoP X la w ++ rest) s.heap) {x1 : Int32} {x2 : Int32} {x3 : Int32} {res : (Int32 × Int32) ⊕ (Int32)} (hf : fL_nearest_L4 w x1 x2 x3 = some res) (kc : ∀ (y2 : Int32) (y3 : Int32), res = .inl (y2, y3) → ∀ (ls : Array Slot), lv_has ls 4 [(0, .ref (la 0)), (1, .int x1), (2, .int y2), (3, .int y3)] → W p l e (RM 2 42) s m args below meth c s.heap [] 0 0 Q (F0 m 4 ls [])) (ke52 : ∀ (y2 : Int32), res = .inr y2 → ∀ (ls : Array Slot), lv_has ls 4 [(2, .int y2)] → W p l e (RM 2 42) s m args below meth c s.heap [] 0 0 Q (F0 m 52 ls [])) {ls : Array Slot} (hl : lv_has ls 4 [(0, .ref (la 0)), (1, .int x1), (2, .int x2), (3, .int x3)]) : W p l e (RM 2 42) s m args below meth c s.heap [] 0 0 Q (F0 m 4 ls []) := by
  have hx := B.1
  have hb := B.2.1
  unfold fL_nearest_L4 at hf
  refine lv_iload_n hx hb dX2_nearest_4 rfl (lv_at hl 3 rfl) ?_
  refine lv_aload_n hx hb dX2_nearest_5 rfl (lv_at hl 0 rfl) ?_
  refine lo_lost_g1 B hK hP dX2_nearest_6 ?_
  refine lv_icmp_ge (tgt := 52) hx hb dX2_nearest_9 (by decide) (fun c_1 => ?_) (fun c_1 => ?_)
  · have hf := ifp c_1 hf
    exact ke52 _ (Option.some.inj hf).symm _ (lv_sub hl [2] rfl)
  · have hf := ifn c_1 hf
    refine lv_iload_n hx hb dX2_nearest_12 rfl (lv_at hl 2 rfl) ?_
    refine lv_iconst (v := (-1)) hx hb dX2_nearest_13 (by decide) ?_
    refine lv_icmp_eq (tgt := 40) hx hb dX2_nearest_14 (by decide) (fun c_2 => ?_) (fun c_2 => ?_)
    · have hf := ifp c_2 hf
      exact wL_nearest_J40_L4 B hK hP hf kc ke52 (lv_sub hl [0, 1, 3] rfl)
    · have hf := ifn c_2 hf
      refine lv_aload_n hx hb dX2_nearest_17 rfl (lv_at hl 0 rfl) ?_
      refine lo_lost_g0 B hK hP dX2_nearest_18 ?_
      refine lv_iload_n hx hb dX2_nearest_21 rfl (lv_at hl 3 rfl) ?_
      obtain ⟨v_3, e_4, hf⟩ := bo hf
      refine lo_cell_l B hK hP e_4 dX2_nearest_22 ?_
      refine lv_iload_n hx hb dX2_nearest_23 rfl (lv_at hl 1 rfl) ?_
      obtain ⟨r_5, e_6, hf⟩ := bo hf
      refine cLC_far B hK e_6 ⟨Nat.le_of_ble_eq_true rfl, Nat.le_of_ble_eq_true rfl⟩ ⟨Nat.zero_le _, Nat.zero_le _⟩ hl.1 (Nat.le_of_ble_eq_true rfl) dX2_nearest_24 ?_
      refine lv_aload_n hx hb dX2_nearest_27 rfl (lv_at hl 0 rfl) ?_
      refine lo_lost_g0 B hK hP dX2_nearest_28 ?_
      refine lv_iload_n hx hb dX2_nearest_31 rfl (lv_at hl 2 rfl) ?_
      obtain ⟨v_7, e_8, hf⟩ := bo hf
      refine lo_cell_l B hK hP e_8 dX2_nearest_32 ?_
      refine lv_iload_n hx hb dX2_nearest_33 rfl (lv_at hl 1 rfl) ?_
      obtain ⟨r_9, e_10, hf⟩ := bo hf
      refine cLC_far B hK e_10 ⟨Nat.le_of_ble_eq_true rfl, Nat.le_of_ble_eq_true rfl⟩ ⟨Nat.zero_le _, Nat.zero_le _⟩ hl.1 (Nat.le_of_ble_eq_true rfl) dX2_nearest_34 ?_
      refine lv_icmp_ge (tgt := 44) hx hb dX2_nearest_37 (by decide) (fun c_11 => ?_) (fun c_11 => ?_)
      · have hf := ifp c_11 hf
        refine lv_iload_n hx hb dX2_nearest_44 rfl (lv_at hl 2 rfl) ?_
        refine lv_istore_n (lv' := [(2, .int x2), (0, .ref (la 0)), (1, .int x1), (3, .int x3)]) hx hb dX2_nearest_45 rfl hl (by decide) rfl (fun ls hl => ?_)
        obtain ⟨x_12, e_13, hf⟩ := bo hf
        refine w_iinc (k := 3) (lv' := [(3, .int x_12), (2, .int x2), (0, .ref (la 0)), (1, .int x1)]) e_13 hx hb dX2_nearest_46 hl rfl (by decide) rfl (fun ls hl => ?_)
        refine lv_goto (tgt := 4) hx hb dX2_nearest_49 (by decide) ?_
        exact kc _ _ (Option.some.inj hf).symm _ (lv_sub hl [2, 3, 1, 0] rfl)
      · have hf := ifn c_11 hf
        exact wL_nearest_J40_L4 B hK hP hf kc ke52 (lv_sub hl [0, 1, 3] rfl)

set_option maxHeartbeats 4000000 in
theorem vL_nearest_L4 (B : CallFix p m c cX2_nearest 4 s args lw_all RX2) (hK : KK X s) {w : LW} (hP : va_P X.2.2.1 vwCl (LoP X la w ++ rest) s.heap) {x1 : Int32} {x2 : Int32} {x3 : Int32} {res : Int32} (hf : lp (fun q : Int32 × Int32 => fL_nearest_L4 w x1 q.1 q.2) (x2, x3) = some res) (ke52 : ∀ (y2 : Int32), res = y2 → ∀ (ls : Array Slot), lv_has ls 4 [(2, .int y2)] → W p l e (RM 2 42) s m args below meth c s.heap [] 0 0 Q (F0 m 52 ls [])) {ls : Array Slot} (hl : lv_has ls 4 [(0, .ref (la 0)), (1, .int x1), (2, .int x2), (3, .int x3)]) : W p l e (RM 2 42) s m args below meth c s.heap [] 0 0 Q (F0 m 4 ls []) := by
  refine lp_ind (r := res) (P := fun q : Int32 × Int32 => ∀ (ls : Array Slot), lv_has ls 4 [(0, .ref (la 0)), (1, .int x1), (2, .int q.1), (3, .int q.2)] → W p l e (RM 2 42) s m args below meth c s.heap [] 0 0 Q (F0 m 4 ls [])) ?_ ?_ _ hf _ hl
  · intro q hb ls hl
    exact wL_nearest_L4 B hK hP hb (fun _ _ h => by cases h) (fun z0 h => ke52 z0 (Sum.inr.inj h)) hl
  · intro q q2 hb ih ls hl
    exact wL_nearest_L4 B hK hP hb (fun z0 z1 h => by cases h; exact fun ls hl => ih ls hl) (fun _ h => by cases h) hl

noncomputable def fL_nearest (w : LW) (x1 : Int32) : Option (Int32) :=
  (lp (fun q : Int32 × Int32 => fL_nearest_L4 w x1 q.1 q.2) ((-1), 0)).bind (
    fun q_2 => (fun (y_1 : Int32) =>
      some y_1
    ) q_2
  )

set_option maxHeartbeats 4000000 in
theorem wL_nearest (B : CallFix p m c cX2_nearest 4 s args lw_all RX2) (hK : KK X s) {w : LW} (hP : va_P X.2.2.1 vwCl (LoP X la w ++ rest) s.heap) {x1 : Int32} {res : Int32} (hf : fL_nearest w x1 = some res) (kr : ∀ (r : Int32), res = r → ∀ (pc : Nat) (ls : Array Slot), decode cX2_nearest pc = .ok (.ireturn, 1) → W p l e (RM 2 42) s m args below meth c s.heap [] 0 0 Q (F0 m pc ls [.int r])) {ls : Array Slot} (hl : lv_has ls 4 [(0, .ref (la 0)), (1, .int x1)]) : W p l e (RM 2 42) s m args below meth c s.heap [] 0 0 Q (F0 m 0 ls []) := by
  have hx := B.1
  have hb := B.2.1
  unfold fL_nearest at hf
  refine lv_iconst (v := (-1)) hx hb dX2_nearest_0 (by decide) ?_
  refine lv_istore_n (lv' := [(2, .int (-1)), (0, .ref (la 0)), (1, .int x1)]) hx hb dX2_nearest_1 rfl hl (by decide) rfl (fun ls hl => ?_)
  refine lv_iconst (v := 0) hx hb dX2_nearest_2 (by decide) ?_
  refine lv_istore_n (lv' := [(3, .int 0), (2, .int (-1)), (0, .ref (la 0)), (1, .int x1)]) hx hb dX2_nearest_3 rfl hl (by decide) rfl (fun ls hl => ?_)
  obtain ⟨y_1, e_3, hf⟩ := bo hf
  try dsimp only at hf
  refine vL_nearest_L4 B hK hP e_3 ?_ (lv_sub hl [2, 3, 1, 0] rfl)
  intro z0 hz
  cases hz
  intro ls hl
  refine lv_iload_n hx hb dX2_nearest_52 rfl (lv_at hl 0 rfl) ?_
  exact kr _ (Option.some.inj hf).symm _ _ dX2_nearest_53

theorem tL_nearest (l : Launch) (X : CX) (la : Nat → Nat) (rest : va_W) (w : LW) (x1 : Int32) (r : Int32) (hf : fL_nearest w x1 = some r) : RO l yX2_nearest cX2_nearest 4 (some .int) 2 42 [.ref (la 0), .int x1] X (LoP X la w ++ rest) (some (.int r)) := by
  refine RO.mk (by decide) (Nat.le_of_ble_eq_true rfl) ?_
  intro p e s m below meth c B hr hlk hK hP ls hl
  exact wL_nearest B hK hP hf (fun r h pc ls hd => by cases h; exact w_iretR B hr hlk rfl hd) hl
end S_L_nearest
