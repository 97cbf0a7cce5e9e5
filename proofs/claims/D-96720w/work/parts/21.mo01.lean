set_option maxRecDepth 100000
section S_plainArm
variable {p : Program} {l : Launch} {e : Env} {R : Room} {s : State} {m : MethodId} {args : Array Value} {below : List Frame} {meth : Method} {c : Code} {H : Heap} {locs : List Loc} {cells slots : Nat} {Q : State → Prop} {cc : ByteArray} {nL pc : Nat} {ls : Array Slot} {st : List Value} {X : CX} {a : Nat → Nat} {w : MW} {rest : va_W}
noncomputable def fM_plainArm (w : MW) (x1 : Int32) : Option (Int32) :=
  if (w.1 24) = 1 then
    (rd (w.2.1 6) 9 x1).bind fun v_2 =>
    (rd (w.2.1 25) 4 0).bind fun v_4 =>
    (fM_wayTo v_2 v_4).bind fun r_6 =>
    some r_6
  else
    some (-1)

set_option maxHeartbeats 4000000 in
theorem wM_plainArm (B : CallFix p m c cX4_plainArm 2 s args lw_all RX4) (hK : KK X s) {w : MW} (hP : va_P X.2.2.1 vwCl (MP X a w ++ rest) s.heap) {x1 : Int32} {res : Int32} (hf : fM_plainArm w x1 = some res) (kr : ∀ (r : Int32), res = r → ∀ (pc : Nat) (ls : Array Slot), decode cX4_plainArm pc = .ok (.ireturn, 1) → W p l e (RM 3 65) s m args below meth c s.heap [] 0 0 Q (F0 m pc ls [.int r])) {ls : Array Slot} (hl : lv_has ls 2 [(0, .ref (a 0)), (1, .int x1)]) : W p l e (RM 3 65) s m args below meth c s.heap [] 0 0 Q (F0 m 0 ls []) := by
  have hx := B.1
  have hb := B.2.1
  unfold fM_plainArm at hf
  refine lv_aload_n hx hb dX4_plainArm_0 rfl (lv_at hl 0 rfl) ?_
  refine mo_g24 B hK hP dX4_plainArm_1 ?_
  refine lv_iconst (v := 1) hx hb dX4_plainArm_4 (by decide) ?_
  refine lv_icmp_ne (tgt := 26) hx hb dX4_plainArm_5 (by decide) (fun c_1 => ?_) (fun c_1 => ?_)
  · have hf := ifn c_1 hf
    refine lv_iconst (v := (-1)) hx hb dX4_plainArm_26 (by decide) ?_
    exact kr _ (Option.some.inj hf).symm _ _ dX4_plainArm_27
  · have hf := ifp c_1 hf
    refine lv_aload_n hx hb dX4_plainArm_8 rfl (lv_at hl 0 rfl) ?_
    refine mo_g6 B hK hP dX4_plainArm_9 ?_
    refine lv_iload_n hx hb dX4_plainArm_12 rfl (lv_at hl 1 rfl) ?_
    obtain ⟨v_2, e_3, hf⟩ := bo hf
    refine mo_ld6 B hK hP e_3 dX4_plainArm_13 ?_
    refine lv_aload_n hx hb dX4_plainArm_14 rfl (lv_at hl 0 rfl) ?_
    refine mo_g25 B hK hP dX4_plainArm_15 ?_
    refine lv_iconst (v := 0) hx hb dX4_plainArm_18 (by decide) ?_
    obtain ⟨v_4, e_5, hf⟩ := bo hf
    refine mo_ld25 B hK hP e_5 dX4_plainArm_19 ?_
    obtain ⟨r_6, e_7, hf⟩ := bo hf
    refine cM_wayTo B e_7 ⟨Nat.le_of_ble_eq_true rfl, Nat.le_of_ble_eq_true rfl⟩ ⟨Nat.zero_le _, Nat.zero_le _⟩ hl.1 (Nat.le_of_ble_eq_true rfl) dX4_plainArm_20 ?_
    refine lv_goto (tgt := 27) hx hb dX4_plainArm_23 (by decide) ?_
    exact kr _ (Option.some.inj hf).symm _ _ dX4_plainArm_27

theorem tM_plainArm (l : Launch) (X : CX) (a : Nat → Nat) (rest : va_W) (w : MW) (x1 : Int32) (r : Int32) (hf : fM_plainArm w x1 = some r) : RO l yX4_plainArm cX4_plainArm 2 (some .int) 3 65 [.ref (a 0), .int x1] X (MP X a w ++ rest) (some (.int r)) := by
  refine RO.mk (by decide) (Nat.le_of_ble_eq_true rfl) ?_
  intro p e s m below meth c B hr hlk hK hP ls hl
  exact wM_plainArm B hK hP hf (fun r h pc ls hd => by cases h; exact w_iretR B hr hlk rfl hd) hl
theorem cM_plainArm (B : CallFix p m c cc nL s args lw_all RX4) (hK : KK X s) (hS : va_S (Az X) s.heap H locs) (hP : va_P X.2.2.1 vwCl (MP X a w ++ rest) H) {x1 : Int32} {r : Int32} (hf : fM_plainArm w x1 = some r) (hR : 3 + 1 ≤ R.frames ∧ 86 ≤ R.locals) (hcs : cells ≤ R.cells ∧ slots ≤ R.slots) (hl : ls.size = nL) (hcat : (st.map fun v => v.category).sum ≤ 8) (hdg : decode cc pc = .ok (.invokevirtual 216, 3)) (kk : W p l e R s m args below meth c H locs cells slots Q (F0 m (pc + 3) ls (.int r :: st))) : W p l e R s m args below meth c H locs cells slots Q (F0 m pc ls (.int x1 :: .ref (a 0) :: st)) :=
  w_afterR (w_rV_RO (As := [.int x1]) B hK hS hP (tM_plainArm l X a rest w x1 r hf) (lw_V q1561 q1563 qs44 q91 q1564) 0 rfl rfl (n := 1) (by decide +kernel) hR hcs rfl hl rfl hcat hdg) kk
end S_plainArm

section S_lazyArm
variable {p : Program} {l : Launch} {e : Env} {R : Room} {s : State} {m : MethodId} {args : Array Value} {below : List Frame} {meth : Method} {c : Code} {H : Heap} {locs : List Loc} {cells slots : Nat} {Q : State → Prop} {cc : ByteArray} {nL pc : Nat} {ls : Array Slot} {st : List Value} {X : CX} {a : Nat → Nat} {w : MW} {rest : va_W}
noncomputable def fM_lazyArm (w : MW) (x1 : Int32) : Option (Int32) :=
  if (w.1 24) = 1 then
    (rd (w.2.1 6) 9 x1).bind fun v_2 =>
    (rd (w.2.1 25) 4 0).bind fun v_4 =>
    (fM_steps v_2 v_4).bind fun r_6 =>
    (rd (w.2.1 5) 9 x1).bind fun v_8 =>
    if v_8 < r_6 then
      some (-1)
    else
      (fM_plainArm w x1).bind fun r_11 =>
      some r_11
  else
    some (-1)

set_option maxHeartbeats 4000000 in
theorem wM_lazyArm (B : CallFix p m c cX4_lazyArm 2 s args lw_all RX4) (hK : KK X s) {w : MW} (hP : va_P X.2.2.1 vwCl (MP X a w ++ rest) s.heap) {x1 : Int32} {res : Int32} (hf : fM_lazyArm w x1 = some res) (kr : ∀ (r : Int32), res = r → ∀ (pc : Nat) (ls : Array Slot), decode cX4_lazyArm pc = .ok (.ireturn, 1) → W p l e (RM 4 86) s m args below meth c s.heap [] 0 0 Q (F0 m pc ls [.int r])) {ls : Array Slot} (hl : lv_has ls 2 [(0, .ref (a 0)), (1, .int x1)]) : W p l e (RM 4 86) s m args below meth c s.heap [] 0 0 Q (F0 m 0 ls []) := by
  have hx := B.1
  have hb := B.2.1
  unfold fM_lazyArm at hf
  refine lv_aload_n hx hb dX4_lazyArm_0 rfl (lv_at hl 0 rfl) ?_
  refine mo_g24 B hK hP dX4_lazyArm_1 ?_
  refine lv_iconst (v := 1) hx hb dX4_lazyArm_4 (by decide) ?_
  refine lv_icmp_ne (tgt := 40) hx hb dX4_lazyArm_5 (by decide) (fun c_1 => ?_) (fun c_1 => ?_)
  · have hf := ifn c_1 hf
    refine lv_iconst (v := (-1)) hx hb dX4_lazyArm_40 (by decide) ?_
    exact kr _ (Option.some.inj hf).symm _ _ dX4_lazyArm_41
  · have hf := ifp c_1 hf
    refine lv_aload_n hx hb dX4_lazyArm_8 rfl (lv_at hl 0 rfl) ?_
    refine mo_g6 B hK hP dX4_lazyArm_9 ?_
    refine lv_iload_n hx hb dX4_lazyArm_12 rfl (lv_at hl 1 rfl) ?_
    obtain ⟨v_2, e_3, hf⟩ := bo hf
    refine mo_ld6 B hK hP e_3 dX4_lazyArm_13 ?_
    refine lv_aload_n hx hb dX4_lazyArm_14 rfl (lv_at hl 0 rfl) ?_
    refine mo_g25 B hK hP dX4_lazyArm_15 ?_
    refine lv_iconst (v := 0) hx hb dX4_lazyArm_18 (by decide) ?_
    obtain ⟨v_4, e_5, hf⟩ := bo hf
    refine mo_ld25 B hK hP e_5 dX4_lazyArm_19 ?_
    obtain ⟨r_6, e_7, hf⟩ := bo hf
    refine cM_steps B e_7 ⟨Nat.le_of_ble_eq_true rfl, Nat.le_of_ble_eq_true rfl⟩ ⟨Nat.zero_le _, Nat.zero_le _⟩ hl.1 (Nat.le_of_ble_eq_true rfl) dX4_lazyArm_20 ?_
    refine lv_aload_n hx hb dX4_lazyArm_23 rfl (lv_at hl 0 rfl) ?_
    refine mo_g5 B hK hP dX4_lazyArm_24 ?_
    refine lv_iload_n hx hb dX4_lazyArm_27 rfl (lv_at hl 1 rfl) ?_
    obtain ⟨v_8, e_9, hf⟩ := bo hf
    refine mo_ld5 B hK hP e_9 dX4_lazyArm_28 ?_
    refine lv_icmp_gt (tgt := 40) hx hb dX4_lazyArm_29 (by decide) (fun c_10 => ?_) (fun c_10 => ?_)
    · have hf := ifp c_10 hf
      refine lv_iconst (v := (-1)) hx hb dX4_lazyArm_40 (by decide) ?_
      exact kr _ (Option.some.inj hf).symm _ _ dX4_lazyArm_41
    · have hf := ifn c_10 hf
      refine lv_aload_n hx hb dX4_lazyArm_32 rfl (lv_at hl 0 rfl) ?_
      refine lv_iload_n hx hb dX4_lazyArm_33 rfl (lv_at hl 1 rfl) ?_
      obtain ⟨r_11, e_12, hf⟩ := bo hf
      refine cM_plainArm B hK va_S.rf hP e_12 ⟨Nat.le_of_ble_eq_true rfl, Nat.le_of_ble_eq_true rfl⟩ ⟨Nat.zero_le _, Nat.zero_le _⟩ hl.1 (Nat.le_of_ble_eq_true rfl) dX4_lazyArm_34 ?_
      refine lv_goto (tgt := 41) hx hb dX4_lazyArm_37 (by decide) ?_
      exact kr _ (Option.some.inj hf).symm _ _ dX4_lazyArm_41

theorem tM_lazyArm (l : Launch) (X : CX) (a : Nat → Nat) (rest : va_W) (w : MW) (x1 : Int32) (r : Int32) (hf : fM_lazyArm w x1 = some r) : RO l yX4_lazyArm cX4_lazyArm 2 (some .int) 4 86 [.ref (a 0), .int x1] X (MP X a w ++ rest) (some (.int r)) := by
  refine RO.mk (by decide) (Nat.le_of_ble_eq_true rfl) ?_
  intro p e s m below meth c B hr hlk hK hP ls hl
  exact wM_lazyArm B hK hP hf (fun r h pc ls hd => by cases h; exact w_iretR B hr hlk rfl hd) hl
theorem cM_lazyArm (B : CallFix p m c cc nL s args lw_all RX4) (hK : KK X s) (hS : va_S (Az X) s.heap H locs) (hP : va_P X.2.2.1 vwCl (MP X a w ++ rest) H) {x1 : Int32} {r : Int32} (hf : fM_lazyArm w x1 = some r) (hR : 4 + 1 ≤ R.frames ∧ 107 ≤ R.locals) (hcs : cells ≤ R.cells ∧ slots ≤ R.slots) (hl : ls.size = nL) (hcat : (st.map fun v => v.category).sum ≤ 8) (hdg : decode cc pc = .ok (.invokevirtual 222, 3)) (kk : W p l e R s m args below meth c H locs cells slots Q (F0 m (pc + 3) ls (.int r :: st))) : W p l e R s m args below meth c H locs cells slots Q (F0 m pc ls (.int x1 :: .ref (a 0) :: st)) :=
  w_afterR (w_rV_RO (As := [.int x1]) B hK hS hP (tM_lazyArm l X a rest w x1 r hf) (lw_V q1557 q1559 qs43 q91 q1560) 0 rfl rfl (n := 1) (by decide +kernel) hR hcs rfl hl rfl hcat hdg) kk
end S_lazyArm

section S_turned
variable {p : Program} {l : Launch} {e : Env} {R : Room} {s : State} {m : MethodId} {args : Array Value} {below : List Frame} {meth : Method} {c : Code} {H : Heap} {locs : List Loc} {cells slots : Nat} {Q : State → Prop} {cc : ByteArray} {nL pc : Nat} {ls : Array Slot} {st : List Value} {X : CX} {a : Nat → Nat} {w : MW} {rest : va_W}
noncomputable def fM_turned (x0 : Int32) (x1 : Int32) : Option (Int32) :=
  if x0 < 0 then
    some x0
  else
    if x0 = 8 then
      some x0
    else
      some (irem (x0 + x1) 8)

set_option maxHeartbeats 4000000 in
theorem wM_turned (B : CallFix p m c cX4_turned 2 s args lw_all RX4) {x0 : Int32} {x1 : Int32} {res : Int32} (hf : fM_turned x0 x1 = some res) (kr : ∀ (r : Int32), res = r → ∀ (pc : Nat) (ls : Array Slot), decode cX4_turned pc = .ok (.ireturn, 1) → W p l e (RM 0 0) s m args below meth c s.heap [] 0 0 Q (F0 m pc ls [.int r])) {ls : Array Slot} (hl : lv_has ls 2 [(0, .int x0), (1, .int x1)]) : W p l e (RM 0 0) s m args below meth c s.heap [] 0 0 Q (F0 m 0 ls []) := by
  have hx := B.1
  have hb := B.2.1
  unfold fM_turned at hf
  refine lv_iload_n hx hb dX4_turned_0 rfl (lv_at hl 0 rfl) ?_
  refine lv_if_lt (tgt := 10) hx hb dX4_turned_1 (by decide) (fun c_1 => ?_) (fun c_1 => ?_)
  · have hf := ifp c_1 hf
    refine lv_iload_n hx hb dX4_turned_10 rfl (lv_at hl 0 rfl) ?_
    refine lv_goto (tgt := 20) hx hb dX4_turned_11 (by decide) ?_
    exact kr _ (Option.some.inj hf).symm _ _ dX4_turned_20
  · have hf := ifn c_1 hf
    refine lv_iload_n hx hb dX4_turned_4 rfl (lv_at hl 0 rfl) ?_
    refine lv_bipush (v := 8) hx hb dX4_turned_5 (by decide) ?_
    refine lv_icmp_ne (tgt := 14) hx hb dX4_turned_7 (by decide) (fun c_2 => ?_) (fun c_2 => ?_)
    · have hf := ifn c_2 hf
      refine lv_iload_n hx hb dX4_turned_14 rfl (lv_at hl 0 rfl) ?_
      refine lv_iload_n hx hb dX4_turned_15 rfl (lv_at hl 1 rfl) ?_
      refine lv_iadd hx hb dX4_turned_16 ?_
      refine lv_bipush (v := 8) hx hb dX4_turned_17 (by decide) ?_
      refine w_irem hx hb dX4_turned_19 (by decide) ?_
      exact kr _ (Option.some.inj hf).symm _ _ dX4_turned_20
    · have hf := ifp c_2 hf
      refine lv_iload_n hx hb dX4_turned_10 rfl (lv_at hl 0 rfl) ?_
      refine lv_goto (tgt := 20) hx hb dX4_turned_11 (by decide) ?_
      exact kr _ (Option.some.inj hf).symm _ _ dX4_turned_20

theorem tM_turned (l : Launch) (x0 : Int32) (x1 : Int32) (r : Int32) (hf : fM_turned x0 x1 = some r) : ST l yX4_turned cX4_turned 2 (some .int) 0 0 [.int x0, .int x1] (.int r) := by
  refine ST.mk (by decide) (Nat.le_of_ble_eq_true rfl) ?_
  intro p e s m below meth c B hr hlk ls hl
  exact wM_turned B hf (fun r h pc ls hd => by cases h; exact w_iretR B hr hlk rfl hd) hl
theorem cM_turned (B : CallFix p m c cc nL s args lw_all RX4) {x0 : Int32} {x1 : Int32} {r : Int32} (hf : fM_turned x0 x1 = some r) (hR : 0 + 1 ≤ R.frames ∧ 21 ≤ R.locals) (hcs : cells ≤ R.cells ∧ slots ≤ R.slots) (hl : ls.size = nL) (hcat : (st.map fun v => v.category).sum ≤ 8) (hdg : decode cc pc = .ok (.invokestatic 225, 3)) (kk : W p l e R s m args below meth c H locs cells slots Q (F0 m (pc + 3) ls (.int r :: st))) : W p l e R s m args below meth c H locs cells slots Q (F0 m pc ls (.int x1 :: .int x0 :: st)) :=
  w_afterR (w_rS_ST (As := [.int x0, .int x1]) B (tM_turned l x0 x1 r hf) (lw_S q1565 q1566 q91 q1567) (n := 2) (by decide +kernel) hR hcs rfl hl rfl hcat hdg) kk
end S_turned

section S_tornArm
variable {p : Program} {l : Launch} {e : Env} {R : Room} {s : State} {m : MethodId} {args : Array Value} {below : List Frame} {meth : Method} {c : Code} {H : Heap} {locs : List Loc} {cells slots : Nat} {Q : State → Prop} {cc : ByteArray} {nL pc : Nat} {ls : Array Slot} {st : List Value} {X : CX} {a : Nat → Nat} {w : MW} {rest : va_W}
noncomputable def fM_tornArm_L7 (w : MW) (x1 : Int32) (x2 : Int32) (x3 : Int32) (x4 : Int32) : Option ((Int32 × Int32 × Int32) ⊕ (Int32 × Int32)) :=
  if (w.1 24) ≤ x4 then
    some (.inr (x2, x3))
  else
    (rd (w.2.1 25) 4 x4).bind fun v_2 =>
    (rd (w.2.1 6) 9 x1).bind fun v_4 =>
    (some (x2 + ((v_2 / 10) - (v_4 / 10)))).bind fun x_6 =>
    (rd (w.2.1 25) 4 x4).bind fun v_8 =>
    (rd (w.2.1 6) 9 x1).bind fun v_10 =>
    (some (x3 + ((irem v_8 10) - (irem v_10 10)))).bind fun x_12 =>
    (some (x4 + 1)).bind fun x_14 =>
    some (.inl (x_6, x_12, x_14))

set_option maxHeartbeats 4000000 in
theorem wM_tornArm_L7 (B : CallFix p m c cX4_tornArm 5 s args lw_all RX4) (hK : KK X s) {w : MW} (hP : va_P X.2.2.1 vwCl (MP X a w ++ rest) s.heap) {x1 : Int32} {x2 : Int32} {x3 : Int32} {x4 : Int32} {res : (Int32 × Int32 × Int32) ⊕ (Int32 × Int32)} (hf : fM_tornArm_L7 w x1 x2 x3 x4 = some res) (kc : ∀ (y2 : Int32) (y3 : Int32) (y4 : Int32), res = .inl (y2, y3, y4) → ∀ (ls : Array Slot), lv_has ls 5 [(0, .ref (a 0)), (1, .int x1), (2, .int y2), (3, .int y3), (4, .int y4)] → W p l e (RM 2 44) s m args below meth c s.heap [] 0 0 Q (F0 m 7 ls [])) (ke68 : ∀ (y2 : Int32) (y3 : Int32), res = .inr (y2, y3) → ∀ (ls : Array Slot), lv_has ls 5 [(0, .ref (a 0)), (2, .int y2), (3, .int y3)] → W p l e (RM 2 44) s m args below meth c s.heap [] 0 0 Q (F0 m 68 ls [])) {ls : Array Slot} (hl : lv_has ls 5 [(0, .ref (a 0)), (1, .int x1), (2, .int x2), (3, .int x3), (4, .int x4)]) : W p l e (RM 2 44) s m args below meth c s.heap [] 0 0 Q (F0 m 7 ls []) := by
  have hx := B.1
  have hb := B.2.1
  unfold fM_tornArm_L7 at hf
  refine lv_iload hx hb dX4_tornArm_7 (lv_at hl 4 rfl) ?_
  refine lv_aload_n hx hb dX4_tornArm_9 rfl (lv_at hl 0 rfl) ?_
  refine mo_g24 B hK hP dX4_tornArm_10 ?_
  refine lv_icmp_ge (tgt := 68) hx hb dX4_tornArm_13 (by decide) (fun c_1 => ?_) (fun c_1 => ?_)
  · have hf := ifp c_1 hf
    exact ke68 _ _ (Option.some.inj hf).symm _ (lv_sub hl [0, 2, 3] rfl)
  · have hf := ifn c_1 hf
    refine lv_iload_n hx hb dX4_tornArm_16 rfl (lv_at hl 2 rfl) ?_
    refine lv_aload_n hx hb dX4_tornArm_17 rfl (lv_at hl 0 rfl) ?_
    refine mo_g25 B hK hP dX4_tornArm_18 ?_
    refine lv_iload hx hb dX4_tornArm_21 (lv_at hl 4 rfl) ?_
    obtain ⟨v_2, e_3, hf⟩ := bo hf
    refine mo_ld25 B hK hP e_3 dX4_tornArm_23 ?_
    refine lv_bipush (v := 10) hx hb dX4_tornArm_24 (by decide) ?_
    refine lv_idiv hx hb dX4_tornArm_26 (by decide) ?_
    refine lv_aload_n hx hb dX4_tornArm_27 rfl (lv_at hl 0 rfl) ?_
    refine mo_g6 B hK hP dX4_tornArm_28 ?_
    refine lv_iload_n hx hb dX4_tornArm_31 rfl (lv_at hl 1 rfl) ?_
    obtain ⟨v_4, e_5, hf⟩ := bo hf
    refine mo_ld6 B hK hP e_5 dX4_tornArm_32 ?_
    refine lv_bipush (v := 10) hx hb dX4_tornArm_33 (by decide) ?_
    refine lv_idiv hx hb dX4_tornArm_35 (by decide) ?_
    refine lv_isub hx hb dX4_tornArm_36 ?_
    refine lv_iadd hx hb dX4_tornArm_37 ?_
    obtain ⟨x_6, e_7, hf⟩ := bo hf
    refine w_istore_n (lv' := [(2, .int x_6), (0, .ref (a 0)), (1, .int x1), (3, .int x3), (4, .int x4)]) e_7 hx hb dX4_tornArm_38 rfl hl (by decide) rfl (fun ls hl => ?_)
    refine lv_iload_n hx hb dX4_tornArm_39 rfl (lv_at hl 3 rfl) ?_
    refine lv_aload_n hx hb dX4_tornArm_40 rfl (lv_at hl 1 rfl) ?_
    refine mo_g25 B hK hP dX4_tornArm_41 ?_
    refine lv_iload hx hb dX4_tornArm_44 (lv_at hl 4 rfl) ?_
    obtain ⟨v_8, e_9, hf⟩ := bo hf
    refine mo_ld25 B hK hP e_9 dX4_tornArm_46 ?_
    refine lv_bipush (v := 10) hx hb dX4_tornArm_47 (by decide) ?_
    refine w_irem hx hb dX4_tornArm_49 (by decide) ?_
    refine lv_aload_n hx hb dX4_tornArm_50 rfl (lv_at hl 1 rfl) ?_
    refine mo_g6 B hK hP dX4_tornArm_51 ?_
    refine lv_iload_n hx hb dX4_tornArm_54 rfl (lv_at hl 2 rfl) ?_
    obtain ⟨v_10, e_11, hf⟩ := bo hf
    refine mo_ld6 B hK hP e_11 dX4_tornArm_55 ?_
    refine lv_bipush (v := 10) hx hb dX4_tornArm_56 (by decide) ?_
    refine w_irem hx hb dX4_tornArm_58 (by decide) ?_
    refine lv_isub hx hb dX4_tornArm_59 ?_
    refine lv_iadd hx hb dX4_tornArm_60 ?_
    obtain ⟨x_12, e_13, hf⟩ := bo hf
    refine w_istore_n (lv' := [(3, .int x_12), (2, .int x_6), (0, .ref (a 0)), (1, .int x1), (4, .int x4)]) e_13 hx hb dX4_tornArm_61 rfl hl (by decide) rfl (fun ls hl => ?_)
    obtain ⟨x_14, e_15, hf⟩ := bo hf
    refine w_iinc (k := 4) (lv' := [(4, .int x_14), (3, .int x_12), (2, .int x_6), (0, .ref (a 0)), (1, .int x1)]) e_15 hx hb dX4_tornArm_62 hl rfl (by decide) rfl (fun ls hl => ?_)
    refine lv_goto (tgt := 7) hx hb dX4_tornArm_65 (by decide) ?_
    exact kc _ _ _ (Option.some.inj hf).symm _ (lv_sub hl [3, 4, 2, 1, 0] rfl)

set_option maxHeartbeats 4000000 in
theorem vM_tornArm_L7 (B : CallFix p m c cX4_tornArm 5 s args lw_all RX4) (hK : KK X s) {w : MW} (hP : va_P X.2.2.1 vwCl (MP X a w ++ rest) s.heap) {x1 : Int32} {x2 : Int32} {x3 : Int32} {x4 : Int32} {res : Int32 × Int32} (hf : lp (fun q : Int32 × Int32 × Int32 => fM_tornArm_L7 w x1 q.1 q.2.1 q.2.2) (x2, x3, x4) = some res) (ke68 : ∀ (y2 : Int32) (y3 : Int32), res = (y2, y3) → ∀ (ls : Array Slot), lv_has ls 5 [(0, .ref (a 0)), (2, .int y2), (3, .int y3)] → W p l e (RM 2 44) s m args below meth c s.heap [] 0 0 Q (F0 m 68 ls [])) {ls : Array Slot} (hl : lv_has ls 5 [(0, .ref (a 0)), (1, .int x1), (2, .int x2), (3, .int x3), (4, .int x4)]) : W p l e (RM 2 44) s m args below meth c s.heap [] 0 0 Q (F0 m 7 ls []) := by
  refine lp_ind (r := res) (P := fun q : Int32 × Int32 × Int32 => ∀ (ls : Array Slot), lv_has ls 5 [(0, .ref (a 0)), (1, .int x1), (2, .int q.1), (3, .int q.2.1), (4, .int q.2.2)] → W p l e (RM 2 44) s m args below meth c s.heap [] 0 0 Q (F0 m 7 ls [])) ?_ ?_ _ hf _ hl
  · intro q hb ls hl
    exact wM_tornArm_L7 B hK hP hb (fun _ _ _ h => by cases h) (fun z0 z1 h => ke68 z0 z1 (Sum.inr.inj h)) hl
  · intro q q2 hb ih ls hl
    exact wM_tornArm_L7 B hK hP hb (fun z0 z1 z2 h => by cases h; exact fun ls hl => ih ls hl) (fun _ _ h => by cases h) hl

noncomputable def fM_tornArm (w : MW) (x1 : Int32) : Option (Int32) :=
  (lp (fun q : Int32 × Int32 × Int32 => fM_tornArm_L7 w x1 q.1 q.2.1 q.2.2) (0, 0, 0)).bind (
    fun q_6 => (fun (y_1 : Int32) (y_2 : Int32) =>
      if (w.1 24) = 0 then
        some (-1)
      else
        (fM_wayBy y_1 y_2).bind fun r_4 =>
        some r_4
    ) q_6.1 q_6.2
  )

set_option maxHeartbeats 4000000 in
theorem wM_tornArm (B : CallFix p m c cX4_tornArm 5 s args lw_all RX4) (hK : KK X s) {w : MW} (hP : va_P X.2.2.1 vwCl (MP X a w ++ rest) s.heap) {x1 : Int32} {res : Int32} (hf : fM_tornArm w x1 = some res) (kr : ∀ (r : Int32), res = r → ∀ (pc : Nat) (ls : Array Slot), decode cX4_tornArm pc = .ok (.ireturn, 1) → W p l e (RM 2 44) s m args below meth c s.heap [] 0 0 Q (F0 m pc ls [.int r])) {ls : Array Slot} (hl : lv_has ls 5 [(0, .ref (a 0)), (1, .int x1)]) : W p l e (RM 2 44) s m args below meth c s.heap [] 0 0 Q (F0 m 0 ls []) := by
  have hx := B.1
  have hb := B.2.1
  unfold fM_tornArm at hf
  refine lv_iconst (v := 0) hx hb dX4_tornArm_0 (by decide) ?_
  refine lv_istore_n (lv' := [(2, .int 0), (0, .ref (a 0)), (1, .int x1)]) hx hb dX4_tornArm_1 rfl hl (by decide) rfl (fun ls hl => ?_)
  refine lv_iconst (v := 0) hx hb dX4_tornArm_2 (by decide) ?_
  refine lv_istore_n (lv' := [(3, .int 0), (2, .int 0), (0, .ref (a 0)), (1, .int x1)]) hx hb dX4_tornArm_3 rfl hl (by decide) rfl (fun ls hl => ?_)
  refine lv_iconst (v := 0) hx hb dX4_tornArm_4 (by decide) ?_
  refine lv_istore (lv' := [(4, .int 0), (3, .int 0), (2, .int 0), (0, .ref (a 0)), (1, .int x1)]) hx hb dX4_tornArm_5 hl (by decide) rfl (fun ls hl => ?_)
  obtain ⟨⟨y_1, y_2⟩, e_7, hf⟩ := bo hf
  try dsimp only at hf
  refine vM_tornArm_L7 B hK hP e_7 ?_ (lv_sub hl [3, 4, 2, 1, 0] rfl)
  intro z0 z1 hz
  cases hz
  intro ls hl
  refine lv_aload_n hx hb dX4_tornArm_68 rfl (lv_at hl 0 rfl) ?_
  refine mo_g24 B hK hP dX4_tornArm_69 ?_
  refine lv_if_ne (tgt := 79) hx hb dX4_tornArm_72 (by decide) (fun c_3 => ?_) (fun c_3 => ?_)
  · have hf := ifn c_3 hf
    refine lv_iload_n hx hb dX4_tornArm_79 rfl (lv_at hl 1 rfl) ?_
    refine lv_iload_n hx hb dX4_tornArm_80 rfl (lv_at hl 2 rfl) ?_
    obtain ⟨r_4, e_5, hf⟩ := bo hf
    refine cM_wayBy B e_5 ⟨Nat.le_of_ble_eq_true rfl, Nat.le_of_ble_eq_true rfl⟩ ⟨Nat.zero_le _, Nat.zero_le _⟩ hl.1 (Nat.le_of_ble_eq_true rfl) dX4_tornArm_81 ?_
    exact kr _ (Option.some.inj hf).symm _ _ dX4_tornArm_84
  · have hf := ifp c_3 hf
    refine lv_iconst (v := (-1)) hx hb dX4_tornArm_75 (by decide) ?_
    refine lv_goto (tgt := 84) hx hb dX4_tornArm_76 (by decide) ?_
    exact kr _ (Option.some.inj hf).symm _ _ dX4_tornArm_84

theorem tM_tornArm (l : Launch) (X : CX) (a : Nat → Nat) (rest : va_W) (w : MW) (x1 : Int32) (r : Int32) (hf : fM_tornArm w x1 = some r) : RO l yX4_tornArm cX4_tornArm 5 (some .int) 2 44 [.ref (a 0), .int x1] X (MP X a w ++ rest) (some (.int r)) := by
  refine RO.mk (by decide) (Nat.le_of_ble_eq_true rfl) ?_
  intro p e s m below meth c B hr hlk hK hP ls hl
  exact wM_tornArm B hK hP hf (fun r h pc ls hd => by cases h; exact w_iretR B hr hlk rfl hd) hl
theorem cM_tornArm (B : CallFix p m c cc nL s args lw_all RX4) (hK : KK X s) (hS : va_S (Az X) s.heap H locs) (hP : va_P X.2.2.1 vwCl (MP X a w ++ rest) H) {x1 : Int32} {r : Int32} (hf : fM_tornArm w x1 = some r) (hR : 2 + 1 ≤ R.frames ∧ 68 ≤ R.locals) (hcs : cells ≤ R.cells ∧ slots ≤ R.slots) (hl : ls.size = nL) (hcat : (st.map fun v => v.category).sum ≤ 8) (hdg : decode cc pc = .ok (.invokevirtual 228, 3)) (kk : W p l e R s m args below meth c H locs cells slots Q (F0 m (pc + 3) ls (.int r :: st))) : W p l e R s m args below meth c H locs cells slots Q (F0 m pc ls (.int x1 :: .ref (a 0) :: st)) :=
  w_afterR (w_rV_RO (As := [.int x1]) B hK hS hP (tM_tornArm l X a rest w x1 r hf) (lw_V q1568 q1570 qs45 q91 q1571) 0 rfl rfl (n := 1) (by decide +kernel) hR hcs rfl hl rfl hcat hdg) kk
end S_tornArm

section S_armOf
variable {p : Program} {l : Launch} {e : Env} {R : Room} {s : State} {m : MethodId} {args : Array Value} {below : List Frame} {meth : Method} {c : Code} {H : Heap} {locs : List Loc} {cells slots : Nat} {Q : State → Prop} {cc : ByteArray} {nL pc : Nat} {ls : Array Slot} {st : List Value} {X : CX} {a : Nat → Nat} {w : MW} {rest : va_W}
noncomputable def fM_armOf (w : MW) (x1 : Int32) : Option (Int32) :=
  (rd (w.2.1 4) 9 x1).bind fun v_1 =>
  if v_1 = 1 then
    (fM_keenArm w x1).bind fun r_4 =>
    some r_4
  else
    if v_1 = 2 then
      (fM_lazyArm w x1).bind fun r_7 =>
      some r_7
    else
      if v_1 = 3 then
        (fM_keenArm w x1).bind fun r_10 =>
        (fM_turned r_10 1).bind fun r_12 =>
        some r_12
      else
        if v_1 = 4 then
          (fM_lazyArm w x1).bind fun r_15 =>
          (fM_turned r_15 4).bind fun r_17 =>
          some r_17
        else
          if v_1 = 5 then
            (fM_tornArm w x1).bind fun r_20 =>
            some r_20
          else
            (fM_plainArm w x1).bind fun r_22 =>
            some r_22

set_option maxHeartbeats 4000000 in
theorem wM_armOf (B : CallFix p m c cX4_armOf 2 s args lw_all RX4) (hK : KK X s) {w : MW} (hP : va_P X.2.2.1 vwCl (MP X a w ++ rest) s.heap) {x1 : Int32} {res : Int32} (hf : fM_armOf w x1 = some res) (kr : ∀ (r : Int32), res = r → ∀ (pc : Nat) (ls : Array Slot), decode cX4_armOf pc = .ok (.ireturn, 1) → W p l e (RM 5 107) s m args below meth c s.heap [] 0 0 Q (F0 m pc ls [.int r])) {ls : Array Slot} (hl : lv_has ls 2 [(0, .ref (a 0)), (1, .int x1)]) : W p l e (RM 5 107) s m args below meth c s.heap [] 0 0 Q (F0 m 0 ls []) := by
  have hx := B.1
  have hb := B.2.1
  unfold fM_armOf at hf
  refine lv_aload_n hx hb dX4_armOf_0 rfl (lv_at hl 0 rfl) ?_
  refine mo_g4 B hK hP dX4_armOf_1 ?_
  refine lv_iload_n hx hb dX4_armOf_4 rfl (lv_at hl 1 rfl) ?_
  obtain ⟨v_1, e_2, hf⟩ := bo hf
  refine mo_ld4 B hK hP e_2 dX4_armOf_5 ?_
  by_cases c_3 : v_1 = 1
  · have hf := ifp c_3 hf
    refine w_tab (tgt := 40) 1 c_3 hx hb dX4_armOf_6 (by decide) (by decide) rfl (by decide) ?_
    refine lv_aload_n hx hb dX4_armOf_40 rfl (lv_at hl 0 rfl) ?_
    refine lv_iload_n hx hb dX4_armOf_41 rfl (lv_at hl 1 rfl) ?_
    obtain ⟨r_4, e_5, hf⟩ := bo hf
    refine cM_keenArm B hK va_S.rf hP e_5 ⟨Nat.le_of_ble_eq_true rfl, Nat.le_of_ble_eq_true rfl⟩ ⟨Nat.zero_le _, Nat.zero_le _⟩ hl.1 (Nat.le_of_ble_eq_true rfl) dX4_armOf_42 ?_
    exact kr _ (Option.some.inj hf).symm _ _ dX4_armOf_45
  · have hf := ifn c_3 hf
    by_cases c_6 : v_1 = 2
    · have hf := ifp c_6 hf
      refine w_tab (tgt := 46) 2 c_6 hx hb dX4_armOf_6 (by decide) (by decide) rfl (by decide) ?_
      refine lv_aload_n hx hb dX4_armOf_46 rfl (lv_at hl 0 rfl) ?_
      refine lv_iload_n hx hb dX4_armOf_47 rfl (lv_at hl 1 rfl) ?_
      obtain ⟨r_7, e_8, hf⟩ := bo hf
      refine cM_lazyArm B hK va_S.rf hP e_8 ⟨Nat.le_of_ble_eq_true rfl, Nat.le_of_ble_eq_true rfl⟩ ⟨Nat.zero_le _, Nat.zero_le _⟩ hl.1 (Nat.le_of_ble_eq_true rfl) dX4_armOf_48 ?_
      exact kr _ (Option.some.inj hf).symm _ _ dX4_armOf_51
    · have hf := ifn c_6 hf
      by_cases c_9 : v_1 = 3
      · have hf := ifp c_9 hf
        refine w_tab (tgt := 52) 3 c_9 hx hb dX4_armOf_6 (by decide) (by decide) rfl (by decide) ?_
        refine lv_aload_n hx hb dX4_armOf_52 rfl (lv_at hl 0 rfl) ?_
        refine lv_iload_n hx hb dX4_armOf_53 rfl (lv_at hl 1 rfl) ?_
        obtain ⟨r_10, e_11, hf⟩ := bo hf
        refine cM_keenArm B hK va_S.rf hP e_11 ⟨Nat.le_of_ble_eq_true rfl, Nat.le_of_ble_eq_true rfl⟩ ⟨Nat.zero_le _, Nat.zero_le _⟩ hl.1 (Nat.le_of_ble_eq_true rfl) dX4_armOf_54 ?_
        refine lv_iconst (v := 1) hx hb dX4_armOf_57 (by decide) ?_
        obtain ⟨r_12, e_13, hf⟩ := bo hf
        refine cM_turned B e_13 ⟨Nat.le_of_ble_eq_true rfl, Nat.le_of_ble_eq_true rfl⟩ ⟨Nat.zero_le _, Nat.zero_le _⟩ hl.1 (Nat.le_of_ble_eq_true rfl) dX4_armOf_58 ?_
        exact kr _ (Option.some.inj hf).symm _ _ dX4_armOf_61
      · have hf := ifn c_9 hf
        by_cases c_14 : v_1 = 4
        · have hf := ifp c_14 hf
          refine w_tab (tgt := 62) 4 c_14 hx hb dX4_armOf_6 (by decide) (by decide) rfl (by decide) ?_
          refine lv_aload_n hx hb dX4_armOf_62 rfl (lv_at hl 0 rfl) ?_
          refine lv_iload_n hx hb dX4_armOf_63 rfl (lv_at hl 1 rfl) ?_
          obtain ⟨r_15, e_16, hf⟩ := bo hf
          refine cM_lazyArm B hK va_S.rf hP e_16 ⟨Nat.le_of_ble_eq_true rfl, Nat.le_of_ble_eq_true rfl⟩ ⟨Nat.zero_le _, Nat.zero_le _⟩ hl.1 (Nat.le_of_ble_eq_true rfl) dX4_armOf_64 ?_
          refine lv_iconst (v := 4) hx hb dX4_armOf_67 (by decide) ?_
          obtain ⟨r_17, e_18, hf⟩ := bo hf
          refine cM_turned B e_18 ⟨Nat.le_of_ble_eq_true rfl, Nat.le_of_ble_eq_true rfl⟩ ⟨Nat.zero_le _, Nat.zero_le _⟩ hl.1 (Nat.le_of_ble_eq_true rfl) dX4_armOf_68 ?_
          exact kr _ (Option.some.inj hf).symm _ _ dX4_armOf_71
        · have hf := ifn c_14 hf
          by_cases c_19 : v_1 = 5
          · have hf := ifp c_19 hf
            refine w_tab (tgt := 72) 5 c_19 hx hb dX4_armOf_6 (by decide) (by decide) rfl (by decide) ?_
            refine lv_aload_n hx hb dX4_armOf_72 rfl (lv_at hl 0 rfl) ?_
            refine lv_iload_n hx hb dX4_armOf_73 rfl (lv_at hl 1 rfl) ?_
            obtain ⟨r_20, e_21, hf⟩ := bo hf
            refine cM_tornArm B hK va_S.rf hP e_21 ⟨Nat.le_of_ble_eq_true rfl, Nat.le_of_ble_eq_true rfl⟩ ⟨Nat.zero_le _, Nat.zero_le _⟩ hl.1 (Nat.le_of_ble_eq_true rfl) dX4_armOf_74 ?_
            exact kr _ (Option.some.inj hf).symm _ _ dX4_armOf_77
          · have hf := ifn c_19 hf
            refine lv_tableOut (tgt := 78) hx hb dX4_armOf_6 (by have := lv_neT c_3 (a := 1) rfl; have := lv_neT c_6 (a := 2) rfl; have := lv_neT c_9 (a := 3) rfl; have := lv_neT c_14 (a := 4) rfl; have := lv_neT c_19 (a := 5) rfl; omega) (by decide) ?_
            refine lv_aload_n hx hb dX4_armOf_78 rfl (lv_at hl 0 rfl) ?_
            refine lv_iload_n hx hb dX4_armOf_79 rfl (lv_at hl 1 rfl) ?_
            obtain ⟨r_22, e_23, hf⟩ := bo hf
            refine cM_plainArm B hK va_S.rf hP e_23 ⟨Nat.le_of_ble_eq_true rfl, Nat.le_of_ble_eq_true rfl⟩ ⟨Nat.zero_le _, Nat.zero_le _⟩ hl.1 (Nat.le_of_ble_eq_true rfl) dX4_armOf_80 ?_
            exact kr _ (Option.some.inj hf).symm _ _ dX4_armOf_83

theorem tM_armOf (l : Launch) (X : CX) (a : Nat → Nat) (rest : va_W) (w : MW) (x1 : Int32) (r : Int32) (hf : fM_armOf w x1 = some r) : RO l yX4_armOf cX4_armOf 2 (some .int) 5 107 [.ref (a 0), .int x1] X (MP X a w ++ rest) (some (.int r)) := by
  refine RO.mk (by decide) (Nat.le_of_ble_eq_true rfl) ?_
  intro p e s m below meth c B hr hlk hK hP ls hl
  exact wM_armOf B hK hP hf (fun r h pc ls hd => by cases h; exact w_iretR B hr hlk rfl hd) hl
theorem cM_armOf (B : CallFix p m c cc nL s args lw_all RX4) (hK : KK X s) (hS : va_S (Az X) s.heap H locs) (hP : va_P X.2.2.1 vwCl (MP X a w ++ rest) H) {x1 : Int32} {r : Int32} (hf : fM_armOf w x1 = some r) (hR : 5 + 1 ≤ R.frames ∧ 128 ≤ R.locals) (hcs : cells ≤ R.cells ∧ slots ≤ R.slots) (hl : ls.size = nL) (hcat : (st.map fun v => v.category).sum ≤ 8) (hdg : decode cc pc = .ok (.invokevirtual 111, 3)) (kk : W p l e R s m args below meth c H locs cells slots Q (F0 m (pc + 3) ls (.int r :: st))) : W p l e R s m args below meth c H locs cells slots Q (F0 m pc ls (.int x1 :: .ref (a 0) :: st)) :=
  w_afterR (w_rV_RO (As := [.int x1]) B hK hS hP (tM_armOf l X a rest w x1 r hf) (lw_V q1539 q1541 qs41 q91 q1542) 0 rfl rfl (n := 1) (by decide +kernel) hR hcs rfl hl rfl hcat hdg) kk
end S_armOf

section S_says
variable {p : Program} {l : Launch} {e : Env} {R : Room} {s : State} {m : MethodId} {args : Array Value} {below : List Frame} {meth : Method} {c : Code} {H : Heap} {locs : List Loc} {cells slots : Nat} {Q : State → Prop} {cc : ByteArray} {nL pc : Nat} {ls : Array Slot} {st : List Value} {X : CX} {a : Nat → Nat} {w : MW} {rest : va_W}
noncomputable def fM_says_J16 (w : MW)  : Option (Int32 × MW) :=
  b2 (fM_no w (-2)) fun r_1 w_2 =>
  some (r_1, w_2)

set_option maxHeartbeats 4000000 in
theorem wM_says_J16 (B : CallFix p m c cX4_says 4 s args lw_all RX4) (hK : KK X s) {w : MW}  {res : Int32 × MW} (hf : fM_says_J16 w  = some res) (kr : ∀ (r : Int32) (w1 : MW), res = (r, w1) → ∀ (H : Heap) (locs : List Loc), GG X (MP X a w1 ++ rest) s.heap H locs → ∀ (pc : Nat) (ls : Array Slot), decode cX4_says pc = .ok (.ireturn, 1) → W p l e (RMw 6 0 0 128) s m args below meth c H locs 0 0 Q (F0 m pc ls [.int r])) {H : Heap} {locs : List Loc} (hG : GG X (MP X a w ++ rest) s.heap H locs) {ls : Array Slot} (hl : lv_has ls 4 [(0, .ref (a 0))]) : W p l e (RMw 6 0 0 128) s m args below meth c H locs 0 0 Q (F0 m 16 ls []) := by
  have hx := B.1
  have hb := B.2.1
  unfold fM_says_J16 at hf
  refine lv_aload_n hx hb dX4_says_16 rfl (lv_at hl 0 rfl) ?_
  refine lv_bipush (v := (-2)) hx hb dX4_says_17 (by decide) ?_
  obtain ⟨r_1, w_2, e_3, hf⟩ := b2s hf
  refine cM_no B hK hG e_3 ⟨Nat.le_of_ble_eq_true rfl, Nat.le_of_ble_eq_true rfl⟩ ⟨Nat.zero_le _, Nat.zero_le _⟩ hl.1 (Nat.le_of_ble_eq_true rfl) dX4_says_19 (fun H locs hG => ?_)
  exact kr _ _ (Option.some.inj hf).symm _ _ hG _ _ dX4_says_22

noncomputable def fM_says (w : MW) (x1 : Int32) (x2 : Int32) : Option (Int32 × MW) :=
  (fM_isShelf x1).bind fun r_1 =>
  if r_1 = 0 then
    fM_says_J16 w 
  else
    (fM_within x2 0 5).bind fun r_4 =>
    if r_4 = 0 then
      fM_says_J16 w 
    else
      (fM_isRow w x1).bind fun r_7 =>
      if r_7 = 0 then
        (rd (w.2.1 17) 8 x1).bind fun v_10 =>
        if 0 ≤ v_10 then
          (rd (w.2.1 17) 8 x1).bind fun v_13 =>
          (some (v_13 - 10)).bind fun x_15 =>
          (rd (w.2.1 4) 9 x_15).bind fun v_17 =>
          (fM_isUnder v_17 x2).bind fun r_19 =>
          if r_19 = 0 then
            b2 (fM_no w (-3)) fun r_29 w_30 =>
            some (r_29, w_30)
          else
            if x2 = 0 then
              (rd (w.2.1 5) 9 x_15).bind fun v_27 =>
              some (v_27, w)
            else
              (fM_asThingsAre w ).bind fun w_23 =>
              (fM_armOf w_23 x_15).bind fun r_25 =>
              some (r_25, w_23)
        else
          b2 (fM_no w (-4)) fun r_32 w_33 =>
          some (r_32, w_33)
      else
        b2 (fM_no w (-3)) fun r_35 w_36 =>
        some (r_35, w_36)

set_option maxHeartbeats 4000000 in
theorem wM_says (B : CallFix p m c cX4_says 4 s args lw_all RX4) (hK : KK X s) {w : MW} {x1 : Int32} {x2 : Int32} {res : Int32 × MW} (hf : fM_says w x1 x2 = some res) (kr : ∀ (r : Int32) (w1 : MW), res = (r, w1) → ∀ (H : Heap) (locs : List Loc), GG X (MP X a w1 ++ rest) s.heap H locs → ∀ (pc : Nat) (ls : Array Slot), decode cX4_says pc = .ok (.ireturn, 1) → W p l e (RMw 6 0 0 128) s m args below meth c H locs 0 0 Q (F0 m pc ls [.int r])) {H : Heap} {locs : List Loc} (hG : GG X (MP X a w ++ rest) s.heap H locs) {ls : Array Slot} (hl : lv_has ls 4 [(0, .ref (a 0)), (1, .int x1), (2, .int x2)]) : W p l e (RMw 6 0 0 128) s m args below meth c H locs 0 0 Q (F0 m 0 ls []) := by
  have hx := B.1
  have hb := B.2.1
  unfold fM_says at hf
  refine lv_iload_n hx hb dX4_says_0 rfl (lv_at hl 1 rfl) ?_
  obtain ⟨r_1, e_2, hf⟩ := bo hf
  refine cM_isShelf B e_2 ⟨Nat.le_of_ble_eq_true rfl, Nat.le_of_ble_eq_true rfl⟩ ⟨Nat.zero_le _, Nat.zero_le _⟩ hl.1 (Nat.le_of_ble_eq_true rfl) dX4_says_1 ?_
  refine lv_if_eq (tgt := 16) hx hb dX4_says_4 (by decide) (fun c_3 => ?_) (fun c_3 => ?_)
  · have hf := ifp c_3 hf
    exact wM_says_J16 B hK hf kr hG (lv_sub hl [0] rfl)
  · have hf := ifn c_3 hf
    refine lv_iload_n hx hb dX4_says_7 rfl (lv_at hl 2 rfl) ?_
    refine lv_iconst (v := 0) hx hb dX4_says_8 (by decide) ?_
    refine lv_iconst (v := 5) hx hb dX4_says_9 (by decide) ?_
    obtain ⟨r_4, e_5, hf⟩ := bo hf
    refine cM_within B e_5 ⟨Nat.le_of_ble_eq_true rfl, Nat.le_of_ble_eq_true rfl⟩ ⟨Nat.zero_le _, Nat.zero_le _⟩ hl.1 (Nat.le_of_ble_eq_true rfl) dX4_says_10 ?_
    refine lv_if_ne (tgt := 23) hx hb dX4_says_13 (by decide) (fun c_6 => ?_) (fun c_6 => ?_)
    · have hf := ifn c_6 hf
      refine lv_aload_n hx hb dX4_says_23 rfl (lv_at hl 0 rfl) ?_
      refine lv_iload_n hx hb dX4_says_24 rfl (lv_at hl 1 rfl) ?_
      obtain ⟨r_7, e_8, hf⟩ := bo hf
      refine cM_isRow B hK hG.2.2 hG.1 e_8 ⟨Nat.le_of_ble_eq_true rfl, Nat.le_of_ble_eq_true rfl⟩ ⟨Nat.zero_le _, Nat.zero_le _⟩ hl.1 (Nat.le_of_ble_eq_true rfl) dX4_says_25 ?_
      refine lv_if_eq (tgt := 38) hx hb dX4_says_28 (by decide) (fun c_9 => ?_) (fun c_9 => ?_)
      · have hf := ifp c_9 hf
        refine lv_aload_n hx hb dX4_says_38 rfl (lv_at hl 0 rfl) ?_
        refine mo_g17 B hK hG.1 dX4_says_39 ?_
        refine lv_iload_n hx hb dX4_says_42 rfl (lv_at hl 1 rfl) ?_
        obtain ⟨v_10, e_11, hf⟩ := bo hf
        refine mo_ld17 B hK hG.1 e_11 dX4_says_43 ?_
        refine lv_if_ge (tgt := 54) hx hb dX4_says_44 (by decide) (fun c_12 => ?_) (fun c_12 => ?_)
        · have hf := ifp c_12 hf
          refine lv_aload_n hx hb dX4_says_54 rfl (lv_at hl 0 rfl) ?_
          refine mo_g17 B hK hG.1 dX4_says_55 ?_
          refine lv_iload_n hx hb dX4_says_58 rfl (lv_at hl 1 rfl) ?_
          obtain ⟨v_13, e_14, hf⟩ := bo hf
          refine mo_ld17 B hK hG.1 e_14 dX4_says_59 ?_
          refine lv_bipush (v := 10) hx hb dX4_says_60 (by decide) ?_
          refine lv_isub hx hb dX4_says_62 ?_
          obtain ⟨x_15, e_16, hf⟩ := bo hf
          refine w_istore_n (lv' := [(3, .int x_15), (0, .ref (a 0)), (1, .int x1), (2, .int x2)]) e_16 hx hb dX4_says_63 rfl hl (by decide) rfl (fun ls hl => ?_)
          refine lv_aload_n hx hb dX4_says_64 rfl (lv_at hl 1 rfl) ?_
          refine mo_g4 B hK hG.1 dX4_says_65 ?_
          refine lv_iload_n hx hb dX4_says_68 rfl (lv_at hl 0 rfl) ?_
          obtain ⟨v_17, e_18, hf⟩ := bo hf
          refine mo_ld4 B hK hG.1 e_18 dX4_says_69 ?_
          refine lv_iload_n hx hb dX4_says_70 rfl (lv_at hl 3 rfl) ?_
          obtain ⟨r_19, e_20, hf⟩ := bo hf
          refine cM_isUnder B e_20 ⟨Nat.le_of_ble_eq_true rfl, Nat.le_of_ble_eq_true rfl⟩ ⟨Nat.zero_le _, Nat.zero_le _⟩ hl.1 (Nat.le_of_ble_eq_true rfl) dX4_says_71 ?_
          refine lv_if_ne (tgt := 84) hx hb dX4_says_74 (by decide) (fun c_21 => ?_) (fun c_21 => ?_)
          · have hf := ifn c_21 hf
            refine lv_iload_n hx hb dX4_says_84 rfl (lv_at hl 3 rfl) ?_
            refine lv_if_ne (tgt := 95) hx hb dX4_says_85 (by decide) (fun c_22 => ?_) (fun c_22 => ?_)
            · have hf := ifn c_22 hf
              refine lv_aload_n hx hb dX4_says_95 rfl (lv_at hl 1 rfl) ?_
              obtain ⟨w_23, e_24, hf⟩ := bo hf
              refine cM_asThingsAre B hK hG e_24 ⟨Nat.le_of_ble_eq_true rfl, Nat.le_of_ble_eq_true rfl⟩ ⟨Nat.zero_le _, Nat.zero_le _⟩ hl.1 (Nat.le_of_ble_eq_true rfl) dX4_says_96 (fun H locs hG => ?_)
              refine lv_aload_n hx hb dX4_says_99 rfl (lv_at hl 1 rfl) ?_
              refine lv_iload_n hx hb dX4_says_100 rfl (lv_at hl 0 rfl) ?_
              obtain ⟨r_25, e_26, hf⟩ := bo hf
              refine cM_armOf B hK hG.2.2 hG.1 e_26 ⟨Nat.le_of_ble_eq_true rfl, Nat.le_of_ble_eq_true rfl⟩ ⟨Nat.zero_le _, Nat.zero_le _⟩ hl.1 (Nat.le_of_ble_eq_true rfl) dX4_says_101 ?_
              exact kr _ _ (Option.some.inj hf).symm _ _ hG _ _ dX4_says_104
            · have hf := ifp c_22 hf
              refine lv_aload_n hx hb dX4_says_88 rfl (lv_at hl 1 rfl) ?_
              refine mo_g5 B hK hG.1 dX4_says_89 ?_
              refine lv_iload_n hx hb dX4_says_92 rfl (lv_at hl 0 rfl) ?_
              obtain ⟨v_27, e_28, hf⟩ := bo hf
              refine mo_ld5 B hK hG.1 e_28 dX4_says_93 ?_
              exact kr _ _ (Option.some.inj hf).symm _ _ hG _ _ dX4_says_94
          · have hf := ifp c_21 hf
            refine lv_aload_n hx hb dX4_says_77 rfl (lv_at hl 1 rfl) ?_
            refine lv_bipush (v := (-3)) hx hb dX4_says_78 (by decide) ?_
            obtain ⟨r_29, w_30, e_31, hf⟩ := b2s hf
            refine cM_no B hK hG e_31 ⟨Nat.le_of_ble_eq_true rfl, Nat.le_of_ble_eq_true rfl⟩ ⟨Nat.zero_le _, Nat.zero_le _⟩ hl.1 (Nat.le_of_ble_eq_true rfl) dX4_says_80 (fun H locs hG => ?_)
            exact kr _ _ (Option.some.inj hf).symm _ _ hG _ _ dX4_says_83
        · have hf := ifn c_12 hf
          refine lv_aload_n hx hb dX4_says_47 rfl (lv_at hl 0 rfl) ?_
          refine lv_bipush (v := (-4)) hx hb dX4_says_48 (by decide) ?_
          obtain ⟨r_32, w_33, e_34, hf⟩ := b2s hf
          refine cM_no B hK hG e_34 ⟨Nat.le_of_ble_eq_true rfl, Nat.le_of_ble_eq_true rfl⟩ ⟨Nat.zero_le _, Nat.zero_le _⟩ hl.1 (Nat.le_of_ble_eq_true rfl) dX4_says_50 (fun H locs hG => ?_)
          exact kr _ _ (Option.some.inj hf).symm _ _ hG _ _ dX4_says_53
      · have hf := ifn c_9 hf
        refine lv_aload_n hx hb dX4_says_31 rfl (lv_at hl 0 rfl) ?_
        refine lv_bipush (v := (-3)) hx hb dX4_says_32 (by decide) ?_
        obtain ⟨r_35, w_36, e_37, hf⟩ := b2s hf
        refine cM_no B hK hG e_37 ⟨Nat.le_of_ble_eq_true rfl, Nat.le_of_ble_eq_true rfl⟩ ⟨Nat.zero_le _, Nat.zero_le _⟩ hl.1 (Nat.le_of_ble_eq_true rfl) dX4_says_34 (fun H locs hG => ?_)
        exact kr _ _ (Option.some.inj hf).symm _ _ hG _ _ dX4_says_37
    · have hf := ifp c_6 hf
      exact wM_says_J16 B hK hf kr hG (lv_sub hl [0] rfl)

theorem tM_says (l : Launch) (X : CX) (a : Nat → Nat) (rest : va_W) (w w' : MW) (x1 : Int32) (x2 : Int32) (r : Int32) (hf : fM_says w x1 x2 = some (r, w')) : RW l yX4_says cX4_says 4 (some .int) 6 0 0 128 [.ref (a 0), .int x1, .int x2] X (MP X a w ++ rest) (MP X a w' ++ rest) (some (.int r)) := by
  refine RW.mk (by decide) (Nat.le_of_ble_eq_true rfl) ?_
  intro p e s m below meth c B hr hlk hK hG ls hl
  exact wM_says B hK hf (fun r w h H locs hG pc ls hd => by cases h; exact w_iretW B hr hlk hG hd) hG hl
end S_says

section S_side
variable {p : Program} {l : Launch} {e : Env} {R : Room} {s : State} {m : MethodId} {args : Array Value} {below : List Frame} {meth : Method} {c : Code} {H : Heap} {locs : List Loc} {cells slots : Nat} {Q : State → Prop} {cc : ByteArray} {nL pc : Nat} {ls : Array Slot} {st : List Value} {X : CX} {a : Nat → Nat} {w : MW} {rest : va_W}
noncomputable def fM_side_J18 (w : MW)  : Option (Int32 × MW) :=
  b2 (fM_no w (-2)) fun r_1 w_2 =>
  some (r_1, w_2)

set_option maxHeartbeats 4000000 in
theorem wM_side_J18 (B : CallFix p m c cX4_side 3 s args lw_all RX4) (hK : KK X s) {w : MW}  {res : Int32 × MW} (hf : fM_side_J18 w  = some res) (kr : ∀ (r : Int32) (w1 : MW), res = (r, w1) → ∀ (H : Heap) (locs : List Loc), GG X (MP X a w1 ++ rest) s.heap H locs → ∀ (pc : Nat) (ls : Array Slot), decode cX4_side pc = .ok (.ireturn, 1) → W p l e (RMw 1 0 0 22) s m args below meth c H locs 0 0 Q (F0 m pc ls [.int r])) {H : Heap} {locs : List Loc} (hG : GG X (MP X a w ++ rest) s.heap H locs) {ls : Array Slot} (hl : lv_has ls 3 [(0, .ref (a 0))]) : W p l e (RMw 1 0 0 22) s m args below meth c H locs 0 0 Q (F0 m 18 ls []) := by
  have hx := B.1
  have hb := B.2.1
  unfold fM_side_J18 at hf
  refine lv_aload_n hx hb dX4_side_18 rfl (lv_at hl 0 rfl) ?_
  refine lv_bipush (v := (-2)) hx hb dX4_side_19 (by decide) ?_
  obtain ⟨r_1, w_2, e_3, hf⟩ := b2s hf
  refine cM_no B hK hG e_3 ⟨Nat.le_of_ble_eq_true rfl, Nat.le_of_ble_eq_true rfl⟩ ⟨Nat.zero_le _, Nat.zero_le _⟩ hl.1 (Nat.le_of_ble_eq_true rfl) dX4_side_21 (fun H locs hG => ?_)
  exact kr _ _ (Option.some.inj hf).symm _ _ hG _ _ dX4_side_24

noncomputable def fM_side (w : MW) (x1 : Int32) : Option (Int32 × MW) :=
  (fM_within x1 3 7).bind fun r_1 =>
  if r_1 = 0 then
    fM_side_J18 w 
  else
    if (w.1 0) ≤ x1 then
      (some (w.1 0)).bind fun x_5 =>
      (some (mpt w 0 x1)).bind fun w_7 =>
      some (x_5, w_7)
    else
      fM_side_J18 w 

set_option maxHeartbeats 4000000 in
theorem wM_side (B : CallFix p m c cX4_side 3 s args lw_all RX4) (hK : KK X s) {w : MW} {x1 : Int32} {res : Int32 × MW} (hf : fM_side w x1 = some res) (kr : ∀ (r : Int32) (w1 : MW), res = (r, w1) → ∀ (H : Heap) (locs : List Loc), GG X (MP X a w1 ++ rest) s.heap H locs → ∀ (pc : Nat) (ls : Array Slot), decode cX4_side pc = .ok (.ireturn, 1) → W p l e (RMw 1 0 0 22) s m args below meth c H locs 0 0 Q (F0 m pc ls [.int r])) {H : Heap} {locs : List Loc} (hG : GG X (MP X a w ++ rest) s.heap H locs) {ls : Array Slot} (hl : lv_has ls 3 [(0, .ref (a 0)), (1, .int x1)]) : W p l e (RMw 1 0 0 22) s m args below meth c H locs 0 0 Q (F0 m 0 ls []) := by
  have hx := B.1
  have hb := B.2.1
  unfold fM_side at hf
  refine lv_iload_n hx hb dX4_side_0 rfl (lv_at hl 1 rfl) ?_
  refine lv_iconst (v := 3) hx hb dX4_side_1 (by decide) ?_
  refine lv_bipush (v := 7) hx hb dX4_side_2 (by decide) ?_
  obtain ⟨r_1, e_2, hf⟩ := bo hf
  refine cM_within B e_2 ⟨Nat.le_of_ble_eq_true rfl, Nat.le_of_ble_eq_true rfl⟩ ⟨Nat.zero_le _, Nat.zero_le _⟩ hl.1 (Nat.le_of_ble_eq_true rfl) dX4_side_4 ?_
  refine lv_if_eq (tgt := 18) hx hb dX4_side_7 (by decide) (fun c_3 => ?_) (fun c_3 => ?_)
  · have hf := ifp c_3 hf
    exact wM_side_J18 B hK hf kr hG (lv_sub hl [0] rfl)
  · have hf := ifn c_3 hf
    refine lv_iload_n hx hb dX4_side_10 rfl (lv_at hl 1 rfl) ?_
    refine lv_aload_n hx hb dX4_side_11 rfl (lv_at hl 0 rfl) ?_
    refine mo_g0 B hK hG.1 dX4_side_12 ?_
    refine lv_icmp_ge (tgt := 25) hx hb dX4_side_15 (by decide) (fun c_4 => ?_) (fun c_4 => ?_)
    · have hf := ifp c_4 hf
      refine lv_aload_n hx hb dX4_side_25 rfl (lv_at hl 0 rfl) ?_
      refine mo_g0 B hK hG.1 dX4_side_26 ?_
      obtain ⟨x_5, e_6, hf⟩ := bo hf
      refine w_istore_n (lv' := [(2, .int x_5), (0, .ref (a 0)), (1, .int x1)]) e_6 hx hb dX4_side_29 rfl hl (by decide) rfl (fun ls hl => ?_)
      refine lv_aload_n hx hb dX4_side_30 rfl (lv_at hl 1 rfl) ?_
      refine lv_iload_n hx hb dX4_side_31 rfl (lv_at hl 2 rfl) ?_
      obtain ⟨w_7, e_8, hf⟩ := bo hf
      refine mo_p0 B hK hG e_8 dX4_side_32 (fun H locs hG => ?_)
      refine lv_iload_n hx hb dX4_side_35 rfl (lv_at hl 0 rfl) ?_
      exact kr _ _ (Option.some.inj hf).symm _ _ hG _ _ dX4_side_36
    · have hf := ifn c_4 hf
      exact wM_side_J18 B hK hf kr hG (lv_sub hl [0] rfl)

theorem tM_side (l : Launch) (X : CX) (a : Nat → Nat) (rest : va_W) (w w' : MW) (x1 : Int32) (r : Int32) (hf : fM_side w x1 = some (r, w')) : RW l yX4_side cX4_side 3 (some .int) 1 0 0 22 [.ref (a 0), .int x1] X (MP X a w ++ rest) (MP X a w' ++ rest) (some (.int r)) := by
  refine RW.mk (by decide) (Nat.le_of_ble_eq_true rfl) ?_
  intro p e s m below meth c B hr hlk hK hG ls hl
  exact wM_side B hK hf (fun r w h H locs hG pc ls hd => by cases h; exact w_iretW B hr hlk hG hd) hG hl
end S_side

section S_isCell
variable {p : Program} {l : Launch} {e : Env} {R : Room} {s : State} {m : MethodId} {args : Array Value} {below : List Frame} {meth : Method} {c : Code} {H : Heap} {locs : List Loc} {cells slots : Nat} {Q : State → Prop} {cc : ByteArray} {nL pc : Nat} {ls : Array Slot} {st : List Value} {X : CX} {a : Nat → Nat} {w : MW} {rest : va_W}
noncomputable def fM_isCell (w : MW) (x1 : Int64) : Option (Int32) :=
  if (lg_cmp x1 0) < 0 then
    some 0
  else
    if 0 ≤ (lg_cmp (x1 / 10) ((w.1 0).toInt64)) then
      some 0
    else
      if 0 ≤ (lg_cmp (lrem x1 10) ((w.1 0).toInt64)) then
        some 0
      else
        some 1

set_option maxHeartbeats 4000000 in
theorem wM_isCell (B : CallFix p m c cX4_isCell 3 s args lw_all RX4) (hK : KK X s) {w : MW} (hP : va_P X.2.2.1 vwCl (MP X a w ++ rest) s.heap) {x1 : Int64} {res : Int32} (hf : fM_isCell w x1 = some res) (kr : ∀ (r : Int32), res = r → narrow .boolean (.int r) = .int r → ∀ (pc : Nat) (ls : Array Slot), decode cX4_isCell pc = .ok (.ireturn, 1) → W p l e (RM 0 0) s m args below meth c s.heap [] 0 0 Q (F0 m pc ls [.int r])) {ls : Array Slot} (hl : lv_has ls 3 [(0, .ref (a 0)), (1, .long x1)]) : W p l e (RM 0 0) s m args below meth c s.heap [] 0 0 Q (F0 m 0 ls []) := by
  have hx := B.1
  have hb := B.2.1
  unfold fM_isCell at hf
  refine lv_lload_n hx hb dX4_isCell_0 rfl (lv_at hl 1 rfl) ?_
  refine lv_lconst (v := 0) hx hb dX4_isCell_1 (by decide) ?_
  refine W.lcmp hx hb dX4_isCell_2 ?_
  refine lv_if_lt (tgt := 38) hx hb dX4_isCell_3 (by decide) (fun c_1 => ?_) (fun c_1 => ?_)
  · have hf := ifp c_1 hf
    refine lv_iconst (v := 0) hx hb dX4_isCell_38 (by decide) ?_
    exact kr _ (Option.some.inj hf).symm (by decide) _ _ dX4_isCell_39
  · have hf := ifn c_1 hf
    refine lv_lload_n hx hb dX4_isCell_6 rfl (lv_at hl 1 rfl) ?_
    refine lv_ldc2 (v := 10) hx hb B.2.2.2.1 (B.2.2.2.2 _ q1584) dX4_isCell_7 ?_
    refine lv_ldiv hx hb dX4_isCell_10 (by decide) ?_
    refine lv_aload_n hx hb dX4_isCell_11 rfl (lv_at hl 0 rfl) ?_
    refine mo_g0 B hK hP dX4_isCell_12 ?_
    refine lv_i2l hx hb dX4_isCell_15 rfl ?_
    refine W.lcmp hx hb dX4_isCell_16 ?_
    refine lv_if_ge (tgt := 38) hx hb dX4_isCell_17 (by decide) (fun c_2 => ?_) (fun c_2 => ?_)
    · have hf := ifp c_2 hf
      refine lv_iconst (v := 0) hx hb dX4_isCell_38 (by decide) ?_
      exact kr _ (Option.some.inj hf).symm (by decide) _ _ dX4_isCell_39
    · have hf := ifn c_2 hf
      refine lv_lload_n hx hb dX4_isCell_20 rfl (lv_at hl 1 rfl) ?_
      refine lv_ldc2 (v := 10) hx hb B.2.2.2.1 (B.2.2.2.2 _ q1584) dX4_isCell_21 ?_
      refine w_lrem hx hb dX4_isCell_24 (by decide) ?_
      refine lv_aload_n hx hb dX4_isCell_25 rfl (lv_at hl 0 rfl) ?_
      refine mo_g0 B hK hP dX4_isCell_26 ?_
      refine lv_i2l hx hb dX4_isCell_29 rfl ?_
      refine W.lcmp hx hb dX4_isCell_30 ?_
      refine lv_if_ge (tgt := 38) hx hb dX4_isCell_31 (by decide) (fun c_3 => ?_) (fun c_3 => ?_)
      · have hf := ifp c_3 hf
        refine lv_iconst (v := 0) hx hb dX4_isCell_38 (by decide) ?_
        exact kr _ (Option.some.inj hf).symm (by decide) _ _ dX4_isCell_39
      · have hf := ifn c_3 hf
        refine lv_iconst (v := 1) hx hb dX4_isCell_34 (by decide) ?_
        refine lv_goto (tgt := 39) hx hb dX4_isCell_35 (by decide) ?_
        exact kr _ (Option.some.inj hf).symm (by decide) _ _ dX4_isCell_39

theorem tM_isCell (l : Launch) (X : CX) (a : Nat → Nat) (rest : va_W) (w : MW) (x1 : Int64) (r : Int32) (hf : fM_isCell w x1 = some r) : RO l yX4_isCell cX4_isCell 3 (some .boolean) 0 0 [.ref (a 0), .long x1] X (MP X a w ++ rest) (some (.int r)) := by
  refine RO.mk (by decide) (Nat.le_of_ble_eq_true rfl) ?_
  intro p e s m below meth c B hr hlk hK hP ls hl
  exact wM_isCell B hK hP hf (fun r h hn pc ls hd => by cases h; exact w_zretR B hr hlk hn rfl hd) hl
theorem cM_isCell (B : CallFix p m c cc nL s args lw_all RX4) (hK : KK X s) (hS : va_S (Az X) s.heap H locs) (hP : va_P X.2.2.1 vwCl (MP X a w ++ rest) H) {x1 : Int64} {r : Int32} (hf : fM_isCell w x1 = some r) (hR : 0 + 1 ≤ R.frames ∧ 22 ≤ R.locals) (hcs : cells ≤ R.cells ∧ slots ≤ R.slots) (hl : ls.size = nL) (hcat : (st.map fun v => v.category).sum ≤ 8) (hdg : decode cc pc = .ok (.invokevirtual 69, 3)) (kk : W p l e R s m args below meth c H locs cells slots Q (F0 m (pc + 3) ls (.int r :: st))) : W p l e R s m args below meth c H locs cells slots Q (F0 m pc ls (.long x1 :: .ref (a 0) :: st)) :=
  w_afterR (w_rV_RO (As := [.long x1]) B hK hS hP (tM_isCell l X a rest w x1 r hf) (lw_V q1580 q1582 qs46 q91 q1583) 0 rfl rfl (n := 1) (by decide +kernel) hR hcs rfl hl rfl hcat hdg) kk
end S_isCell

section S_isWalkerAt
variable {p : Program} {l : Launch} {e : Env} {R : Room} {s : State} {m : MethodId} {args : Array Value} {below : List Frame} {meth : Method} {c : Code} {H : Heap} {locs : List Loc} {cells slots : Nat} {Q : State → Prop} {cc : ByteArray} {nL pc : Nat} {ls : Array Slot} {st : List Value} {X : CX} {a : Nat → Nat} {w : MW} {rest : va_W}
noncomputable def fM_isWalkerAt_L2 (w : MW) (x1 : Int32) (x2 : Int32) : Option ((Int32) ⊕ (((Unit) ⊕ Unit))) :=
  if (w.1 7) ≤ x2 then
    some (.inr (.inl ()))
  else
    (rd (w.2.1 8) 4 x2).bind fun v_2 =>
    if v_2 = x1 then
      some (.inr (.inr ()))
    else
      (some (x2 + 1)).bind fun x_5 =>
      some (.inl x_5)

set_option maxHeartbeats 4000000 in
theorem wM_isWalkerAt_L2 (B : CallFix p m c cX4_isWalkerAt 3 s args lw_all RX4) (hK : KK X s) {w : MW} (hP : va_P X.2.2.1 vwCl (MP X a w ++ rest) s.heap) {x1 : Int32} {x2 : Int32} {res : (Int32) ⊕ (((Unit) ⊕ Unit))} (hf : fM_isWalkerAt_L2 w x1 x2 = some res) (kc : ∀ (y2 : Int32), res = .inl y2 → ∀ (ls : Array Slot), lv_has ls 3 [(0, .ref (a 0)), (1, .int x1), (2, .int y2)] → W p l e (RM 0 0) s m args below meth c s.heap [] 0 0 Q (F0 m 2 ls [])) (ke28 : res = .inr (.inl ()) → ∀ (ls : Array Slot), lv_has ls 3 [] → W p l e (RM 0 0) s m args below meth c s.heap [] 0 0 Q (F0 m 28 ls [])) (ke20 : res = .inr (.inr ()) → ∀ (ls : Array Slot), lv_has ls 3 [] → W p l e (RM 0 0) s m args below meth c s.heap [] 0 0 Q (F0 m 20 ls [])) {ls : Array Slot} (hl : lv_has ls 3 [(0, .ref (a 0)), (1, .int x1), (2, .int x2)]) : W p l e (RM 0 0) s m args below meth c s.heap [] 0 0 Q (F0 m 2 ls []) := by
  have hx := B.1
  have hb := B.2.1
  unfold fM_isWalkerAt_L2 at hf
  refine lv_iload_n hx hb dX4_isWalkerAt_2 rfl (lv_at hl 2 rfl) ?_
  refine lv_aload_n hx hb dX4_isWalkerAt_3 rfl (lv_at hl 0 rfl) ?_
  refine mo_g7 B hK hP dX4_isWalkerAt_4 ?_
  refine lv_icmp_ge (tgt := 28) hx hb dX4_isWalkerAt_7 (by decide) (fun c_1 => ?_) (fun c_1 => ?_)
  · have hf := ifp c_1 hf
    exact ke28 (Option.some.inj hf).symm _ (lv_sub hl [] rfl)
  · have hf := ifn c_1 hf
    refine lv_aload_n hx hb dX4_isWalkerAt_10 rfl (lv_at hl 0 rfl) ?_
    refine mo_g8 B hK hP dX4_isWalkerAt_11 ?_
    refine lv_iload_n hx hb dX4_isWalkerAt_14 rfl (lv_at hl 2 rfl) ?_
    obtain ⟨v_2, e_3, hf⟩ := bo hf
    refine mo_ld8 B hK hP e_3 dX4_isWalkerAt_15 ?_
    refine lv_iload_n hx hb dX4_isWalkerAt_16 rfl (lv_at hl 1 rfl) ?_
    refine lv_icmp_ne (tgt := 22) hx hb dX4_isWalkerAt_17 (by decide) (fun c_4 => ?_) (fun c_4 => ?_)
    · have hf := ifn c_4 hf
      obtain ⟨x_5, e_6, hf⟩ := bo hf
      refine w_iinc (k := 2) (lv' := [(2, .int x_5), (0, .ref (a 0)), (1, .int x1)]) e_6 hx hb dX4_isWalkerAt_22 hl rfl (by decide) rfl (fun ls hl => ?_)
      refine lv_goto (tgt := 2) hx hb dX4_isWalkerAt_25 (by decide) ?_
      exact kc _ (Option.some.inj hf).symm _ (lv_sub hl [1, 2, 0] rfl)
    · have hf := ifp c_4 hf
      exact ke20 (Option.some.inj hf).symm _ (lv_sub hl [] rfl)

set_option maxHeartbeats 4000000 in
theorem vM_isWalkerAt_L2 (B : CallFix p m c cX4_isWalkerAt 3 s args lw_all RX4) (hK : KK X s) {w : MW} (hP : va_P X.2.2.1 vwCl (MP X a w ++ rest) s.heap) {x1 : Int32} {x2 : Int32} {res : ((Unit) ⊕ Unit)} (hf : lp (fun q : Int32 => fM_isWalkerAt_L2 w x1 q) x2 = some res) (ke28 : res = (.inl ()) → ∀ (ls : Array Slot), lv_has ls 3 [] → W p l e (RM 0 0) s m args below meth c s.heap [] 0 0 Q (F0 m 28 ls [])) (ke20 : res = (.inr ()) → ∀ (ls : Array Slot), lv_has ls 3 [] → W p l e (RM 0 0) s m args below meth c s.heap [] 0 0 Q (F0 m 20 ls [])) {ls : Array Slot} (hl : lv_has ls 3 [(0, .ref (a 0)), (1, .int x1), (2, .int x2)]) : W p l e (RM 0 0) s m args below meth c s.heap [] 0 0 Q (F0 m 2 ls []) := by
  refine lp_ind (r := res) (P := fun q : Int32 => ∀ (ls : Array Slot), lv_has ls 3 [(0, .ref (a 0)), (1, .int x1), (2, .int q)] → W p l e (RM 0 0) s m args below meth c s.heap [] 0 0 Q (F0 m 2 ls [])) ?_ ?_ _ hf _ hl
  · intro q hb ls hl
    exact wM_isWalkerAt_L2 B hK hP hb (fun _ h => by cases h) (fun h => ke28 (Sum.inr.inj h)) (fun h => ke20 (Sum.inr.inj h)) hl
  · intro q q2 hb ih ls hl
    exact wM_isWalkerAt_L2 B hK hP hb (fun z0 h => by cases h; exact fun ls hl => ih ls hl) (fun h => by cases h) (fun h => by cases h) hl

noncomputable def fM_isWalkerAt (w : MW) (x1 : Int32) : Option (Int32) :=
  (lp (fun q : Int32 => fM_isWalkerAt_L2 w x1 q) 0).bind
    (Sum.elim (
      fun _ =>
        some 0
    )
      (
        fun _ =>
          some 1
      )
    )

set_option maxHeartbeats 4000000 in
theorem wM_isWalkerAt (B : CallFix p m c cX4_isWalkerAt 3 s args lw_all RX4) (hK : KK X s) {w : MW} (hP : va_P X.2.2.1 vwCl (MP X a w ++ rest) s.heap) {x1 : Int32} {res : Int32} (hf : fM_isWalkerAt w x1 = some res) (kr : ∀ (r : Int32), res = r → narrow .boolean (.int r) = .int r → ∀ (pc : Nat) (ls : Array Slot), decode cX4_isWalkerAt pc = .ok (.ireturn, 1) → W p l e (RM 0 0) s m args below meth c s.heap [] 0 0 Q (F0 m pc ls [.int r])) {ls : Array Slot} (hl : lv_has ls 3 [(0, .ref (a 0)), (1, .int x1)]) : W p l e (RM 0 0) s m args below meth c s.heap [] 0 0 Q (F0 m 0 ls []) := by
  have hx := B.1
  have hb := B.2.1
  unfold fM_isWalkerAt at hf
  refine lv_iconst (v := 0) hx hb dX4_isWalkerAt_0 (by decide) ?_
  refine lv_istore_n (lv' := [(2, .int 0), (0, .ref (a 0)), (1, .int x1)]) hx hb dX4_isWalkerAt_1 rfl hl (by decide) rfl (fun ls hl => ?_)
  rcases bs hf with ⟨⟨⟩, e_3, hf⟩ | ⟨⟨⟩, e_3, hf⟩
  · refine vM_isWalkerAt_L2 B hK hP e_3 ?_ (fun h => by cases h) (lv_sub hl [1, 2, 0] rfl)
    intro hz
    intro ls hl
    refine lv_iconst (v := 0) hx hb dX4_isWalkerAt_28 (by decide) ?_
    exact kr _ (Option.some.inj hf).symm (by decide) _ _ dX4_isWalkerAt_29
  · refine vM_isWalkerAt_L2 B hK hP e_3 (fun h => by cases h) ?_ (lv_sub hl [1, 2, 0] rfl)
    intro hz
    intro ls hl
    refine lv_iconst (v := 1) hx hb dX4_isWalkerAt_20 (by decide) ?_
    exact kr _ (Option.some.inj hf).symm (by decide) _ _ dX4_isWalkerAt_21

theorem tM_isWalkerAt (l : Launch) (X : CX) (a : Nat → Nat) (rest : va_W) (w : MW) (x1 : Int32) (r : Int32) (hf : fM_isWalkerAt w x1 = some r) : RO l yX4_isWalkerAt cX4_isWalkerAt 3 (some .boolean) 0 0 [.ref (a 0), .int x1] X (MP X a w ++ rest) (some (.int r)) := by
  refine RO.mk (by decide) (Nat.le_of_ble_eq_true rfl) ?_
  intro p e s m below meth c B hr hlk hK hP ls hl
  exact wM_isWalkerAt B hK hP hf (fun r h hn pc ls hd => by cases h; exact w_zretR B hr hlk hn rfl hd) hl
theorem cM_isWalkerAt (B : CallFix p m c cc nL s args lw_all RX4) (hK : KK X s) (hS : va_S (Az X) s.heap H locs) (hP : va_P X.2.2.1 vwCl (MP X a w ++ rest) H) {x1 : Int32} {r : Int32} (hf : fM_isWalkerAt w x1 = some r) (hR : 0 + 1 ≤ R.frames ∧ 22 ≤ R.locals) (hcs : cells ≤ R.cells ∧ slots ≤ R.slots) (hl : ls.size = nL) (hcat : (st.map fun v => v.category).sum ≤ 8) (hdg : decode cc pc = .ok (.invokevirtual 117, 3)) (kk : W p l e R s m args below meth c H locs cells slots Q (F0 m (pc + 3) ls (.int r :: st))) : W p l e R s m args below meth c H locs cells slots Q (F0 m pc ls (.int x1 :: .ref (a 0) :: st)) :=
  w_afterR (w_rV_RO (As := [.int x1]) B hK hS hP (tM_isWalkerAt l X a rest w x1 r hf) (lw_V q1585 q1587 qs47 q91 q1588) 0 rfl rfl (n := 1) (by decide +kernel) hR hcs rfl hl rfl hcat hdg) kk
end S_isWalkerAt

section S_bog
variable {p : Program} {l : Launch} {e : Env} {R : Room} {s : State} {m : MethodId} {args : Array Value} {below : List Frame} {meth : Method} {c : Code} {H : Heap} {locs : List Loc} {cells slots : Nat} {Q : State → Prop} {cc : ByteArray} {nL pc : Nat} {ls : Array Slot} {st : List Value} {X : CX} {a : Nat → Nat} {w : MW} {rest : va_W}
noncomputable def fM_bog_J57 (w : MW) (x1 : Int32) (x2 : Int32) (t0 : Int32) : Option (Int32 × MW) :=
  (mst w 1 67 x1 (vp_nar .boolean x2)).bind fun w_1 =>
  some (t0, w_1)

set_option maxHeartbeats 4000000 in
theorem wM_bog_J57 (B : CallFix p m c cX4_bog 4 s args lw_all RX4) (hK : KK X s) {w : MW} {x1 : Int32} {x2 : Int32} {t0 : Int32} {res : Int32 × MW} (hf : fM_bog_J57 w x1 x2 t0 = some res) (kr : ∀ (r : Int32) (w1 : MW), res = (r, w1) → ∀ (H : Heap) (locs : List Loc), GG X (MP X a w1 ++ rest) s.heap H locs → ∀ (pc : Nat) (ls : Array Slot), decode cX4_bog pc = .ok (.ireturn, 1) → W p l e (RMw 1 0 0 22) s m args below meth c H locs 0 0 Q (F0 m pc ls [.int r])) {H : Heap} {locs : List Loc} (hG : GG X (MP X a w ++ rest) s.heap H locs) {ls : Array Slot} (hl : lv_has ls 4 [(0, .ref (a 0)), (1, .int x1), (2, .int x2)]) : W p l e (RMw 1 0 0 22) s m args below meth c H locs 0 0 Q (F0 m 57 ls [.int t0]) := by
  have hx := B.1
  have hb := B.2.1
  unfold fM_bog_J57 at hf
  refine lv_istore_n (lv' := [(3, .int t0), (0, .ref (a 0)), (1, .int x1), (2, .int x2)]) hx hb dX4_bog_57 rfl hl (by decide) rfl (fun ls hl => ?_)
  refine lv_aload_n hx hb dX4_bog_58 rfl (lv_at hl 1 rfl) ?_
  refine mo_g1 B hK hG.1 dX4_bog_59 ?_
  refine lv_iload_n hx hb dX4_bog_62 rfl (lv_at hl 2 rfl) ?_
  refine lv_iload_n hx hb dX4_bog_63 rfl (lv_at hl 3 rfl) ?_
  obtain ⟨w_1, e_2, hf⟩ := bo hf
  refine mo_st1 B hK hG e_2 dX4_bog_64 (fun H locs hG => ?_)
  refine lv_iload_n hx hb dX4_bog_65 rfl (lv_at hl 0 rfl) ?_
  exact kr _ _ (Option.some.inj hf).symm _ _ hG _ _ dX4_bog_66

noncomputable def fM_bog_J43 (w : MW) (x1 : Int32) (x2 : Int32) : Option (Int32 × MW) :=
  (rd (w.2.1 1) 67 x1).bind fun v_1 =>
  if v_1 = 0 then
    fM_bog_J57 w x1 x2 0
  else
    fM_bog_J57 w x1 x2 1

set_option maxHeartbeats 4000000 in
theorem wM_bog_J43 (B : CallFix p m c cX4_bog 4 s args lw_all RX4) (hK : KK X s) {w : MW} {x1 : Int32} {x2 : Int32} {res : Int32 × MW} (hf : fM_bog_J43 w x1 x2 = some res) (kr : ∀ (r : Int32) (w1 : MW), res = (r, w1) → ∀ (H : Heap) (locs : List Loc), GG X (MP X a w1 ++ rest) s.heap H locs → ∀ (pc : Nat) (ls : Array Slot), decode cX4_bog pc = .ok (.ireturn, 1) → W p l e (RMw 1 0 0 22) s m args below meth c H locs 0 0 Q (F0 m pc ls [.int r])) {H : Heap} {locs : List Loc} (hG : GG X (MP X a w ++ rest) s.heap H locs) {ls : Array Slot} (hl : lv_has ls 4 [(0, .ref (a 0)), (1, .int x1), (2, .int x2)]) : W p l e (RMw 1 0 0 22) s m args below meth c H locs 0 0 Q (F0 m 43 ls []) := by
  have hx := B.1
  have hb := B.2.1
  unfold fM_bog_J43 at hf
  refine lv_aload_n hx hb dX4_bog_43 rfl (lv_at hl 0 rfl) ?_
  refine mo_g1 B hK hG.1 dX4_bog_44 ?_
  refine lv_iload_n hx hb dX4_bog_47 rfl (lv_at hl 1 rfl) ?_
  obtain ⟨v_1, e_2, hf⟩ := bo hf
  refine mo_ld1 B hK hG.1 e_2 dX4_bog_48 ?_
  refine lv_if_eq (tgt := 56) hx hb dX4_bog_49 (by decide) (fun c_3 => ?_) (fun c_3 => ?_)
  · have hf := ifp c_3 hf
    refine lv_iconst (v := 0) hx hb dX4_bog_56 (by decide) ?_
    exact wM_bog_J57 B hK hf kr hG hl
  · have hf := ifn c_3 hf
    refine lv_iconst (v := 1) hx hb dX4_bog_52 (by decide) ?_
    refine lv_goto (tgt := 57) hx hb dX4_bog_53 (by decide) ?_
    exact wM_bog_J57 B hK hf kr hG hl

noncomputable def fM_bog_J36 (w : MW)  : Option (Int32 × MW) :=
  b2 (fM_no w (-5)) fun r_1 w_2 =>
  some (r_1, w_2)

set_option maxHeartbeats 4000000 in
theorem wM_bog_J36 (B : CallFix p m c cX4_bog 4 s args lw_all RX4) (hK : KK X s) {w : MW}  {res : Int32 × MW} (hf : fM_bog_J36 w  = some res) (kr : ∀ (r : Int32) (w1 : MW), res = (r, w1) → ∀ (H : Heap) (locs : List Loc), GG X (MP X a w1 ++ rest) s.heap H locs → ∀ (pc : Nat) (ls : Array Slot), decode cX4_bog pc = .ok (.ireturn, 1) → W p l e (RMw 1 0 0 22) s m args below meth c H locs 0 0 Q (F0 m pc ls [.int r])) {H : Heap} {locs : List Loc} (hG : GG X (MP X a w ++ rest) s.heap H locs) {ls : Array Slot} (hl : lv_has ls 4 [(0, .ref (a 0))]) : W p l e (RMw 1 0 0 22) s m args below meth c H locs 0 0 Q (F0 m 36 ls []) := by
  have hx := B.1
  have hb := B.2.1
  unfold fM_bog_J36 at hf
  refine lv_aload_n hx hb dX4_bog_36 rfl (lv_at hl 0 rfl) ?_
  refine lv_bipush (v := (-5)) hx hb dX4_bog_37 (by decide) ?_
  obtain ⟨r_1, w_2, e_3, hf⟩ := b2s hf
  refine cM_no B hK hG e_3 ⟨Nat.le_of_ble_eq_true rfl, Nat.le_of_ble_eq_true rfl⟩ ⟨Nat.zero_le _, Nat.zero_le _⟩ hl.1 (Nat.le_of_ble_eq_true rfl) dX4_bog_39 (fun H locs hG => ?_)
  exact kr _ _ (Option.some.inj hf).symm _ _ hG _ _ dX4_bog_42

noncomputable def fM_bog (w : MW) (x1 : Int32) (x2 : Int32) : Option (Int32 × MW) :=
  (fM_isCell w (x1.toInt64)).bind fun r_1 =>
  if r_1 = 0 then
    b2 (fM_no w (-2)) fun r_9 w_10 =>
    some (r_9, w_10)
  else
    if x2 = 0 then
      fM_bog_J43 w x1 x2
    else
      if x1 = (w.1 2) then
        fM_bog_J36 w 
      else
        (fM_isWalkerAt w x1).bind fun r_6 =>
        if r_6 = 0 then
          fM_bog_J43 w x1 x2
        else
          fM_bog_J36 w 

set_option maxHeartbeats 4000000 in
theorem wM_bog (B : CallFix p m c cX4_bog 4 s args lw_all RX4) (hK : KK X s) {w : MW} {x1 : Int32} {x2 : Int32} {res : Int32 × MW} (hf : fM_bog w x1 x2 = some res) (kr : ∀ (r : Int32) (w1 : MW), res = (r, w1) → ∀ (H : Heap) (locs : List Loc), GG X (MP X a w1 ++ rest) s.heap H locs → ∀ (pc : Nat) (ls : Array Slot), decode cX4_bog pc = .ok (.ireturn, 1) → W p l e (RMw 1 0 0 22) s m args below meth c H locs 0 0 Q (F0 m pc ls [.int r])) {H : Heap} {locs : List Loc} (hG : GG X (MP X a w ++ rest) s.heap H locs) {ls : Array Slot} (hl : lv_has ls 4 [(0, .ref (a 0)), (1, .int x1), (2, .int x2)]) : W p l e (RMw 1 0 0 22) s m args below meth c H locs 0 0 Q (F0 m 0 ls []) := by
  have hx := B.1
  have hb := B.2.1
  unfold fM_bog at hf
  refine lv_aload_n hx hb dX4_bog_0 rfl (lv_at hl 0 rfl) ?_
  refine lv_iload_n hx hb dX4_bog_1 rfl (lv_at hl 1 rfl) ?_
  refine lv_i2l hx hb dX4_bog_2 rfl ?_
  obtain ⟨r_1, e_2, hf⟩ := bo hf
  refine cM_isCell B hK hG.2.2 hG.1 e_2 ⟨Nat.le_of_ble_eq_true rfl, Nat.le_of_ble_eq_true rfl⟩ ⟨Nat.zero_le _, Nat.zero_le _⟩ hl.1 (Nat.le_of_ble_eq_true rfl) dX4_bog_3 ?_
  refine lv_if_ne (tgt := 16) hx hb dX4_bog_6 (by decide) (fun c_3 => ?_) (fun c_3 => ?_)
  · have hf := ifn c_3 hf
    refine lv_iload_n hx hb dX4_bog_16 rfl (lv_at hl 2 rfl) ?_
    refine lv_if_eq (tgt := 43) hx hb dX4_bog_17 (by decide) (fun c_4 => ?_) (fun c_4 => ?_)
    · have hf := ifp c_4 hf
      exact wM_bog_J43 B hK hf kr hG hl
    · have hf := ifn c_4 hf
      refine lv_iload_n hx hb dX4_bog_20 rfl (lv_at hl 1 rfl) ?_
      refine lv_aload_n hx hb dX4_bog_21 rfl (lv_at hl 0 rfl) ?_
      refine mo_g2 B hK hG.1 dX4_bog_22 ?_
      refine lv_icmp_eq (tgt := 36) hx hb dX4_bog_25 (by decide) (fun c_5 => ?_) (fun c_5 => ?_)
      · have hf := ifp c_5 hf
        exact wM_bog_J36 B hK hf kr hG (lv_sub hl [0] rfl)
      · have hf := ifn c_5 hf
        refine lv_aload_n hx hb dX4_bog_28 rfl (lv_at hl 0 rfl) ?_
        refine lv_iload_n hx hb dX4_bog_29 rfl (lv_at hl 1 rfl) ?_
        obtain ⟨r_6, e_7, hf⟩ := bo hf
        refine cM_isWalkerAt B hK hG.2.2 hG.1 e_7 ⟨Nat.le_of_ble_eq_true rfl, Nat.le_of_ble_eq_true rfl⟩ ⟨Nat.zero_le _, Nat.zero_le _⟩ hl.1 (Nat.le_of_ble_eq_true rfl) dX4_bog_30 ?_
        refine lv_if_eq (tgt := 43) hx hb dX4_bog_33 (by decide) (fun c_8 => ?_) (fun c_8 => ?_)
        · have hf := ifp c_8 hf
          exact wM_bog_J43 B hK hf kr hG hl
        · have hf := ifn c_8 hf
          exact wM_bog_J36 B hK hf kr hG (lv_sub hl [0] rfl)
  · have hf := ifp c_3 hf
    refine lv_aload_n hx hb dX4_bog_9 rfl (lv_at hl 0 rfl) ?_
    refine lv_bipush (v := (-2)) hx hb dX4_bog_10 (by decide) ?_
    obtain ⟨r_9, w_10, e_11, hf⟩ := b2s hf
    refine cM_no B hK hG e_11 ⟨Nat.le_of_ble_eq_true rfl, Nat.le_of_ble_eq_true rfl⟩ ⟨Nat.zero_le _, Nat.zero_le _⟩ hl.1 (Nat.le_of_ble_eq_true rfl) dX4_bog_12 (fun H locs hG => ?_)
    exact kr _ _ (Option.some.inj hf).symm _ _ hG _ _ dX4_bog_15

theorem tM_bog (l : Launch) (X : CX) (a : Nat → Nat) (rest : va_W) (w w' : MW) (x1 : Int32) (x2 : Int32) (r : Int32) (hf : fM_bog w x1 x2 = some (r, w')) : RW l yX4_bog cX4_bog 4 (some .int) 1 0 0 22 [.ref (a 0), .int x1, .int x2] X (MP X a w ++ rest) (MP X a w' ++ rest) (some (.int r)) := by
  refine RW.mk (by decide) (Nat.le_of_ble_eq_true rfl) ?_
  intro p e s m below meth c B hr hlk hK hG ls hl
  exact wM_bog B hK hf (fun r w h H locs hG pc ls hd => by cases h; exact w_iretW B hr hlk hG hd) hG hl
end S_bog

section S_home
variable {p : Program} {l : Launch} {e : Env} {R : Room} {s : State} {m : MethodId} {args : Array Value} {below : List Frame} {meth : Method} {c : Code} {H : Heap} {locs : List Loc} {cells slots : Nat} {Q : State → Prop} {cc : ByteArray} {nL pc : Nat} {ls : Array Slot} {st : List Value} {X : CX} {a : Nat → Nat} {w : MW} {rest : va_W}
noncomputable def fM_home (w : MW) (x1 : Int32) : Option (Int32 × MW) :=
  (fM_isCell w (x1.toInt64)).bind fun r_1 =>
  if r_1 = 0 then
    b2 (fM_no w (-2)) fun r_14 w_15 =>
    some (r_14, w_15)
  else
    (rd (w.2.1 1) 67 x1).bind fun v_4 =>
    if v_4 = 0 then
      (some (w.1 2)).bind fun x_7 =>
      (some (mpt w 2 x1)).bind fun w_9 =>
      some (x_7, w_9)
    else
      b2 (fM_no w (-5)) fun r_11 w_12 =>
      some (r_11, w_12)

set_option maxHeartbeats 4000000 in
theorem wM_home (B : CallFix p m c cX4_home 3 s args lw_all RX4) (hK : KK X s) {w : MW} {x1 : Int32} {res : Int32 × MW} (hf : fM_home w x1 = some res) (kr : ∀ (r : Int32) (w1 : MW), res = (r, w1) → ∀ (H : Heap) (locs : List Loc), GG X (MP X a w1 ++ rest) s.heap H locs → ∀ (pc : Nat) (ls : Array Slot), decode cX4_home pc = .ok (.ireturn, 1) → W p l e (RMw 1 0 0 22) s m args below meth c H locs 0 0 Q (F0 m pc ls [.int r])) {H : Heap} {locs : List Loc} (hG : GG X (MP X a w ++ rest) s.heap H locs) {ls : Array Slot} (hl : lv_has ls 3 [(0, .ref (a 0)), (1, .int x1)]) : W p l e (RMw 1 0 0 22) s m args below meth c H locs 0 0 Q (F0 m 0 ls []) := by
  have hx := B.1
  have hb := B.2.1
  unfold fM_home at hf
  refine lv_aload_n hx hb dX4_home_0 rfl (lv_at hl 0 rfl) ?_
  refine lv_iload_n hx hb dX4_home_1 rfl (lv_at hl 1 rfl) ?_
  refine lv_i2l hx hb dX4_home_2 rfl ?_
  obtain ⟨r_1, e_2, hf⟩ := bo hf
  refine cM_isCell B hK hG.2.2 hG.1 e_2 ⟨Nat.le_of_ble_eq_true rfl, Nat.le_of_ble_eq_true rfl⟩ ⟨Nat.zero_le _, Nat.zero_le _⟩ hl.1 (Nat.le_of_ble_eq_true rfl) dX4_home_3 ?_
  refine lv_if_ne (tgt := 16) hx hb dX4_home_6 (by decide) (fun c_3 => ?_) (fun c_3 => ?_)
  · have hf := ifn c_3 hf
    refine lv_aload_n hx hb dX4_home_16 rfl (lv_at hl 0 rfl) ?_
    refine mo_g1 B hK hG.1 dX4_home_17 ?_
    refine lv_iload_n hx hb dX4_home_20 rfl (lv_at hl 1 rfl) ?_
    obtain ⟨v_4, e_5, hf⟩ := bo hf
    refine mo_ld1 B hK hG.1 e_5 dX4_home_21 ?_
    refine lv_if_eq (tgt := 32) hx hb dX4_home_22 (by decide) (fun c_6 => ?_) (fun c_6 => ?_)
    · have hf := ifp c_6 hf
      refine lv_aload_n hx hb dX4_home_32 rfl (lv_at hl 0 rfl) ?_
      refine mo_g2 B hK hG.1 dX4_home_33 ?_
      obtain ⟨x_7, e_8, hf⟩ := bo hf
      refine w_istore_n (lv' := [(2, .int x_7), (0, .ref (a 0)), (1, .int x1)]) e_8 hx hb dX4_home_36 rfl hl (by decide) rfl (fun ls hl => ?_)
      refine lv_aload_n hx hb dX4_home_37 rfl (lv_at hl 1 rfl) ?_
      refine lv_iload_n hx hb dX4_home_38 rfl (lv_at hl 2 rfl) ?_
      obtain ⟨w_9, e_10, hf⟩ := bo hf
      refine mo_p2 B hK hG e_10 dX4_home_39 (fun H locs hG => ?_)
      refine lv_iload_n hx hb dX4_home_42 rfl (lv_at hl 0 rfl) ?_
      exact kr _ _ (Option.some.inj hf).symm _ _ hG _ _ dX4_home_43
    · have hf := ifn c_6 hf
      refine lv_aload_n hx hb dX4_home_25 rfl (lv_at hl 0 rfl) ?_
      refine lv_bipush (v := (-5)) hx hb dX4_home_26 (by decide) ?_
      obtain ⟨r_11, w_12, e_13, hf⟩ := b2s hf
      refine cM_no B hK hG e_13 ⟨Nat.le_of_ble_eq_true rfl, Nat.le_of_ble_eq_true rfl⟩ ⟨Nat.zero_le _, Nat.zero_le _⟩ hl.1 (Nat.le_of_ble_eq_true rfl) dX4_home_28 (fun H locs hG => ?_)
      exact kr _ _ (Option.some.inj hf).symm _ _ hG _ _ dX4_home_31
  · have hf := ifp c_3 hf
    refine lv_aload_n hx hb dX4_home_9 rfl (lv_at hl 0 rfl) ?_
    refine lv_bipush (v := (-2)) hx hb dX4_home_10 (by decide) ?_
    obtain ⟨r_14, w_15, e_16, hf⟩ := b2s hf
    refine cM_no B hK hG e_16 ⟨Nat.le_of_ble_eq_true rfl, Nat.le_of_ble_eq_true rfl⟩ ⟨Nat.zero_le _, Nat.zero_le _⟩ hl.1 (Nat.le_of_ble_eq_true rfl) dX4_home_12 (fun H locs hG => ?_)
    exact kr _ _ (Option.some.inj hf).symm _ _ hG _ _ dX4_home_15

theorem tM_home (l : Launch) (X : CX) (a : Nat → Nat) (rest : va_W) (w w' : MW) (x1 : Int32) (r : Int32) (hf : fM_home w x1 = some (r, w')) : RW l yX4_home cX4_home 3 (some .int) 1 0 0 22 [.ref (a 0), .int x1] X (MP X a w ++ rest) (MP X a w' ++ rest) (some (.int r)) := by
  refine RW.mk (by decide) (Nat.le_of_ble_eq_true rfl) ?_
  intro p e s m below meth c B hr hlk hK hG ls hl
  exact wM_home B hK hf (fun r w h H locs hG pc ls hd => by cases h; exact w_iretW B hr hlk hG hd) hG hl
end S_home

section S_newPost
variable {p : Program} {l : Launch} {e : Env} {R : Room} {s : State} {m : MethodId} {args : Array Value} {below : List Frame} {meth : Method} {c : Code} {H : Heap} {locs : List Loc} {cells slots : Nat} {Q : State → Prop} {cc : ByteArray} {nL pc : Nat} {ls : Array Slot} {st : List Value} {X : CX} {a : Nat → Nat} {w : MW} {rest : va_W}
noncomputable def fM_newPost (w : MW) (x1 : Int32) (x2 : Int32) (x3 : Int32) : Option (Int32 × MW) :=
  (mst w 4 9 (w.1 3) x1).bind fun w_1 =>
  (mst w_1 5 9 (w_1.1 3) x2).bind fun w_3 =>
  (mst w_3 6 9 (w_3.1 3) x3).bind fun w_5 =>
  (some (mpt w_5 3 ((w_5.1 3) + 1))).bind fun w_7 =>
  some ((w_5.1 3), w_7)

set_option maxHeartbeats 4000000 in
theorem wM_newPost (B : CallFix p m c cX4_newPost 4 s args lw_all RX4) (hK : KK X s) {w : MW} {x1 : Int32} {x2 : Int32} {x3 : Int32} {res : Int32 × MW} (hf : fM_newPost w x1 x2 x3 = some res) (kr : ∀ (r : Int32) (w1 : MW), res = (r, w1) → ∀ (H : Heap) (locs : List Loc), GG X (MP X a w1 ++ rest) s.heap H locs → ∀ (pc : Nat) (ls : Array Slot), decode cX4_newPost pc = .ok (.ireturn, 1) → W p l e (RMw 0 0 0 0) s m args below meth c H locs 0 0 Q (F0 m pc ls [.int r])) {H : Heap} {locs : List Loc} (hG : GG X (MP X a w ++ rest) s.heap H locs) {ls : Array Slot} (hl : lv_has ls 4 [(0, .ref (a 0)), (1, .int x1), (2, .int x2), (3, .int x3)]) : W p l e (RMw 0 0 0 0) s m args below meth c H locs 0 0 Q (F0 m 0 ls []) := by
  have hx := B.1
  have hb := B.2.1
  unfold fM_newPost at hf
  refine lv_aload_n hx hb dX4_newPost_0 rfl (lv_at hl 0 rfl) ?_
  refine mo_g4 B hK hG.1 dX4_newPost_1 ?_
  refine lv_aload_n hx hb dX4_newPost_4 rfl (lv_at hl 0 rfl) ?_
  refine mo_g3 B hK hG.1 dX4_newPost_5 ?_
  refine lv_iload_n hx hb dX4_newPost_8 rfl (lv_at hl 1 rfl) ?_
  obtain ⟨w_1, e_2, hf⟩ := bo hf
  refine mo_st4 B hK hG e_2 dX4_newPost_9 (fun H locs hG => ?_)
  refine lv_aload_n hx hb dX4_newPost_10 rfl (lv_at hl 0 rfl) ?_
  refine mo_g5 B hK hG.1 dX4_newPost_11 ?_
  refine lv_aload_n hx hb dX4_newPost_14 rfl (lv_at hl 0 rfl) ?_
  refine mo_g3 B hK hG.1 dX4_newPost_15 ?_
  refine lv_iload_n hx hb dX4_newPost_18 rfl (lv_at hl 2 rfl) ?_
  obtain ⟨w_3, e_4, hf⟩ := bo hf
  refine mo_st5 B hK hG e_4 dX4_newPost_19 (fun H locs hG => ?_)
  refine lv_aload_n hx hb dX4_newPost_20 rfl (lv_at hl 0 rfl) ?_
  refine mo_g6 B hK hG.1 dX4_newPost_21 ?_
  refine lv_aload_n hx hb dX4_newPost_24 rfl (lv_at hl 0 rfl) ?_
  refine mo_g3 B hK hG.1 dX4_newPost_25 ?_
  refine lv_iload_n hx hb dX4_newPost_28 rfl (lv_at hl 3 rfl) ?_
  obtain ⟨w_5, e_6, hf⟩ := bo hf
  refine mo_st6 B hK hG e_6 dX4_newPost_29 (fun H locs hG => ?_)
  refine lv_aload_n hx hb dX4_newPost_30 rfl (lv_at hl 0 rfl) ?_
  refine lv_dup hx hb dX4_newPost_31 rfl ?_
  refine mo_g3 B hK hG.1 dX4_newPost_32 ?_
  refine lv_dup_x1 hx hb dX4_newPost_35 rfl rfl ?_
  refine lv_iconst (v := 1) hx hb dX4_newPost_36 (by decide) ?_
  refine lv_iadd hx hb dX4_newPost_37 ?_
  obtain ⟨w_7, e_8, hf⟩ := bo hf
  refine mo_p3 B hK hG e_8 dX4_newPost_38 (fun H locs hG => ?_)
  exact kr _ _ (Option.some.inj hf).symm _ _ hG _ _ dX4_newPost_41

theorem tM_newPost (l : Launch) (X : CX) (a : Nat → Nat) (rest : va_W) (w w' : MW) (x1 : Int32) (x2 : Int32) (x3 : Int32) (r : Int32) (hf : fM_newPost w x1 x2 x3 = some (r, w')) : RW l yX4_newPost cX4_newPost 4 (some .int) 0 0 0 0 [.ref (a 0), .int x1, .int x2, .int x3] X (MP X a w ++ rest) (MP X a w' ++ rest) (some (.int r)) := by
  refine RW.mk (by decide) (Nat.le_of_ble_eq_true rfl) ?_
  intro p e s m below meth c B hr hlk hK hG ls hl
  exact wM_newPost B hK hf (fun r w h H locs hG pc ls hd => by cases h; exact w_iretW B hr hlk hG hd) hG hl
theorem cM_newPost (B : CallFix p m c cc nL s args lw_all RX4) (hK : KK X s) (hG : GG X (MP X a w ++ rest) s.heap H locs) {x1 : Int32} {x2 : Int32} {x3 : Int32} {r : Int32} {w' : MW} (hf : fM_newPost w x1 x2 x3 = some (r, w')) (hR : 0 + 1 ≤ R.frames ∧ 23 ≤ R.locals) (hcs : cells ≤ R.cells ∧ slots ≤ R.slots) (hl : ls.size = nL) (hcat : (st.map fun v => v.category).sum ≤ 8) (hdg : decode cc pc = .ok (.invokevirtual 120, 3)) (kk : ∀ (H1 : Heap) (locs1 : List Loc), GG X (MP X a w' ++ rest) s.heap H1 locs1 → W p l e R s m args below meth c H1 locs1 cells slots Q (F0 m (pc + 3) ls (.int r :: st))) : W p l e R s m args below meth c H locs cells slots Q (F0 m pc ls (.int x3 :: .int x2 :: .int x1 :: .ref (a 0) :: st)) :=
  w_afterW (w_rV_RW (As := [.int x1, .int x2, .int x3]) B hK hG (tM_newPost l X a rest w w' x1 x2 x3 r hf) (lw_V q1597 q1599 qs48 q91 q1600) 0 rfl rfl (n := 3) (by decide +kernel) hR hcs rfl hl rfl hcat hdg) hG.2.2 kk
end S_newPost

section S_post
variable {p : Program} {l : Launch} {e : Env} {R : Room} {s : State} {m : MethodId} {args : Array Value} {below : List Frame} {meth : Method} {c : Code} {H : Heap} {locs : List Loc} {cells slots : Nat} {Q : State → Prop} {cc : ByteArray} {nL pc : Nat} {ls : Array Slot} {st : List Value} {X : CX} {a : Nat → Nat} {w : MW} {rest : va_W}
noncomputable def fM_post_J28 (w : MW)  : Option (Int32 × MW) :=
  b2 (fM_no w (-2)) fun r_1 w_2 =>
  some (r_1, w_2)

set_option maxHeartbeats 4000000 in
theorem wM_post_J28 (B : CallFix p m c cX4_post 4 s args lw_all RX4) (hK : KK X s) {w : MW}  {res : Int32 × MW} (hf : fM_post_J28 w  = some res) (kr : ∀ (r : Int32) (w1 : MW), res = (r, w1) → ∀ (H : Heap) (locs : List Loc), GG X (MP X a w1 ++ rest) s.heap H locs → ∀ (pc : Nat) (ls : Array Slot), decode cX4_post pc = .ok (.ireturn, 1) → W p l e (RMw 1 0 0 23) s m args below meth c H locs 0 0 Q (F0 m pc ls [.int r])) {H : Heap} {locs : List Loc} (hG : GG X (MP X a w ++ rest) s.heap H locs) {ls : Array Slot} (hl : lv_has ls 4 [(0, .ref (a 0))]) : W p l e (RMw 1 0 0 23) s m args below meth c H locs 0 0 Q (F0 m 28 ls []) := by
  have hx := B.1
  have hb := B.2.1
  unfold fM_post_J28 at hf
  refine lv_aload_n hx hb dX4_post_28 rfl (lv_at hl 0 rfl) ?_
  refine lv_bipush (v := (-2)) hx hb dX4_post_29 (by decide) ?_
  obtain ⟨r_1, w_2, e_3, hf⟩ := b2s hf
  refine cM_no B hK hG e_3 ⟨Nat.le_of_ble_eq_true rfl, Nat.le_of_ble_eq_true rfl⟩ ⟨Nat.zero_le _, Nat.zero_le _⟩ hl.1 (Nat.le_of_ble_eq_true rfl) dX4_post_31 (fun H locs hG => ?_)
  exact kr _ _ (Option.some.inj hf).symm _ _ hG _ _ dX4_post_34

noncomputable def fM_post (w : MW) (x1 : Int32) (x2 : Int32) (x3 : Int32) : Option (Int32 × MW) :=
  (fM_within x1 0 5).bind fun r_1 =>
  if r_1 = 0 then
    fM_post_J28 w 
  else
    (fM_within x2 0 9).bind fun r_4 =>
    if r_4 = 0 then
      fM_post_J28 w 
    else
      (fM_isCell w (x3.toInt64)).bind fun r_7 =>
      if r_7 = 0 then
        fM_post_J28 w 
      else
        if (w.1 3) = 8 then
          b2 (fM_no w (-6)) fun r_14 w_15 =>
          some (r_14, w_15)
        else
          b2 (fM_newPost w x1 x2 x3) fun r_11 w_12 =>
          some (r_11, w_12)

set_option maxHeartbeats 4000000 in
theorem wM_post (B : CallFix p m c cX4_post 4 s args lw_all RX4) (hK : KK X s) {w : MW} {x1 : Int32} {x2 : Int32} {x3 : Int32} {res : Int32 × MW} (hf : fM_post w x1 x2 x3 = some res) (kr : ∀ (r : Int32) (w1 : MW), res = (r, w1) → ∀ (H : Heap) (locs : List Loc), GG X (MP X a w1 ++ rest) s.heap H locs → ∀ (pc : Nat) (ls : Array Slot), decode cX4_post pc = .ok (.ireturn, 1) → W p l e (RMw 1 0 0 23) s m args below meth c H locs 0 0 Q (F0 m pc ls [.int r])) {H : Heap} {locs : List Loc} (hG : GG X (MP X a w ++ rest) s.heap H locs) {ls : Array Slot} (hl : lv_has ls 4 [(0, .ref (a 0)), (1, .int x1), (2, .int x2), (3, .int x3)]) : W p l e (RMw 1 0 0 23) s m args below meth c H locs 0 0 Q (F0 m 0 ls []) := by
  have hx := B.1
  have hb := B.2.1
  unfold fM_post at hf
  refine lv_iload_n hx hb dX4_post_0 rfl (lv_at hl 1 rfl) ?_
  refine lv_iconst (v := 0) hx hb dX4_post_1 (by decide) ?_
  refine lv_iconst (v := 5) hx hb dX4_post_2 (by decide) ?_
  obtain ⟨r_1, e_2, hf⟩ := bo hf
  refine cM_within B e_2 ⟨Nat.le_of_ble_eq_true rfl, Nat.le_of_ble_eq_true rfl⟩ ⟨Nat.zero_le _, Nat.zero_le _⟩ hl.1 (Nat.le_of_ble_eq_true rfl) dX4_post_3 ?_
  refine lv_if_eq (tgt := 28) hx hb dX4_post_6 (by decide) (fun c_3 => ?_) (fun c_3 => ?_)
  · have hf := ifp c_3 hf
    exact wM_post_J28 B hK hf kr hG (lv_sub hl [0] rfl)
  · have hf := ifn c_3 hf
    refine lv_iload_n hx hb dX4_post_9 rfl (lv_at hl 2 rfl) ?_
    refine lv_iconst (v := 0) hx hb dX4_post_10 (by decide) ?_
    refine lv_bipush (v := 9) hx hb dX4_post_11 (by decide) ?_
    obtain ⟨r_4, e_5, hf⟩ := bo hf
    refine cM_within B e_5 ⟨Nat.le_of_ble_eq_true rfl, Nat.le_of_ble_eq_true rfl⟩ ⟨Nat.zero_le _, Nat.zero_le _⟩ hl.1 (Nat.le_of_ble_eq_true rfl) dX4_post_13 ?_
    refine lv_if_eq (tgt := 28) hx hb dX4_post_16 (by decide) (fun c_6 => ?_) (fun c_6 => ?_)
    · have hf := ifp c_6 hf
      exact wM_post_J28 B hK hf kr hG (lv_sub hl [0] rfl)
    · have hf := ifn c_6 hf
      refine lv_aload_n hx hb dX4_post_19 rfl (lv_at hl 0 rfl) ?_
      refine lv_iload_n hx hb dX4_post_20 rfl (lv_at hl 3 rfl) ?_
      refine lv_i2l hx hb dX4_post_21 rfl ?_
      obtain ⟨r_7, e_8, hf⟩ := bo hf
      refine cM_isCell B hK hG.2.2 hG.1 e_8 ⟨Nat.le_of_ble_eq_true rfl, Nat.le_of_ble_eq_true rfl⟩ ⟨Nat.zero_le _, Nat.zero_le _⟩ hl.1 (Nat.le_of_ble_eq_true rfl) dX4_post_22 ?_
      refine lv_if_ne (tgt := 35) hx hb dX4_post_25 (by decide) (fun c_9 => ?_) (fun c_9 => ?_)
      · have hf := ifn c_9 hf
        refine lv_aload_n hx hb dX4_post_35 rfl (lv_at hl 0 rfl) ?_
        refine mo_g3 B hK hG.1 dX4_post_36 ?_
        refine lv_bipush (v := 8) hx hb dX4_post_39 (by decide) ?_
        refine lv_icmp_ne (tgt := 53) hx hb dX4_post_41 (by decide) (fun c_10 => ?_) (fun c_10 => ?_)
        · have hf := ifn c_10 hf
          refine lv_aload_n hx hb dX4_post_53 rfl (lv_at hl 0 rfl) ?_
          refine lv_iload_n hx hb dX4_post_54 rfl (lv_at hl 1 rfl) ?_
          refine lv_iload_n hx hb dX4_post_55 rfl (lv_at hl 2 rfl) ?_
          refine lv_iload_n hx hb dX4_post_56 rfl (lv_at hl 3 rfl) ?_
          obtain ⟨r_11, w_12, e_13, hf⟩ := b2s hf
          refine cM_newPost B hK hG e_13 ⟨Nat.le_of_ble_eq_true rfl, Nat.le_of_ble_eq_true rfl⟩ ⟨Nat.zero_le _, Nat.zero_le _⟩ hl.1 (Nat.le_of_ble_eq_true rfl) dX4_post_57 (fun H locs hG => ?_)
          exact kr _ _ (Option.some.inj hf).symm _ _ hG _ _ dX4_post_60
        · have hf := ifp c_10 hf
          refine lv_aload_n hx hb dX4_post_44 rfl (lv_at hl 0 rfl) ?_
          refine lv_bipush (v := (-6)) hx hb dX4_post_45 (by decide) ?_
          obtain ⟨r_14, w_15, e_16, hf⟩ := b2s hf
          refine cM_no B hK hG e_16 ⟨Nat.le_of_ble_eq_true rfl, Nat.le_of_ble_eq_true rfl⟩ ⟨Nat.zero_le _, Nat.zero_le _⟩ hl.1 (Nat.le_of_ble_eq_true rfl) dX4_post_47 (fun H locs hG => ?_)
          refine lv_goto (tgt := 60) hx hb dX4_post_50 (by decide) ?_
          exact kr _ _ (Option.some.inj hf).symm _ _ hG _ _ dX4_post_60
      · have hf := ifp c_9 hf
        exact wM_post_J28 B hK hf kr hG (lv_sub hl [0] rfl)

theorem tM_post (l : Launch) (X : CX) (a : Nat → Nat) (rest : va_W) (w w' : MW) (x1 : Int32) (x2 : Int32) (x3 : Int32) (r : Int32) (hf : fM_post w x1 x2 x3 = some (r, w')) : RW l yX4_post cX4_post 4 (some .int) 1 0 0 23 [.ref (a 0), .int x1, .int x2, .int x3] X (MP X a w ++ rest) (MP X a w' ++ rest) (some (.int r)) := by
  refine RW.mk (by decide) (Nat.le_of_ble_eq_true rfl) ?_
  intro p e s m below meth c B hr hlk hK hG ls hl
  exact wM_post B hK hf (fun r w h H locs hG pc ls hd => by cases h; exact w_iretW B hr hlk hG hd) hG hl
end S_post

section S_newWalker
variable {p : Program} {l : Launch} {e : Env} {R : Room} {s : State} {m : MethodId} {args : Array Value} {below : List Frame} {meth : Method} {c : Code} {H : Heap} {locs : List Loc} {cells slots : Nat} {Q : State → Prop} {cc : ByteArray} {nL pc : Nat} {ls : Array Slot} {st : List Value} {X : CX} {a : Nat → Nat} {w : MW} {rest : va_W}
noncomputable def fM_newWalker (w : MW) (x1 : Int32) (x2 : Int32) : Option (Int32 × MW) :=
  (mst w 8 4 (w.1 7) x1).bind fun w_1 =>
  (mst w_1 9 4 (w_1.1 7) x2).bind fun w_3 =>
  (some (mpt w_3 7 ((w_3.1 7) + 1))).bind fun w_5 =>
  some ((w_3.1 7), w_5)

set_option maxHeartbeats 4000000 in
theorem wM_newWalker (B : CallFix p m c cX4_newWalker 3 s args lw_all RX4) (hK : KK X s) {w : MW} {x1 : Int32} {x2 : Int32} {res : Int32 × MW} (hf : fM_newWalker w x1 x2 = some res) (kr : ∀ (r : Int32) (w1 : MW), res = (r, w1) → ∀ (H : Heap) (locs : List Loc), GG X (MP X a w1 ++ rest) s.heap H locs → ∀ (pc : Nat) (ls : Array Slot), decode cX4_newWalker pc = .ok (.ireturn, 1) → W p l e (RMw 0 0 0 0) s m args below meth c H locs 0 0 Q (F0 m pc ls [.int r])) {H : Heap} {locs : List Loc} (hG : GG X (MP X a w ++ rest) s.heap H locs) {ls : Array Slot} (hl : lv_has ls 3 [(0, .ref (a 0)), (1, .int x1), (2, .int x2)]) : W p l e (RMw 0 0 0 0) s m args below meth c H locs 0 0 Q (F0 m 0 ls []) := by
  have hx := B.1
  have hb := B.2.1
  unfold fM_newWalker at hf
  refine lv_aload_n hx hb dX4_newWalker_0 rfl (lv_at hl 0 rfl) ?_
  refine mo_g8 B hK hG.1 dX4_newWalker_1 ?_
  refine lv_aload_n hx hb dX4_newWalker_4 rfl (lv_at hl 0 rfl) ?_
  refine mo_g7 B hK hG.1 dX4_newWalker_5 ?_
  refine lv_iload_n hx hb dX4_newWalker_8 rfl (lv_at hl 1 rfl) ?_
  obtain ⟨w_1, e_2, hf⟩ := bo hf
  refine mo_st8 B hK hG e_2 dX4_newWalker_9 (fun H locs hG => ?_)
  refine lv_aload_n hx hb dX4_newWalker_10 rfl (lv_at hl 0 rfl) ?_
  refine mo_g9 B hK hG.1 dX4_newWalker_11 ?_
  refine lv_aload_n hx hb dX4_newWalker_14 rfl (lv_at hl 0 rfl) ?_
  refine mo_g7 B hK hG.1 dX4_newWalker_15 ?_
  refine lv_iload_n hx hb dX4_newWalker_18 rfl (lv_at hl 2 rfl) ?_
  obtain ⟨w_3, e_4, hf⟩ := bo hf
  refine mo_st9 B hK hG e_4 dX4_newWalker_19 (fun H locs hG => ?_)
  refine lv_aload_n hx hb dX4_newWalker_20 rfl (lv_at hl 0 rfl) ?_
  refine lv_dup hx hb dX4_newWalker_21 rfl ?_
  refine mo_g7 B hK hG.1 dX4_newWalker_22 ?_
  refine lv_dup_x1 hx hb dX4_newWalker_25 rfl rfl ?_
  refine lv_iconst (v := 1) hx hb dX4_newWalker_26 (by decide) ?_
  refine lv_iadd hx hb dX4_newWalker_27 ?_
  obtain ⟨w_5, e_6, hf⟩ := bo hf
  refine mo_p7 B hK hG e_6 dX4_newWalker_28 (fun H locs hG => ?_)
  exact kr _ _ (Option.some.inj hf).symm _ _ hG _ _ dX4_newWalker_31

theorem tM_newWalker (l : Launch) (X : CX) (a : Nat → Nat) (rest : va_W) (w w' : MW) (x1 : Int32) (x2 : Int32) (r : Int32) (hf : fM_newWalker w x1 x2 = some (r, w')) : RW l yX4_newWalker cX4_newWalker 3 (some .int) 0 0 0 0 [.ref (a 0), .int x1, .int x2] X (MP X a w ++ rest) (MP X a w' ++ rest) (some (.int r)) := by
  refine RW.mk (by decide) (Nat.le_of_ble_eq_true rfl) ?_
  intro p e s m below meth c B hr hlk hK hG ls hl
  exact wM_newWalker B hK hf (fun r w h H locs hG pc ls hd => by cases h; exact w_iretW B hr hlk hG hd) hG hl
theorem cM_newWalker (B : CallFix p m c cc nL s args lw_all RX4) (hK : KK X s) (hG : GG X (MP X a w ++ rest) s.heap H locs) {x1 : Int32} {x2 : Int32} {r : Int32} {w' : MW} (hf : fM_newWalker w x1 x2 = some (r, w')) (hR : 0 + 1 ≤ R.frames ∧ 22 ≤ R.locals) (hcs : cells ≤ R.cells ∧ slots ≤ R.slots) (hl : ls.size = nL) (hcat : (st.map fun v => v.category).sum ≤ 8) (hdg : decode cc pc = .ok (.invokevirtual 124, 3)) (kk : ∀ (H1 : Heap) (locs1 : List Loc), GG X (MP X a w' ++ rest) s.heap H1 locs1 → W p l e R s m args below meth c H1 locs1 cells slots Q (F0 m (pc + 3) ls (.int r :: st))) : W p l e R s m args below meth c H locs cells slots Q (F0 m pc ls (.int x2 :: .int x1 :: .ref (a 0) :: st)) :=
  w_afterW (w_rV_RW (As := [.int x1, .int x2]) B hK hG (tM_newWalker l X a rest w w' x1 x2 r hf) (lw_V q1605 q1607 qs49 q91 q1608) 0 rfl rfl (n := 2) (by decide +kernel) hR hcs rfl hl rfl hcat hdg) hG.2.2 kk
end S_newWalker

section S_walker
variable {p : Program} {l : Launch} {e : Env} {R : Room} {s : State} {m : MethodId} {args : Array Value} {below : List Frame} {meth : Method} {c : Code} {H : Heap} {locs : List Loc} {cells slots : Nat} {Q : State → Prop} {cc : ByteArray} {nL pc : Nat} {ls : Array Slot} {st : List Value} {X : CX} {a : Nat → Nat} {w : MW} {rest : va_W}
noncomputable def fM_walker_J19 (w : MW)  : Option (Int32 × MW) :=
  b2 (fM_no w (-2)) fun r_1 w_2 =>
  some (r_1, w_2)

set_option maxHeartbeats 4000000 in
theorem wM_walker_J19 (B : CallFix p m c cX4_walker 3 s args lw_all RX4) (hK : KK X s) {w : MW}  {res : Int32 × MW} (hf : fM_walker_J19 w  = some res) (kr : ∀ (r : Int32) (w1 : MW), res = (r, w1) → ∀ (H : Heap) (locs : List Loc), GG X (MP X a w1 ++ rest) s.heap H locs → ∀ (pc : Nat) (ls : Array Slot), decode cX4_walker pc = .ok (.ireturn, 1) → W p l e (RMw 1 0 0 22) s m args below meth c H locs 0 0 Q (F0 m pc ls [.int r])) {H : Heap} {locs : List Loc} (hG : GG X (MP X a w ++ rest) s.heap H locs) {ls : Array Slot} (hl : lv_has ls 3 [(0, .ref (a 0))]) : W p l e (RMw 1 0 0 22) s m args below meth c H locs 0 0 Q (F0 m 19 ls []) := by
  have hx := B.1
  have hb := B.2.1
  unfold fM_walker_J19 at hf
  refine lv_aload_n hx hb dX4_walker_19 rfl (lv_at hl 0 rfl) ?_
  refine lv_bipush (v := (-2)) hx hb dX4_walker_20 (by decide) ?_
  obtain ⟨r_1, w_2, e_3, hf⟩ := b2s hf
  refine cM_no B hK hG e_3 ⟨Nat.le_of_ble_eq_true rfl, Nat.le_of_ble_eq_true rfl⟩ ⟨Nat.zero_le _, Nat.zero_le _⟩ hl.1 (Nat.le_of_ble_eq_true rfl) dX4_walker_22 (fun H locs hG => ?_)
  exact kr _ _ (Option.some.inj hf).symm _ _ hG _ _ dX4_walker_25

noncomputable def fM_walker (w : MW) (x1 : Int32) (x2 : Int32) : Option (Int32 × MW) :=
  (fM_isCell w (x1.toInt64)).bind fun r_1 =>
  if r_1 = 0 then
    fM_walker_J19 w 
  else
    (fM_within x2 0 9).bind fun r_4 =>
    if r_4 = 0 then
      fM_walker_J19 w 
    else
      (rd (w.2.1 1) 67 x1).bind fun v_7 =>
      if v_7 = 0 then
        if (w.1 7) = 4 then
          b2 (fM_no w (-6)) fun r_14 w_15 =>
          some (r_14, w_15)
        else
          b2 (fM_newWalker w x1 x2) fun r_11 w_12 =>
          some (r_11, w_12)
      else
        b2 (fM_no w (-5)) fun r_17 w_18 =>
        some (r_17, w_18)

set_option maxHeartbeats 4000000 in
theorem wM_walker (B : CallFix p m c cX4_walker 3 s args lw_all RX4) (hK : KK X s) {w : MW} {x1 : Int32} {x2 : Int32} {res : Int32 × MW} (hf : fM_walker w x1 x2 = some res) (kr : ∀ (r : Int32) (w1 : MW), res = (r, w1) → ∀ (H : Heap) (locs : List Loc), GG X (MP X a w1 ++ rest) s.heap H locs → ∀ (pc : Nat) (ls : Array Slot), decode cX4_walker pc = .ok (.ireturn, 1) → W p l e (RMw 1 0 0 22) s m args below meth c H locs 0 0 Q (F0 m pc ls [.int r])) {H : Heap} {locs : List Loc} (hG : GG X (MP X a w ++ rest) s.heap H locs) {ls : Array Slot} (hl : lv_has ls 3 [(0, .ref (a 0)), (1, .int x1), (2, .int x2)]) : W p l e (RMw 1 0 0 22) s m args below meth c H locs 0 0 Q (F0 m 0 ls []) := by
  have hx := B.1
  have hb := B.2.1
  unfold fM_walker at hf
  refine lv_aload_n hx hb dX4_walker_0 rfl (lv_at hl 0 rfl) ?_
  refine lv_iload_n hx hb dX4_walker_1 rfl (lv_at hl 1 rfl) ?_
  refine lv_i2l hx hb dX4_walker_2 rfl ?_
  obtain ⟨r_1, e_2, hf⟩ := bo hf
  refine cM_isCell B hK hG.2.2 hG.1 e_2 ⟨Nat.le_of_ble_eq_true rfl, Nat.le_of_ble_eq_true rfl⟩ ⟨Nat.zero_le _, Nat.zero_le _⟩ hl.1 (Nat.le_of_ble_eq_true rfl) dX4_walker_3 ?_
  refine lv_if_eq (tgt := 19) hx hb dX4_walker_6 (by decide) (fun c_3 => ?_) (fun c_3 => ?_)
  · have hf := ifp c_3 hf
    exact wM_walker_J19 B hK hf kr hG (lv_sub hl [0] rfl)
  · have hf := ifn c_3 hf
    refine lv_iload_n hx hb dX4_walker_9 rfl (lv_at hl 2 rfl) ?_
    refine lv_iconst (v := 0) hx hb dX4_walker_10 (by decide) ?_
    refine lv_bipush (v := 9) hx hb dX4_walker_11 (by decide) ?_
    obtain ⟨r_4, e_5, hf⟩ := bo hf
    refine cM_within B e_5 ⟨Nat.le_of_ble_eq_true rfl, Nat.le_of_ble_eq_true rfl⟩ ⟨Nat.zero_le _, Nat.zero_le _⟩ hl.1 (Nat.le_of_ble_eq_true rfl) dX4_walker_13 ?_
    refine lv_if_ne (tgt := 26) hx hb dX4_walker_16 (by decide) (fun c_6 => ?_) (fun c_6 => ?_)
    · have hf := ifn c_6 hf
      refine lv_aload_n hx hb dX4_walker_26 rfl (lv_at hl 0 rfl) ?_
      refine mo_g1 B hK hG.1 dX4_walker_27 ?_
      refine lv_iload_n hx hb dX4_walker_30 rfl (lv_at hl 1 rfl) ?_
      obtain ⟨v_7, e_8, hf⟩ := bo hf
      refine mo_ld1 B hK hG.1 e_8 dX4_walker_31 ?_
      refine lv_if_eq (tgt := 42) hx hb dX4_walker_32 (by decide) (fun c_9 => ?_) (fun c_9 => ?_)
      · have hf := ifp c_9 hf
        refine lv_aload_n hx hb dX4_walker_42 rfl (lv_at hl 0 rfl) ?_
        refine mo_g7 B hK hG.1 dX4_walker_43 ?_
        refine lv_iconst (v := 4) hx hb dX4_walker_46 (by decide) ?_
        refine lv_icmp_ne (tgt := 59) hx hb dX4_walker_47 (by decide) (fun c_10 => ?_) (fun c_10 => ?_)
        · have hf := ifn c_10 hf
          refine lv_aload_n hx hb dX4_walker_59 rfl (lv_at hl 0 rfl) ?_
          refine lv_iload_n hx hb dX4_walker_60 rfl (lv_at hl 1 rfl) ?_
          refine lv_iload_n hx hb dX4_walker_61 rfl (lv_at hl 2 rfl) ?_
          obtain ⟨r_11, w_12, e_13, hf⟩ := b2s hf
          refine cM_newWalker B hK hG e_13 ⟨Nat.le_of_ble_eq_true rfl, Nat.le_of_ble_eq_true rfl⟩ ⟨Nat.zero_le _, Nat.zero_le _⟩ hl.1 (Nat.le_of_ble_eq_true rfl) dX4_walker_62 (fun H locs hG => ?_)
          exact kr _ _ (Option.some.inj hf).symm _ _ hG _ _ dX4_walker_65
        · have hf := ifp c_10 hf
          refine lv_aload_n hx hb dX4_walker_50 rfl (lv_at hl 0 rfl) ?_
          refine lv_bipush (v := (-6)) hx hb dX4_walker_51 (by decide) ?_
          obtain ⟨r_14, w_15, e_16, hf⟩ := b2s hf
          refine cM_no B hK hG e_16 ⟨Nat.le_of_ble_eq_true rfl, Nat.le_of_ble_eq_true rfl⟩ ⟨Nat.zero_le _, Nat.zero_le _⟩ hl.1 (Nat.le_of_ble_eq_true rfl) dX4_walker_53 (fun H locs hG => ?_)
          refine lv_goto (tgt := 65) hx hb dX4_walker_56 (by decide) ?_
          exact kr _ _ (Option.some.inj hf).symm _ _ hG _ _ dX4_walker_65
      · have hf := ifn c_9 hf
        refine lv_aload_n hx hb dX4_walker_35 rfl (lv_at hl 0 rfl) ?_
        refine lv_bipush (v := (-5)) hx hb dX4_walker_36 (by decide) ?_
        obtain ⟨r_17, w_18, e_19, hf⟩ := b2s hf
        refine cM_no B hK hG e_19 ⟨Nat.le_of_ble_eq_true rfl, Nat.le_of_ble_eq_true rfl⟩ ⟨Nat.zero_le _, Nat.zero_le _⟩ hl.1 (Nat.le_of_ble_eq_true rfl) dX4_walker_38 (fun H locs hG => ?_)
        exact kr _ _ (Option.some.inj hf).symm _ _ hG _ _ dX4_walker_41
    · have hf := ifp c_6 hf
      exact wM_walker_J19 B hK hf kr hG (lv_sub hl [0] rfl)

theorem tM_walker (l : Launch) (X : CX) (a : Nat → Nat) (rest : va_W) (w w' : MW) (x1 : Int32) (x2 : Int32) (r : Int32) (hf : fM_walker w x1 x2 = some (r, w')) : RW l yX4_walker cX4_walker 3 (some .int) 1 0 0 22 [.ref (a 0), .int x1, .int x2] X (MP X a w ++ rest) (MP X a w' ++ rest) (some (.int r)) := by
  refine RW.mk (by decide) (Nat.le_of_ble_eq_true rfl) ?_
  intro p e s m below meth c B hr hlk hK hG ls hl
  exact wM_walker B hK hf (fun r w h H locs hG pc ls hd => by cases h; exact w_iretW B hr hlk hG hd) hG hl
end S_walker

section S_isWalker
variable {p : Program} {l : Launch} {e : Env} {R : Room} {s : State} {m : MethodId} {args : Array Value} {below : List Frame} {meth : Method} {c : Code} {H : Heap} {locs : List Loc} {cells slots : Nat} {Q : State → Prop} {cc : ByteArray} {nL pc : Nat} {ls : Array Slot} {st : List Value} {X : CX} {a : Nat → Nat} {w : MW} {rest : va_W}
noncomputable def fM_isWalker (w : MW) (x1 : Int32) : Option (Int32) :=
  (fM_within x1 0 ((w.1 7) - 1)).bind fun r_1 =>
  (bz r_1).bind fun z_3 =>
  some z_3

set_option maxHeartbeats 4000000 in
theorem wM_isWalker (B : CallFix p m c cX4_isWalker 2 s args lw_all RX4) (hK : KK X s) {w : MW} (hP : va_P X.2.2.1 vwCl (MP X a w ++ rest) s.heap) {x1 : Int32} {res : Int32} (hf : fM_isWalker w x1 = some res) (kr : ∀ (r : Int32), res = r → narrow .boolean (.int r) = .int r → ∀ (pc : Nat) (ls : Array Slot), decode cX4_isWalker pc = .ok (.ireturn, 1) → W p l e (RM 1 22) s m args below meth c s.heap [] 0 0 Q (F0 m pc ls [.int r])) {ls : Array Slot} (hl : lv_has ls 2 [(0, .ref (a 0)), (1, .int x1)]) : W p l e (RM 1 22) s m args below meth c s.heap [] 0 0 Q (F0 m 0 ls []) := by
  have hx := B.1
  have hb := B.2.1
  unfold fM_isWalker at hf
  refine lv_iload_n hx hb dX4_isWalker_0 rfl (lv_at hl 1 rfl) ?_
  refine lv_iconst (v := 0) hx hb dX4_isWalker_1 (by decide) ?_
  refine lv_aload_n hx hb dX4_isWalker_2 rfl (lv_at hl 0 rfl) ?_
  refine mo_g7 B hK hP dX4_isWalker_3 ?_
  refine lv_iconst (v := 1) hx hb dX4_isWalker_6 (by decide) ?_
  refine lv_isub hx hb dX4_isWalker_7 ?_
  obtain ⟨r_1, e_2, hf⟩ := bo hf
  refine cM_within B e_2 ⟨Nat.le_of_ble_eq_true rfl, Nat.le_of_ble_eq_true rfl⟩ ⟨Nat.zero_le _, Nat.zero_le _⟩ hl.1 (Nat.le_of_ble_eq_true rfl) dX4_isWalker_8 ?_
  obtain ⟨z_3, e_4, hf⟩ := bo hf
  obtain ⟨n_5, hz⟩ := bz_in e_4
  rw [← hz] at hf
  exact kr _ (Option.some.inj hf).symm n_5 _ _ dX4_isWalker_11

theorem tM_isWalker (l : Launch) (X : CX) (a : Nat → Nat) (rest : va_W) (w : MW) (x1 : Int32) (r : Int32) (hf : fM_isWalker w x1 = some r) : RO l yX4_isWalker cX4_isWalker 2 (some .boolean) 1 22 [.ref (a 0), .int x1] X (MP X a w ++ rest) (some (.int r)) := by
  refine RO.mk (by decide) (Nat.le_of_ble_eq_true rfl) ?_
  intro p e s m below meth c B hr hlk hK hP ls hl
  exact wM_isWalker B hK hP hf (fun r h hn pc ls hd => by cases h; exact w_zretR B hr hlk hn rfl hd) hl
theorem cM_isWalker (B : CallFix p m c cc nL s args lw_all RX4) (hK : KK X s) (hS : va_S (Az X) s.heap H locs) (hP : va_P X.2.2.1 vwCl (MP X a w ++ rest) H) {x1 : Int32} {r : Int32} (hf : fM_isWalker w x1 = some r) (hR : 1 + 1 ≤ R.frames ∧ 43 ≤ R.locals) (hcs : cells ≤ R.cells ∧ slots ≤ R.slots) (hl : ls.size = nL) (hcat : (st.map fun v => v.category).sum ≤ 8) (hdg : decode cc pc = .ok (.invokevirtual 128, 3)) (kk : W p l e R s m args below meth c H locs cells slots Q (F0 m (pc + 3) ls (.int r :: st))) : W p l e R s m args below meth c H locs cells slots Q (F0 m pc ls (.int x1 :: .ref (a 0) :: st)) :=
  w_afterR (w_rV_RO (As := [.int x1]) B hK hS hP (tM_isWalker l X a rest w x1 r hf) (lw_V q1613 q1615 qs50 q91 q1616) 0 rfl rfl (n := 1) (by decide +kernel) hR hcs rfl hl rfl hcat hdg) kk
end S_isWalker

section S_sure
variable {p : Program} {l : Launch} {e : Env} {R : Room} {s : State} {m : MethodId} {args : Array Value} {below : List Frame} {meth : Method} {c : Code} {H : Heap} {locs : List Loc} {cells slots : Nat} {Q : State → Prop} {cc : ByteArray} {nL pc : Nat} {ls : Array Slot} {st : List Value} {X : CX} {a : Nat → Nat} {w : MW} {rest : va_W}
noncomputable def fM_sure_J18 (w : MW)  : Option (Int32 × MW) :=
  b2 (fM_no w (-2)) fun r_1 w_2 =>
  some (r_1, w_2)

set_option maxHeartbeats 4000000 in
theorem wM_sure_J18 (B : CallFix p m c cX4_sure 4 s args lw_all RX4) (hK : KK X s) {w : MW}  {res : Int32 × MW} (hf : fM_sure_J18 w  = some res) (kr : ∀ (r : Int32) (w1 : MW), res = (r, w1) → ∀ (H : Heap) (locs : List Loc), GG X (MP X a w1 ++ rest) s.heap H locs → ∀ (pc : Nat) (ls : Array Slot), decode cX4_sure pc = .ok (.ireturn, 1) → W p l e (RMw 2 0 0 43) s m args below meth c H locs 0 0 Q (F0 m pc ls [.int r])) {H : Heap} {locs : List Loc} (hG : GG X (MP X a w ++ rest) s.heap H locs) {ls : Array Slot} (hl : lv_has ls 4 [(0, .ref (a 0))]) : W p l e (RMw 2 0 0 43) s m args below meth c H locs 0 0 Q (F0 m 18 ls []) := by
  have hx := B.1
  have hb := B.2.1
  unfold fM_sure_J18 at hf
  refine lv_aload_n hx hb dX4_sure_18 rfl (lv_at hl 0 rfl) ?_
  refine lv_bipush (v := (-2)) hx hb dX4_sure_19 (by decide) ?_
  obtain ⟨r_1, w_2, e_3, hf⟩ := b2s hf
  refine cM_no B hK hG e_3 ⟨Nat.le_of_ble_eq_true rfl, Nat.le_of_ble_eq_true rfl⟩ ⟨Nat.zero_le _, Nat.zero_le _⟩ hl.1 (Nat.le_of_ble_eq_true rfl) dX4_sure_21 (fun H locs hG => ?_)
  exact kr _ _ (Option.some.inj hf).symm _ _ hG _ _ dX4_sure_24

noncomputable def fM_sure (w : MW) (x1 : Int32) (x2 : Int32) : Option (Int32 × MW) :=
  (fM_isWalker w x1).bind fun r_1 =>
  if r_1 = 0 then
    fM_sure_J18 w 
  else
    (fM_within x2 0 9).bind fun r_4 =>
    if r_4 = 0 then
      fM_sure_J18 w 
    else
      (rd (w.2.1 9) 4 x1).bind fun v_7 =>
      (mst w 9 4 x1 x2).bind fun w_9 =>
      some (v_7, w_9)

set_option maxHeartbeats 4000000 in
theorem wM_sure (B : CallFix p m c cX4_sure 4 s args lw_all RX4) (hK : KK X s) {w : MW} {x1 : Int32} {x2 : Int32} {res : Int32 × MW} (hf : fM_sure w x1 x2 = some res) (kr : ∀ (r : Int32) (w1 : MW), res = (r, w1) → ∀ (H : Heap) (locs : List Loc), GG X (MP X a w1 ++ rest) s.heap H locs → ∀ (pc : Nat) (ls : Array Slot), decode cX4_sure pc = .ok (.ireturn, 1) → W p l e (RMw 2 0 0 43) s m args below meth c H locs 0 0 Q (F0 m pc ls [.int r])) {H : Heap} {locs : List Loc} (hG : GG X (MP X a w ++ rest) s.heap H locs) {ls : Array Slot} (hl : lv_has ls 4 [(0, .ref (a 0)), (1, .int x1), (2, .int x2)]) : W p l e (RMw 2 0 0 43) s m args below meth c H locs 0 0 Q (F0 m 0 ls []) := by
  have hx := B.1
  have hb := B.2.1
  unfold fM_sure at hf
  refine lv_aload_n hx hb dX4_sure_0 rfl (lv_at hl 0 rfl) ?_
  refine lv_iload_n hx hb dX4_sure_1 rfl (lv_at hl 1 rfl) ?_
  obtain ⟨r_1, e_2, hf⟩ := bo hf
  refine cM_isWalker B hK hG.2.2 hG.1 e_2 ⟨Nat.le_of_ble_eq_true rfl, Nat.le_of_ble_eq_true rfl⟩ ⟨Nat.zero_le _, Nat.zero_le _⟩ hl.1 (Nat.le_of_ble_eq_true rfl) dX4_sure_2 ?_
  refine lv_if_eq (tgt := 18) hx hb dX4_sure_5 (by decide) (fun c_3 => ?_) (fun c_3 => ?_)
  · have hf := ifp c_3 hf
    exact wM_sure_J18 B hK hf kr hG (lv_sub hl [0] rfl)
  · have hf := ifn c_3 hf
    refine lv_iload_n hx hb dX4_sure_8 rfl (lv_at hl 2 rfl) ?_
    refine lv_iconst (v := 0) hx hb dX4_sure_9 (by decide) ?_
    refine lv_bipush (v := 9) hx hb dX4_sure_10 (by decide) ?_
    obtain ⟨r_4, e_5, hf⟩ := bo hf
    refine cM_within B e_5 ⟨Nat.le_of_ble_eq_true rfl, Nat.le_of_ble_eq_true rfl⟩ ⟨Nat.zero_le _, Nat.zero_le _⟩ hl.1 (Nat.le_of_ble_eq_true rfl) dX4_sure_12 ?_
    refine lv_if_ne (tgt := 25) hx hb dX4_sure_15 (by decide) (fun c_6 => ?_) (fun c_6 => ?_)
    · have hf := ifn c_6 hf
      refine lv_aload_n hx hb dX4_sure_25 rfl (lv_at hl 0 rfl) ?_
      refine mo_g9 B hK hG.1 dX4_sure_26 ?_
      refine lv_iload_n hx hb dX4_sure_29 rfl (lv_at hl 1 rfl) ?_
      obtain ⟨v_7, e_8, hf⟩ := bo hf
      refine mo_ld9 B hK hG.1 e_8 dX4_sure_30 ?_
      refine lv_istore_n (lv' := [(3, .int v_7), (0, .ref (a 0)), (1, .int x1), (2, .int x2)]) hx hb dX4_sure_31 rfl hl (by decide) rfl (fun ls hl => ?_)
      refine lv_aload_n hx hb dX4_sure_32 rfl (lv_at hl 1 rfl) ?_
      refine mo_g9 B hK hG.1 dX4_sure_33 ?_
      refine lv_iload_n hx hb dX4_sure_36 rfl (lv_at hl 2 rfl) ?_
      refine lv_iload_n hx hb dX4_sure_37 rfl (lv_at hl 3 rfl) ?_
      obtain ⟨w_9, e_10, hf⟩ := bo hf
      refine mo_st9 B hK hG e_10 dX4_sure_38 (fun H locs hG => ?_)
      refine lv_iload_n hx hb dX4_sure_39 rfl (lv_at hl 0 rfl) ?_
      exact kr _ _ (Option.some.inj hf).symm _ _ hG _ _ dX4_sure_40
    · have hf := ifp c_6 hf
      exact wM_sure_J18 B hK hf kr hG (lv_sub hl [0] rfl)

theorem tM_sure (l : Launch) (X : CX) (a : Nat → Nat) (rest : va_W) (w w' : MW) (x1 : Int32) (x2 : Int32) (r : Int32) (hf : fM_sure w x1 x2 = some (r, w')) : RW l yX4_sure cX4_sure 4 (some .int) 2 0 0 43 [.ref (a 0), .int x1, .int x2] X (MP X a w ++ rest) (MP X a w' ++ rest) (some (.int r)) := by
  refine RW.mk (by decide) (Nat.le_of_ble_eq_true rfl) ?_
  intro p e s m below meth c B hr hlk hK hG ls hl
  exact wM_sure B hK hf (fun r w h H locs hG pc ls hd => by cases h; exact w_iretW B hr hlk hG hd) hG hl
end S_sure

section S_feed
variable {p : Program} {l : Launch} {e : Env} {R : Room} {s : State} {m : MethodId} {args : Array Value} {below : List Frame} {meth : Method} {c : Code} {H : Heap} {locs : List Loc} {cells slots : Nat} {Q : State → Prop} {cc : ByteArray} {nL pc : Nat} {ls : Array Slot} {st : List Value} {X : CX} {a : Nat → Nat} {w : MW} {rest : va_W}
noncomputable def fM_feed (w : MW) (x1 : Int32) : Option (Int32 × MW) :=
  (fM_within x1 0 255).bind fun r_1 =>
  if r_1 = 0 then
    b2 (fM_no w (-2)) fun r_12 w_13 =>
    some (r_12, w_13)
  else
    if (w.1 11) = 250 then
      b2 (fM_no w (-6)) fun r_9 w_10 =>
      some (r_9, w_10)
    else
      (some (mpt w 11 ((w.1 11) + 1))).bind fun w_5 =>
      (mst w_5 12 250 (w.1 11) x1).bind fun w_7 =>
      some ((w_7.1 11), w_7)

set_option maxHeartbeats 4000000 in
theorem wM_feed (B : CallFix p m c cX4_feed 2 s args lw_all RX4) (hK : KK X s) {w : MW} {x1 : Int32} {res : Int32 × MW} (hf : fM_feed w x1 = some res) (kr : ∀ (r : Int32) (w1 : MW), res = (r, w1) → ∀ (H : Heap) (locs : List Loc), GG X (MP X a w1 ++ rest) s.heap H locs → ∀ (pc : Nat) (ls : Array Slot), decode cX4_feed pc = .ok (.ireturn, 1) → W p l e (RMw 1 0 0 22) s m args below meth c H locs 0 0 Q (F0 m pc ls [.int r])) {H : Heap} {locs : List Loc} (hG : GG X (MP X a w ++ rest) s.heap H locs) {ls : Array Slot} (hl : lv_has ls 2 [(0, .ref (a 0)), (1, .int x1)]) : W p l e (RMw 1 0 0 22) s m args below meth c H locs 0 0 Q (F0 m 0 ls []) := by
  have hx := B.1
  have hb := B.2.1
  unfold fM_feed at hf
  refine lv_iload_n hx hb dX4_feed_0 rfl (lv_at hl 1 rfl) ?_
  refine lv_iconst (v := 0) hx hb dX4_feed_1 (by decide) ?_
  refine lv_sipush (v := 255) hx hb dX4_feed_2 (by decide) ?_
  obtain ⟨r_1, e_2, hf⟩ := bo hf
  refine cM_within B e_2 ⟨Nat.le_of_ble_eq_true rfl, Nat.le_of_ble_eq_true rfl⟩ ⟨Nat.zero_le _, Nat.zero_le _⟩ hl.1 (Nat.le_of_ble_eq_true rfl) dX4_feed_5 ?_
  refine lv_if_ne (tgt := 18) hx hb dX4_feed_8 (by decide) (fun c_3 => ?_) (fun c_3 => ?_)
  · have hf := ifn c_3 hf
    refine lv_aload_n hx hb dX4_feed_18 rfl (lv_at hl 0 rfl) ?_
    refine mo_g11 B hK hG.1 dX4_feed_19 ?_
    refine lv_sipush (v := 250) hx hb dX4_feed_22 (by decide) ?_
    refine lv_icmp_ne (tgt := 35) hx hb dX4_feed_25 (by decide) (fun c_4 => ?_) (fun c_4 => ?_)
    · have hf := ifn c_4 hf
      refine lv_aload_n hx hb dX4_feed_35 rfl (lv_at hl 0 rfl) ?_
      refine mo_g12 B hK hG.1 dX4_feed_36 ?_
      refine lv_aload_n hx hb dX4_feed_39 rfl (lv_at hl 0 rfl) ?_
      refine lv_dup hx hb dX4_feed_40 rfl ?_
      refine mo_g11 B hK hG.1 dX4_feed_41 ?_
      refine lv_dup_x1 hx hb dX4_feed_44 rfl rfl ?_
      refine lv_iconst (v := 1) hx hb dX4_feed_45 (by decide) ?_
      refine lv_iadd hx hb dX4_feed_46 ?_
      obtain ⟨w_5, e_6, hf⟩ := bo hf
      refine mo_p11 B hK hG e_6 dX4_feed_47 (fun H locs hG => ?_)
      refine lv_iload_n hx hb dX4_feed_50 rfl (lv_at hl 1 rfl) ?_
      obtain ⟨w_7, e_8, hf⟩ := bo hf
      refine mo_st12 B hK hG e_8 dX4_feed_51 (fun H locs hG => ?_)
      refine lv_aload_n hx hb dX4_feed_52 rfl (lv_at hl 0 rfl) ?_
      refine mo_g11 B hK hG.1 dX4_feed_53 ?_
      exact kr _ _ (Option.some.inj hf).symm _ _ hG _ _ dX4_feed_56
    · have hf := ifp c_4 hf
      refine lv_aload_n hx hb dX4_feed_28 rfl (lv_at hl 0 rfl) ?_
      refine lv_bipush (v := (-6)) hx hb dX4_feed_29 (by decide) ?_
      obtain ⟨r_9, w_10, e_11, hf⟩ := b2s hf
      refine cM_no B hK hG e_11 ⟨Nat.le_of_ble_eq_true rfl, Nat.le_of_ble_eq_true rfl⟩ ⟨Nat.zero_le _, Nat.zero_le _⟩ hl.1 (Nat.le_of_ble_eq_true rfl) dX4_feed_31 (fun H locs hG => ?_)
      exact kr _ _ (Option.some.inj hf).symm _ _ hG _ _ dX4_feed_34
  · have hf := ifp c_3 hf
    refine lv_aload_n hx hb dX4_feed_11 rfl (lv_at hl 0 rfl) ?_
    refine lv_bipush (v := (-2)) hx hb dX4_feed_12 (by decide) ?_
    obtain ⟨r_12, w_13, e_14, hf⟩ := b2s hf
    refine cM_no B hK hG e_14 ⟨Nat.le_of_ble_eq_true rfl, Nat.le_of_ble_eq_true rfl⟩ ⟨Nat.zero_le _, Nat.zero_le _⟩ hl.1 (Nat.le_of_ble_eq_true rfl) dX4_feed_14 (fun H locs hG => ?_)
    exact kr _ _ (Option.some.inj hf).symm _ _ hG _ _ dX4_feed_17

theorem tM_feed (l : Launch) (X : CX) (a : Nat → Nat) (rest : va_W) (w w' : MW) (x1 : Int32) (r : Int32) (hf : fM_feed w x1 = some (r, w')) : RW l yX4_feed cX4_feed 2 (some .int) 1 0 0 22 [.ref (a 0), .int x1] X (MP X a w ++ rest) (MP X a w' ++ rest) (some (.int r)) := by
  refine RW.mk (by decide) (Nat.le_of_ble_eq_true rfl) ?_
  intro p e s m below meth c B hr hlk hK hG ls hl
  exact wM_feed B hK hf (fun r w h H locs hG pc ls hd => by cases h; exact w_iretW B hr hlk hG hd) hG hl
end S_feed

section S_wipe
variable {p : Program} {l : Launch} {e : Env} {R : Room} {s : State} {m : MethodId} {args : Array Value} {below : List Frame} {meth : Method} {c : Code} {H : Heap} {locs : List Loc} {cells slots : Nat} {Q : State → Prop} {cc : ByteArray} {nL pc : Nat} {ls : Array Slot} {st : List Value} {X : CX} {a : Nat → Nat} {w : MW} {rest : va_W}
noncomputable def fM_wipe (w : MW)  : Option (Int32 × MW) :=
  (some (w.1 11)).bind fun x_1 =>
  (some (mpt w 11 0)).bind fun w_3 =>
  some (x_1, w_3)

set_option maxHeartbeats 4000000 in
theorem wM_wipe (B : CallFix p m c cX4_wipe 2 s args lw_all RX4) (hK : KK X s) {w : MW}  {res : Int32 × MW} (hf : fM_wipe w  = some res) (kr : ∀ (r : Int32) (w1 : MW), res = (r, w1) → ∀ (H : Heap) (locs : List Loc), GG X (MP X a w1 ++ rest) s.heap H locs → ∀ (pc : Nat) (ls : Array Slot), decode cX4_wipe pc = .ok (.ireturn, 1) → W p l e (RMw 0 0 0 0) s m args below meth c H locs 0 0 Q (F0 m pc ls [.int r])) {H : Heap} {locs : List Loc} (hG : GG X (MP X a w ++ rest) s.heap H locs) {ls : Array Slot} (hl : lv_has ls 2 [(0, .ref (a 0))]) : W p l e (RMw 0 0 0 0) s m args below meth c H locs 0 0 Q (F0 m 0 ls []) := by
  have hx := B.1
  have hb := B.2.1
  unfold fM_wipe at hf
  refine lv_aload_n hx hb dX4_wipe_0 rfl (lv_at hl 0 rfl) ?_
  refine mo_g11 B hK hG.1 dX4_wipe_1 ?_
  obtain ⟨x_1, e_2, hf⟩ := bo hf
  refine w_istore_n (lv' := [(1, .int x_1), (0, .ref (a 0))]) e_2 hx hb dX4_wipe_4 rfl hl (by decide) rfl (fun ls hl => ?_)
  refine lv_aload_n hx hb dX4_wipe_5 rfl (lv_at hl 1 rfl) ?_
  refine lv_iconst (v := 0) hx hb dX4_wipe_6 (by decide) ?_
  obtain ⟨w_3, e_4, hf⟩ := bo hf
  refine mo_p11 B hK hG e_4 dX4_wipe_7 (fun H locs hG => ?_)
  refine lv_iload_n hx hb dX4_wipe_10 rfl (lv_at hl 0 rfl) ?_
  exact kr _ _ (Option.some.inj hf).symm _ _ hG _ _ dX4_wipe_11

theorem tM_wipe (l : Launch) (X : CX) (a : Nat → Nat) (rest : va_W) (w w' : MW)  (r : Int32) (hf : fM_wipe w  = some (r, w')) : RW l yX4_wipe cX4_wipe 2 (some .int) 0 0 0 0 [.ref (a 0)] X (MP X a w ++ rest) (MP X a w' ++ rest) (some (.int r)) := by
  refine RW.mk (by decide) (Nat.le_of_ble_eq_true rfl) ?_
  intro p e s m below meth c B hr hlk hK hG ls hl
  exact wM_wipe B hK hf (fun r w h H locs hG pc ls hd => by cases h; exact w_iretW B hr hlk hG hd) hG hl
end S_wipe

section S_isLetter
variable {p : Program} {l : Launch} {e : Env} {R : Room} {s : State} {m : MethodId} {args : Array Value} {below : List Frame} {meth : Method} {c : Code} {H : Heap} {locs : List Loc} {cells slots : Nat} {Q : State → Prop} {cc : ByteArray} {nL pc : Nat} {ls : Array Slot} {st : List Value} {X : CX} {a : Nat → Nat} {w : MW} {rest : va_W}
noncomputable def fM_isLetter (x0 : Int32) : Option (Int32) :=
  if x0 < 97 then
    some 0
  else
    if 122 < x0 then
      some 0
    else
      some 1

set_option maxHeartbeats 4000000 in
theorem wM_isLetter (B : CallFix p m c cX4_isLetter 1 s args lw_all RX4) {x0 : Int32} {res : Int32} (hf : fM_isLetter x0 = some res) (kr : ∀ (r : Int32), res = r → narrow .boolean (.int r) = .int r → ∀ (pc : Nat) (ls : Array Slot), decode cX4_isLetter pc = .ok (.ireturn, 1) → W p l e (RM 0 0) s m args below meth c s.heap [] 0 0 Q (F0 m pc ls [.int r])) {ls : Array Slot} (hl : lv_has ls 1 [(0, .int x0)]) : W p l e (RM 0 0) s m args below meth c s.heap [] 0 0 Q (F0 m 0 ls []) := by
  have hx := B.1
  have hb := B.2.1
  unfold fM_isLetter at hf
  refine lv_iload_n hx hb dX4_isLetter_0 rfl (lv_at hl 0 rfl) ?_
  refine lv_bipush (v := 97) hx hb dX4_isLetter_1 (by decide) ?_
  refine lv_icmp_lt (tgt := 16) hx hb dX4_isLetter_3 (by decide) (fun c_1 => ?_) (fun c_1 => ?_)
  · have hf := ifp c_1 hf
    refine lv_iconst (v := 0) hx hb dX4_isLetter_16 (by decide) ?_
    exact kr _ (Option.some.inj hf).symm (by decide) _ _ dX4_isLetter_17
  · have hf := ifn c_1 hf
    refine lv_iload_n hx hb dX4_isLetter_6 rfl (lv_at hl 0 rfl) ?_
    refine lv_bipush (v := 122) hx hb dX4_isLetter_7 (by decide) ?_
    refine lv_icmp_gt (tgt := 16) hx hb dX4_isLetter_9 (by decide) (fun c_2 => ?_) (fun c_2 => ?_)
    · have hf := ifp c_2 hf
      refine lv_iconst (v := 0) hx hb dX4_isLetter_16 (by decide) ?_
      exact kr _ (Option.some.inj hf).symm (by decide) _ _ dX4_isLetter_17
    · have hf := ifn c_2 hf
      refine lv_iconst (v := 1) hx hb dX4_isLetter_12 (by decide) ?_
      refine lv_goto (tgt := 17) hx hb dX4_isLetter_13 (by decide) ?_
      exact kr _ (Option.some.inj hf).symm (by decide) _ _ dX4_isLetter_17

theorem tM_isLetter (l : Launch) (x0 : Int32) (r : Int32) (hf : fM_isLetter x0 = some r) : ST l yX4_isLetter cX4_isLetter 1 (some .boolean) 0 0 [.int x0] (.int r) := by
  refine ST.mk (by decide) (Nat.le_of_ble_eq_true rfl) ?_
  intro p e s m below meth c B hr hlk ls hl
  exact wM_isLetter B hf (fun r h hn pc ls hd => by cases h; exact w_zretR B hr hlk hn rfl hd) hl
theorem cM_isLetter (B : CallFix p m c cc nL s args lw_all RX4) {x0 : Int32} {r : Int32} (hf : fM_isLetter x0 = some r) (hR : 0 + 1 ≤ R.frames ∧ 20 ≤ R.locals) (hcs : cells ≤ R.cells ∧ slots ≤ R.slots) (hl : ls.size = nL) (hcat : (st.map fun v => v.category).sum ≤ 8) (hdg : decode cc pc = .ok (.invokestatic 143, 3)) (kk : W p l e R s m args below meth c H locs cells slots Q (F0 m (pc + 3) ls (.int r :: st))) : W p l e R s m args below meth c H locs cells slots Q (F0 m pc ls (.int x0 :: st)) :=
  w_afterR (w_rS_ST (As := [.int x0]) B (tM_isLetter l x0 r hf) (lw_S q1637 q1638 q91 q1639) (n := 1) (by decide +kernel) hR hcs rfl hl rfl hcat hdg) kk
end S_isLetter

section S_isDigit
variable {p : Program} {l : Launch} {e : Env} {R : Room} {s : State} {m : MethodId} {args : Array Value} {below : List Frame} {meth : Method} {c : Code} {H : Heap} {locs : List Loc} {cells slots : Nat} {Q : State → Prop} {cc : ByteArray} {nL pc : Nat} {ls : Array Slot} {st : List Value} {X : CX} {a : Nat → Nat} {w : MW} {rest : va_W}
noncomputable def fM_isDigit (x0 : Int32) : Option (Int32) :=
  if x0 < 48 then
    some 0
  else
    if 57 < x0 then
      some 0
    else
      some 1

set_option maxHeartbeats 4000000 in
theorem wM_isDigit (B : CallFix p m c cX4_isDigit 1 s args lw_all RX4) {x0 : Int32} {res : Int32} (hf : fM_isDigit x0 = some res) (kr : ∀ (r : Int32), res = r → narrow .boolean (.int r) = .int r → ∀ (pc : Nat) (ls : Array Slot), decode cX4_isDigit pc = .ok (.ireturn, 1) → W p l e (RM 0 0) s m args below meth c s.heap [] 0 0 Q (F0 m pc ls [.int r])) {ls : Array Slot} (hl : lv_has ls 1 [(0, .int x0)]) : W p l e (RM 0 0) s m args below meth c s.heap [] 0 0 Q (F0 m 0 ls []) := by
  have hx := B.1
  have hb := B.2.1
  unfold fM_isDigit at hf
  refine lv_iload_n hx hb dX4_isDigit_0 rfl (lv_at hl 0 rfl) ?_
  refine lv_bipush (v := 48) hx hb dX4_isDigit_1 (by decide) ?_
  refine lv_icmp_lt (tgt := 16) hx hb dX4_isDigit_3 (by decide) (fun c_1 => ?_) (fun c_1 => ?_)
  · have hf := ifp c_1 hf
    refine lv_iconst (v := 0) hx hb dX4_isDigit_16 (by decide) ?_
    exact kr _ (Option.some.inj hf).symm (by decide) _ _ dX4_isDigit_17
  · have hf := ifn c_1 hf
    refine lv_iload_n hx hb dX4_isDigit_6 rfl (lv_at hl 0 rfl) ?_
    refine lv_bipush (v := 57) hx hb dX4_isDigit_7 (by decide) ?_
    refine lv_icmp_gt (tgt := 16) hx hb dX4_isDigit_9 (by decide) (fun c_2 => ?_) (fun c_2 => ?_)
    · have hf := ifp c_2 hf
      refine lv_iconst (v := 0) hx hb dX4_isDigit_16 (by decide) ?_
      exact kr _ (Option.some.inj hf).symm (by decide) _ _ dX4_isDigit_17
    · have hf := ifn c_2 hf
      refine lv_iconst (v := 1) hx hb dX4_isDigit_12 (by decide) ?_
      refine lv_goto (tgt := 17) hx hb dX4_isDigit_13 (by decide) ?_
      exact kr _ (Option.some.inj hf).symm (by decide) _ _ dX4_isDigit_17

theorem tM_isDigit (l : Launch) (x0 : Int32) (r : Int32) (hf : fM_isDigit x0 = some r) : ST l yX4_isDigit cX4_isDigit 1 (some .boolean) 0 0 [.int x0] (.int r) := by
  refine ST.mk (by decide) (Nat.le_of_ble_eq_true rfl) ?_
  intro p e s m below meth c B hr hlk ls hl
  exact wM_isDigit B hf (fun r h hn pc ls hd => by cases h; exact w_zretR B hr hlk hn rfl hd) hl
theorem cM_isDigit (B : CallFix p m c cc nL s args lw_all RX4) {x0 : Int32} {r : Int32} (hf : fM_isDigit x0 = some r) (hR : 0 + 1 ≤ R.frames ∧ 20 ≤ R.locals) (hcs : cells ≤ R.cells ∧ slots ≤ R.slots) (hl : ls.size = nL) (hcat : (st.map fun v => v.category).sum ≤ 8) (hdg : decode cc pc = .ok (.invokestatic 146, 3)) (kk : W p l e R s m args below meth c H locs cells slots Q (F0 m (pc + 3) ls (.int r :: st))) : W p l e R s m args below meth c H locs cells slots Q (F0 m pc ls (.int x0 :: st)) :=
  w_afterR (w_rS_ST (As := [.int x0]) B (tM_isDigit l x0 r hf) (lw_S q1640 q1641 q91 q1642) (n := 1) (by decide +kernel) hR hcs rfl hl rfl hcat hdg) kk
end S_isDigit

section S_next
variable {p : Program} {l : Launch} {e : Env} {R : Room} {s : State} {m : MethodId} {args : Array Value} {below : List Frame} {meth : Method} {c : Code} {H : Heap} {locs : List Loc} {cells slots : Nat} {Q : State → Prop} {cc : ByteArray} {nL pc : Nat} {ls : Array Slot} {st : List Value} {X : CX} {a : Nat → Nat} {w : MW} {rest : va_W}
noncomputable def fM_next_L8 (w : MW)  : Option ((MW) ⊕ (MW)) :=
  if (w.1 11) ≤ (w.1 13) then
    some (.inr w)
  else
    (rd (w.2.1 12) 250 (w.1 13)).bind fun v_2 =>
    if v_2 = 32 then
      (some (mpt w 13 ((w.1 13) + 1))).bind fun w_5 =>
      some (.inl w_5)
    else
      some (.inr w)

set_option maxHeartbeats 4000000 in
theorem wM_next_L8 (B : CallFix p m c cX4_next 2 s args lw_all RX4) (hK : KK X s) {w : MW}  {res : (MW) ⊕ (MW)} (hf : fM_next_L8 w  = some res) (kc : ∀ (w1 : MW), res = .inl w1 → ∀ (H : Heap) (locs : List Loc), GG X (MP X a w1 ++ rest) s.heap H locs → ∀ (ls : Array Slot), lv_has ls 2 [(0, .ref (a 0))] → W p l e (RMw 1 0 0 20) s m args below meth c H locs 0 0 Q (F0 m 8 ls [])) (ke46 : ∀ (w1 : MW), res = .inr w1 → ∀ (H : Heap) (locs : List Loc), GG X (MP X a w1 ++ rest) s.heap H locs → ∀ (ls : Array Slot), lv_has ls 2 [(0, .ref (a 0))] → W p l e (RMw 1 0 0 20) s m args below meth c H locs 0 0 Q (F0 m 46 ls [])) {H : Heap} {locs : List Loc} (hG : GG X (MP X a w ++ rest) s.heap H locs) {ls : Array Slot} (hl : lv_has ls 2 [(0, .ref (a 0))]) : W p l e (RMw 1 0 0 20) s m args below meth c H locs 0 0 Q (F0 m 8 ls []) := by
  have hx := B.1
  have hb := B.2.1
  unfold fM_next_L8 at hf
  refine lv_aload_n hx hb dX4_next_8 rfl (lv_at hl 0 rfl) ?_
  refine mo_g13 B hK hG.1 dX4_next_9 ?_
  refine lv_aload_n hx hb dX4_next_12 rfl (lv_at hl 0 rfl) ?_
  refine mo_g11 B hK hG.1 dX4_next_13 ?_
  refine lv_icmp_ge (tgt := 46) hx hb dX4_next_16 (by decide) (fun c_1 => ?_) (fun c_1 => ?_)
  · have hf := ifp c_1 hf
    exact ke46 _ (Option.some.inj hf).symm _ _ hG _ hl
  · have hf := ifn c_1 hf
    refine lv_aload_n hx hb dX4_next_19 rfl (lv_at hl 0 rfl) ?_
    refine mo_g12 B hK hG.1 dX4_next_20 ?_
    refine lv_aload_n hx hb dX4_next_23 rfl (lv_at hl 0 rfl) ?_
    refine mo_g13 B hK hG.1 dX4_next_24 ?_
    obtain ⟨v_2, e_3, hf⟩ := bo hf
    refine mo_ld12 B hK hG.1 e_3 dX4_next_27 ?_
    refine lv_bipush (v := 32) hx hb dX4_next_28 (by decide) ?_
    refine lv_icmp_ne (tgt := 46) hx hb dX4_next_30 (by decide) (fun c_4 => ?_) (fun c_4 => ?_)
    · have hf := ifn c_4 hf
      exact ke46 _ (Option.some.inj hf).symm _ _ hG _ hl
    · have hf := ifp c_4 hf
      refine lv_aload_n hx hb dX4_next_33 rfl (lv_at hl 0 rfl) ?_
      refine lv_dup hx hb dX4_next_34 rfl ?_
      refine mo_g13 B hK hG.1 dX4_next_35 ?_
      refine lv_iconst (v := 1) hx hb dX4_next_38 (by decide) ?_
      refine lv_iadd hx hb dX4_next_39 ?_
      obtain ⟨w_5, e_6, hf⟩ := bo hf
      refine mo_p13 B hK hG e_6 dX4_next_40 (fun H locs hG => ?_)
      refine lv_goto (tgt := 8) hx hb dX4_next_43 (by decide) ?_
      exact kc _ (Option.some.inj hf).symm _ _ hG _ hl

set_option maxHeartbeats 4000000 in
theorem vM_next_L8 (B : CallFix p m c cX4_next 2 s args lw_all RX4) (hK : KK X s) {w : MW}  {res : MW} (hf : lp (fun q : MW => fM_next_L8 q ) w = some res) (ke46 : ∀ (w1 : MW), res = w1 → ∀ (H : Heap) (locs : List Loc), GG X (MP X a w1 ++ rest) s.heap H locs → ∀ (ls : Array Slot), lv_has ls 2 [(0, .ref (a 0))] → W p l e (RMw 1 0 0 20) s m args below meth c H locs 0 0 Q (F0 m 46 ls [])) {H : Heap} {locs : List Loc} (hG : GG X (MP X a w ++ rest) s.heap H locs) {ls : Array Slot} (hl : lv_has ls 2 [(0, .ref (a 0))]) : W p l e (RMw 1 0 0 20) s m args below meth c H locs 0 0 Q (F0 m 8 ls []) := by
  refine lp_ind (r := res) (P := fun q : MW => ∀ (H : Heap) (locs : List Loc) (ls : Array Slot), GG X (MP X a q ++ rest) s.heap H locs → lv_has ls 2 [(0, .ref (a 0))] → W p l e (RMw 1 0 0 20) s m args below meth c H locs 0 0 Q (F0 m 8 ls [])) ?_ ?_ _ hf _ _ _ hG hl
  · intro q hb H locs ls hG hl
    exact wM_next_L8 B hK hb (fun _ h => by cases h) (fun z0 h => ke46 z0 (Sum.inr.inj h)) hG hl
  · intro q q2 hb ih H locs ls hG hl
    exact wM_next_L8 B hK hb (fun z0 h => by cases h; exact fun H locs hG ls hl => ih H locs ls hG hl) (fun _ h => by cases h) hG hl

noncomputable def fM_next_J276 (w : MW) (t1 : Int32) : Option (MW) :=
  (some (mpt w 15 t1)).bind fun w_1 =>
  some w_1

set_option maxHeartbeats 4000000 in
theorem wM_next_J276 (B : CallFix p m c cX4_next 2 s args lw_all RX4) (hK : KK X s) {w : MW} {t1 : Int32} {res : MW} (hf : fM_next_J276 w t1 = some res) (kr : ∀ (w1 : MW), res = w1 → ∀ (H : Heap) (locs : List Loc), GG X (MP X a w1 ++ rest) s.heap H locs → ∀ (pc : Nat) (ls : Array Slot), decode cX4_next pc = .ok (.return_, 1) → W p l e (RMw 1 0 0 20) s m args below meth c H locs 0 0 Q (F0 m pc ls [])) {H : Heap} {locs : List Loc} (hG : GG X (MP X a w ++ rest) s.heap H locs) {ls : Array Slot} (hl : lv_has ls 2 []) : W p l e (RMw 1 0 0 20) s m args below meth c H locs 0 0 Q (F0 m 276 ls [.int t1, .ref (a 0)]) := by
  have hx := B.1
  have hb := B.2.1
  unfold fM_next_J276 at hf
  obtain ⟨w_1, e_2, hf⟩ := bo hf
  refine mo_p15 B hK hG e_2 dX4_next_276 (fun H locs hG => ?_)
  exact kr _ (Option.some.inj hf).symm _ _ hG _ _ dX4_next_279

noncomputable def fM_next_J222_L159 (w : MW)  : Option ((MW) ⊕ (MW)) :=
  (some (mpt w 14 ((w.1 14) + 1))).bind fun w_1 =>
  some (.inl w_1)

set_option maxHeartbeats 4000000 in
theorem wM_next_J222_L159 (B : CallFix p m c cX4_next 2 s args lw_all RX4) (hK : KK X s) {w : MW}  {res : (MW) ⊕ (MW)} (hf : fM_next_J222_L159 w  = some res) (kc : ∀ (w1 : MW), res = .inl w1 → ∀ (H : Heap) (locs : List Loc), GG X (MP X a w1 ++ rest) s.heap H locs → ∀ (ls : Array Slot), lv_has ls 2 [(0, .ref (a 0))] → W p l e (RMw 1 0 0 20) s m args below meth c H locs 0 0 Q (F0 m 159 ls [])) (ke235 : ∀ (w1 : MW), res = .inr w1 → ∀ (H : Heap) (locs : List Loc), GG X (MP X a w1 ++ rest) s.heap H locs → ∀ (ls : Array Slot), lv_has ls 2 [(0, .ref (a 0))] → W p l e (RMw 1 0 0 20) s m args below meth c H locs 0 0 Q (F0 m 235 ls [])) {H : Heap} {locs : List Loc} (hG : GG X (MP X a w ++ rest) s.heap H locs) {ls : Array Slot} (hl : lv_has ls 2 [(0, .ref (a 0))]) : W p l e (RMw 1 0 0 20) s m args below meth c H locs 0 0 Q (F0 m 222 ls []) := by
  have hx := B.1
  have hb := B.2.1
  unfold fM_next_J222_L159 at hf
  refine lv_aload_n hx hb dX4_next_222 rfl (lv_at hl 0 rfl) ?_
  refine lv_dup hx hb dX4_next_223 rfl ?_
  refine mo_g14 B hK hG.1 dX4_next_224 ?_
  refine lv_iconst (v := 1) hx hb dX4_next_227 (by decide) ?_
  refine lv_iadd hx hb dX4_next_228 ?_
  obtain ⟨w_1, e_2, hf⟩ := bo hf
  refine mo_p14 B hK hG e_2 dX4_next_229 (fun H locs hG => ?_)
  refine lv_goto (tgt := 159) hx hb dX4_next_232 (by decide) ?_
  exact kc _ (Option.some.inj hf).symm _ _ hG _ hl

noncomputable def fM_next_L159 (w : MW)  : Option ((MW) ⊕ (MW)) :=
  if (w.1 11) ≤ (w.1 14) then
    some (.inr w)
  else
    (rd (w.2.1 12) 250 (w.1 14)).bind fun v_2 =>
    (fM_isDigit v_2).bind fun r_4 =>
    if r_4 = 0 then
      some (.inr w)
    else
      if 2 ≤ ((w.1 14) - (w.1 13)) then
        fM_next_J222_L159 w 
      else
        (rd (w.2.1 12) 250 (w.1 14)).bind fun v_8 =>
        (some (mpt w 16 (((10 * (w.1 16)) + v_8) - 48))).bind fun w_10 =>
        fM_next_J222_L159 w_10 

set_option maxHeartbeats 4000000 in
theorem wM_next_L159 (B : CallFix p m c cX4_next 2 s args lw_all RX4) (hK : KK X s) {w : MW}  {res : (MW) ⊕ (MW)} (hf : fM_next_L159 w  = some res) (kc : ∀ (w1 : MW), res = .inl w1 → ∀ (H : Heap) (locs : List Loc), GG X (MP X a w1 ++ rest) s.heap H locs → ∀ (ls : Array Slot), lv_has ls 2 [(0, .ref (a 0))] → W p l e (RMw 1 0 0 20) s m args below meth c H locs 0 0 Q (F0 m 159 ls [])) (ke235 : ∀ (w1 : MW), res = .inr w1 → ∀ (H : Heap) (locs : List Loc), GG X (MP X a w1 ++ rest) s.heap H locs → ∀ (ls : Array Slot), lv_has ls 2 [(0, .ref (a 0))] → W p l e (RMw 1 0 0 20) s m args below meth c H locs 0 0 Q (F0 m 235 ls [])) {H : Heap} {locs : List Loc} (hG : GG X (MP X a w ++ rest) s.heap H locs) {ls : Array Slot} (hl : lv_has ls 2 [(0, .ref (a 0))]) : W p l e (RMw 1 0 0 20) s m args below meth c H locs 0 0 Q (F0 m 159 ls []) := by
  have hx := B.1
  have hb := B.2.1
  unfold fM_next_L159 at hf
  refine lv_aload_n hx hb dX4_next_159 rfl (lv_at hl 0 rfl) ?_
  refine mo_g14 B hK hG.1 dX4_next_160 ?_
  refine lv_aload_n hx hb dX4_next_163 rfl (lv_at hl 0 rfl) ?_
  refine mo_g11 B hK hG.1 dX4_next_164 ?_
  refine lv_icmp_ge (tgt := 235) hx hb dX4_next_167 (by decide) (fun c_1 => ?_) (fun c_1 => ?_)
  · have hf := ifp c_1 hf
    exact ke235 _ (Option.some.inj hf).symm _ _ hG _ hl
  · have hf := ifn c_1 hf
    refine lv_aload_n hx hb dX4_next_170 rfl (lv_at hl 0 rfl) ?_
    refine mo_g12 B hK hG.1 dX4_next_171 ?_
    refine lv_aload_n hx hb dX4_next_174 rfl (lv_at hl 0 rfl) ?_
    refine mo_g14 B hK hG.1 dX4_next_175 ?_
    obtain ⟨v_2, e_3, hf⟩ := bo hf
    refine mo_ld12 B hK hG.1 e_3 dX4_next_178 ?_
    obtain ⟨r_4, e_5, hf⟩ := bo hf
    refine cM_isDigit B e_5 ⟨Nat.le_of_ble_eq_true rfl, Nat.le_of_ble_eq_true rfl⟩ ⟨Nat.zero_le _, Nat.zero_le _⟩ hl.1 (Nat.le_of_ble_eq_true rfl) dX4_next_179 ?_
    refine lv_if_eq (tgt := 235) hx hb dX4_next_182 (by decide) (fun c_6 => ?_) (fun c_6 => ?_)
    · have hf := ifp c_6 hf
      exact ke235 _ (Option.some.inj hf).symm _ _ hG _ hl
    · have hf := ifn c_6 hf
      refine lv_aload_n hx hb dX4_next_185 rfl (lv_at hl 0 rfl) ?_
      refine mo_g14 B hK hG.1 dX4_next_186 ?_
      refine lv_aload_n hx hb dX4_next_189 rfl (lv_at hl 0 rfl) ?_
      refine mo_g13 B hK hG.1 dX4_next_190 ?_
      refine lv_isub hx hb dX4_next_193 ?_
      refine lv_iconst (v := 2) hx hb dX4_next_194 (by decide) ?_
      refine lv_icmp_ge (tgt := 222) hx hb dX4_next_195 (by decide) (fun c_7 => ?_) (fun c_7 => ?_)
      · have hf := ifp c_7 hf
        exact wM_next_J222_L159 B hK hf kc ke235 hG hl
      · have hf := ifn c_7 hf
        refine lv_aload_n hx hb dX4_next_198 rfl (lv_at hl 0 rfl) ?_
        refine lv_bipush (v := 10) hx hb dX4_next_199 (by decide) ?_
        refine lv_aload_n hx hb dX4_next_201 rfl (lv_at hl 0 rfl) ?_
        refine mo_g16 B hK hG.1 dX4_next_202 ?_
        refine lv_imul hx hb dX4_next_205 ?_
        refine lv_aload_n hx hb dX4_next_206 rfl (lv_at hl 0 rfl) ?_
        refine mo_g12 B hK hG.1 dX4_next_207 ?_
        refine lv_aload_n hx hb dX4_next_210 rfl (lv_at hl 0 rfl) ?_
        refine mo_g14 B hK hG.1 dX4_next_211 ?_
        obtain ⟨v_8, e_9, hf⟩ := bo hf
        refine mo_ld12 B hK hG.1 e_9 dX4_next_214 ?_
        refine lv_iadd hx hb dX4_next_215 ?_
        refine lv_bipush (v := 48) hx hb dX4_next_216 (by decide) ?_
        refine lv_isub hx hb dX4_next_218 ?_
        obtain ⟨w_10, e_11, hf⟩ := bo hf
        refine mo_p16 B hK hG e_11 dX4_next_219 (fun H locs hG => ?_)
        exact wM_next_J222_L159 B hK hf kc ke235 hG hl

set_option maxHeartbeats 4000000 in
theorem vM_next_L159 (B : CallFix p m c cX4_next 2 s args lw_all RX4) (hK : KK X s) {w : MW}  {res : MW} (hf : lp (fun q : MW => fM_next_L159 q ) w = some res) (ke235 : ∀ (w1 : MW), res = w1 → ∀ (H : Heap) (locs : List Loc), GG X (MP X a w1 ++ rest) s.heap H locs → ∀ (ls : Array Slot), lv_has ls 2 [(0, .ref (a 0))] → W p l e (RMw 1 0 0 20) s m args below meth c H locs 0 0 Q (F0 m 235 ls [])) {H : Heap} {locs : List Loc} (hG : GG X (MP X a w ++ rest) s.heap H locs) {ls : Array Slot} (hl : lv_has ls 2 [(0, .ref (a 0))]) : W p l e (RMw 1 0 0 20) s m args below meth c H locs 0 0 Q (F0 m 159 ls []) := by
  refine lp_ind (r := res) (P := fun q : MW => ∀ (H : Heap) (locs : List Loc) (ls : Array Slot), GG X (MP X a q ++ rest) s.heap H locs → lv_has ls 2 [(0, .ref (a 0))] → W p l e (RMw 1 0 0 20) s m args below meth c H locs 0 0 Q (F0 m 159 ls [])) ?_ ?_ _ hf _ _ _ hG hl
  · intro q hb H locs ls hG hl
    exact wM_next_L159 B hK hb (fun _ h => by cases h) (fun z0 h => ke235 z0 (Sum.inr.inj h)) hG hl
  · intro q q2 hb ih H locs ls hG hl
    exact wM_next_L159 B hK hb (fun z0 h => by cases h; exact fun H locs hG ls hl => ih H locs ls hG hl) (fun _ h => by cases h) hG hl

noncomputable def fM_next_J256 (w : MW) (t1 : Int32) : Option (MW) :=
  (some (mpt w 15 t1)).bind fun w_1 =>
  some w_1

set_option maxHeartbeats 4000000 in
theorem wM_next_J256 (B : CallFix p m c cX4_next 2 s args lw_all RX4) (hK : KK X s) {w : MW} {t1 : Int32} {res : MW} (hf : fM_next_J256 w t1 = some res) (kr : ∀ (w1 : MW), res = w1 → ∀ (H : Heap) (locs : List Loc), GG X (MP X a w1 ++ rest) s.heap H locs → ∀ (pc : Nat) (ls : Array Slot), decode cX4_next pc = .ok (.return_, 1) → W p l e (RMw 1 0 0 20) s m args below meth c H locs 0 0 Q (F0 m pc ls [])) {H : Heap} {locs : List Loc} (hG : GG X (MP X a w ++ rest) s.heap H locs) {ls : Array Slot} (hl : lv_has ls 2 []) : W p l e (RMw 1 0 0 20) s m args below meth c H locs 0 0 Q (F0 m 256 ls [.int t1, .ref (a 0)]) := by
  have hx := B.1
  have hb := B.2.1
  unfold fM_next_J256 at hf
  obtain ⟨w_1, e_2, hf⟩ := bo hf
  refine mo_p15 B hK hG e_2 dX4_next_256 (fun H locs hG => ?_)
  refine lv_goto (tgt := 279) hx hb dX4_next_259 (by decide) ?_
  exact kr _ (Option.some.inj hf).symm _ _ hG _ _ dX4_next_279

noncomputable def fM_next_J235 (w : MW)  : Option (MW) :=
  if ((w.1 14) - (w.1 13)) ≤ 2 then
    fM_next_J256 w 48
  else
    fM_next_J256 w 120

set_option maxHeartbeats 4000000 in
theorem wM_next_J235 (B : CallFix p m c cX4_next 2 s args lw_all RX4) (hK : KK X s) {w : MW}  {res : MW} (hf : fM_next_J235 w  = some res) (kr : ∀ (w1 : MW), res = w1 → ∀ (H : Heap) (locs : List Loc), GG X (MP X a w1 ++ rest) s.heap H locs → ∀ (pc : Nat) (ls : Array Slot), decode cX4_next pc = .ok (.return_, 1) → W p l e (RMw 1 0 0 20) s m args below meth c H locs 0 0 Q (F0 m pc ls [])) {H : Heap} {locs : List Loc} (hG : GG X (MP X a w ++ rest) s.heap H locs) {ls : Array Slot} (hl : lv_has ls 2 [(0, .ref (a 0))]) : W p l e (RMw 1 0 0 20) s m args below meth c H locs 0 0 Q (F0 m 235 ls []) := by
  have hx := B.1
  have hb := B.2.1
  unfold fM_next_J235 at hf
  refine lv_aload_n hx hb dX4_next_235 rfl (lv_at hl 0 rfl) ?_
  refine lv_aload_n hx hb dX4_next_236 rfl (lv_at hl 0 rfl) ?_
  refine mo_g14 B hK hG.1 dX4_next_237 ?_
  refine lv_aload_n hx hb dX4_next_240 rfl (lv_at hl 0 rfl) ?_
  refine mo_g13 B hK hG.1 dX4_next_241 ?_
  refine lv_isub hx hb dX4_next_244 ?_
  refine lv_iconst (v := 2) hx hb dX4_next_245 (by decide) ?_
  refine lv_icmp_le (tgt := 254) hx hb dX4_next_246 (by decide) (fun c_1 => ?_) (fun c_1 => ?_)
  · have hf := ifp c_1 hf
    refine lv_bipush (v := 48) hx hb dX4_next_254 (by decide) ?_
    exact wM_next_J256 B hK hf kr hG (lv_sub hl [] rfl)
  · have hf := ifn c_1 hf
    refine lv_bipush (v := 120) hx hb dX4_next_249 (by decide) ?_
    refine lv_goto (tgt := 256) hx hb dX4_next_251 (by decide) ?_
    exact wM_next_J256 B hK hf kr hG (lv_sub hl [] rfl)

noncomputable def fM_next_L96 (w : MW)  : Option ((MW) ⊕ (MW)) :=
  if (w.1 11) ≤ (w.1 14) then
    some (.inr w)
  else
    (rd (w.2.1 12) 250 (w.1 14)).bind fun v_2 =>
    (fM_isLetter v_2).bind fun r_4 =>
    if r_4 = 0 then
      some (.inr w)
    else
      (some (mpt w 14 ((w.1 14) + 1))).bind fun w_7 =>
      some (.inl w_7)

set_option maxHeartbeats 4000000 in
theorem wM_next_L96 (B : CallFix p m c cX4_next 2 s args lw_all RX4) (hK : KK X s) {w : MW}  {res : (MW) ⊕ (MW)} (hf : fM_next_L96 w  = some res) (kc : ∀ (w1 : MW), res = .inl w1 → ∀ (H : Heap) (locs : List Loc), GG X (MP X a w1 ++ rest) s.heap H locs → ∀ (ls : Array Slot), lv_has ls 2 [(0, .ref (a 0))] → W p l e (RMw 1 0 0 20) s m args below meth c H locs 0 0 Q (F0 m 96 ls [])) (ke135 : ∀ (w1 : MW), res = .inr w1 → ∀ (H : Heap) (locs : List Loc), GG X (MP X a w1 ++ rest) s.heap H locs → ∀ (ls : Array Slot), lv_has ls 2 [(0, .ref (a 0))] → W p l e (RMw 1 0 0 20) s m args below meth c H locs 0 0 Q (F0 m 135 ls [])) {H : Heap} {locs : List Loc} (hG : GG X (MP X a w ++ rest) s.heap H locs) {ls : Array Slot} (hl : lv_has ls 2 [(0, .ref (a 0))]) : W p l e (RMw 1 0 0 20) s m args below meth c H locs 0 0 Q (F0 m 96 ls []) := by
  have hx := B.1
  have hb := B.2.1
  unfold fM_next_L96 at hf
  refine lv_aload_n hx hb dX4_next_96 rfl (lv_at hl 0 rfl) ?_
  refine mo_g14 B hK hG.1 dX4_next_97 ?_
  refine lv_aload_n hx hb dX4_next_100 rfl (lv_at hl 0 rfl) ?_
  refine mo_g11 B hK hG.1 dX4_next_101 ?_
  refine lv_icmp_ge (tgt := 135) hx hb dX4_next_104 (by decide) (fun c_1 => ?_) (fun c_1 => ?_)
  · have hf := ifp c_1 hf
    exact ke135 _ (Option.some.inj hf).symm _ _ hG _ hl
  · have hf := ifn c_1 hf
    refine lv_aload_n hx hb dX4_next_107 rfl (lv_at hl 0 rfl) ?_
    refine mo_g12 B hK hG.1 dX4_next_108 ?_
    refine lv_aload_n hx hb dX4_next_111 rfl (lv_at hl 0 rfl) ?_
    refine mo_g14 B hK hG.1 dX4_next_112 ?_
    obtain ⟨v_2, e_3, hf⟩ := bo hf
    refine mo_ld12 B hK hG.1 e_3 dX4_next_115 ?_
    obtain ⟨r_4, e_5, hf⟩ := bo hf
    refine cM_isLetter B e_5 ⟨Nat.le_of_ble_eq_true rfl, Nat.le_of_ble_eq_true rfl⟩ ⟨Nat.zero_le _, Nat.zero_le _⟩ hl.1 (Nat.le_of_ble_eq_true rfl) dX4_next_116 ?_
    refine lv_if_eq (tgt := 135) hx hb dX4_next_119 (by decide) (fun c_6 => ?_) (fun c_6 => ?_)
    · have hf := ifp c_6 hf
      exact ke135 _ (Option.some.inj hf).symm _ _ hG _ hl
    · have hf := ifn c_6 hf
      refine lv_aload_n hx hb dX4_next_122 rfl (lv_at hl 0 rfl) ?_
      refine lv_dup hx hb dX4_next_123 rfl ?_
      refine mo_g14 B hK hG.1 dX4_next_124 ?_
      refine lv_iconst (v := 1) hx hb dX4_next_127 (by decide) ?_
      refine lv_iadd hx hb dX4_next_128 ?_
      obtain ⟨w_7, e_8, hf⟩ := bo hf
      refine mo_p14 B hK hG e_8 dX4_next_129 (fun H locs hG => ?_)
      refine lv_goto (tgt := 96) hx hb dX4_next_132 (by decide) ?_
      exact kc _ (Option.some.inj hf).symm _ _ hG _ hl

set_option maxHeartbeats 4000000 in
theorem vM_next_L96 (B : CallFix p m c cX4_next 2 s args lw_all RX4) (hK : KK X s) {w : MW}  {res : MW} (hf : lp (fun q : MW => fM_next_L96 q ) w = some res) (ke135 : ∀ (w1 : MW), res = w1 → ∀ (H : Heap) (locs : List Loc), GG X (MP X a w1 ++ rest) s.heap H locs → ∀ (ls : Array Slot), lv_has ls 2 [(0, .ref (a 0))] → W p l e (RMw 1 0 0 20) s m args below meth c H locs 0 0 Q (F0 m 135 ls [])) {H : Heap} {locs : List Loc} (hG : GG X (MP X a w ++ rest) s.heap H locs) {ls : Array Slot} (hl : lv_has ls 2 [(0, .ref (a 0))]) : W p l e (RMw 1 0 0 20) s m args below meth c H locs 0 0 Q (F0 m 96 ls []) := by
  refine lp_ind (r := res) (P := fun q : MW => ∀ (H : Heap) (locs : List Loc) (ls : Array Slot), GG X (MP X a q ++ rest) s.heap H locs → lv_has ls 2 [(0, .ref (a 0))] → W p l e (RMw 1 0 0 20) s m args below meth c H locs 0 0 Q (F0 m 96 ls [])) ?_ ?_ _ hf _ _ _ hG hl
  · intro q hb H locs ls hG hl
    exact wM_next_L96 B hK hb (fun _ h => by cases h) (fun z0 h => ke135 z0 (Sum.inr.inj h)) hG hl
  · intro q q2 hb ih H locs ls hG hl
    exact wM_next_L96 B hK hb (fun z0 h => by cases h; exact fun H locs hG ls hl => ih H locs ls hG hl) (fun _ h => by cases h) hG hl

noncomputable def fM_next_J135 (w : MW)  : Option (MW) :=
  (some (mpt w 15 119)).bind fun w_1 =>
  some w_1

set_option maxHeartbeats 4000000 in
theorem wM_next_J135 (B : CallFix p m c cX4_next 2 s args lw_all RX4) (hK : KK X s) {w : MW}  {res : MW} (hf : fM_next_J135 w  = some res) (kr : ∀ (w1 : MW), res = w1 → ∀ (H : Heap) (locs : List Loc), GG X (MP X a w1 ++ rest) s.heap H locs → ∀ (pc : Nat) (ls : Array Slot), decode cX4_next pc = .ok (.return_, 1) → W p l e (RMw 1 0 0 20) s m args below meth c H locs 0 0 Q (F0 m pc ls [])) {H : Heap} {locs : List Loc} (hG : GG X (MP X a w ++ rest) s.heap H locs) {ls : Array Slot} (hl : lv_has ls 2 [(0, .ref (a 0))]) : W p l e (RMw 1 0 0 20) s m args below meth c H locs 0 0 Q (F0 m 135 ls []) := by
  have hx := B.1
  have hb := B.2.1
  unfold fM_next_J135 at hf
  refine lv_aload_n hx hb dX4_next_135 rfl (lv_at hl 0 rfl) ?_
  refine lv_bipush (v := 119) hx hb dX4_next_136 (by decide) ?_
  obtain ⟨w_1, e_2, hf⟩ := bo hf
  refine mo_p15 B hK hG e_2 dX4_next_138 (fun H locs hG => ?_)
  refine lv_goto (tgt := 279) hx hb dX4_next_141 (by decide) ?_
  exact kr _ (Option.some.inj hf).symm _ _ hG _ _ dX4_next_279

noncomputable def fM_next_J46 (w : MW)  : Option (MW) :=
  (some (mpt w 14 (w.1 13))).bind fun w_1 =>
  if (w_1.1 13) = (w_1.1 11) then
    (some (mpt w_1 15 101)).bind fun w_23 =>
    some w_23
  else
    (some (mpt w_1 14 ((w_1.1 14) + 1))).bind fun w_4 =>
    (rd (w_4.2.1 12) 250 (w_1.1 14)).bind fun v_6 =>
    (fM_isLetter v_6).bind fun r_8 =>
    if r_8 = 0 then
      (fM_isDigit v_6).bind fun r_11 =>
      if r_11 = 0 then
        if v_6 = 59 then
          fM_next_J276 w_4 59
        else
          fM_next_J276 w_4 120
      else
        (some (mpt w_4 16 (v_6 - 48))).bind fun w_15 =>
        (lp (fun q : MW => fM_next_L159 q ) w_15).bind (
          fun q_18 => (fun (w_17 : MW) =>
            fM_next_J235 w_17 
          ) q_18
        )
    else
      (lp (fun q : MW => fM_next_L96 q ) w_4).bind (
        fun q_21 => (fun (w_20 : MW) =>
          fM_next_J135 w_20 
        ) q_21
      )

set_option maxHeartbeats 4000000 in
theorem wM_next_J46 (B : CallFix p m c cX4_next 2 s args lw_all RX4) (hK : KK X s) {w : MW}  {res : MW} (hf : fM_next_J46 w  = some res) (kr : ∀ (w1 : MW), res = w1 → ∀ (H : Heap) (locs : List Loc), GG X (MP X a w1 ++ rest) s.heap H locs → ∀ (pc : Nat) (ls : Array Slot), decode cX4_next pc = .ok (.return_, 1) → W p l e (RMw 1 0 0 20) s m args below meth c H locs 0 0 Q (F0 m pc ls [])) {H : Heap} {locs : List Loc} (hG : GG X (MP X a w ++ rest) s.heap H locs) {ls : Array Slot} (hl : lv_has ls 2 [(0, .ref (a 0))]) : W p l e (RMw 1 0 0 20) s m args below meth c H locs 0 0 Q (F0 m 46 ls []) := by
  have hx := B.1
  have hb := B.2.1
  unfold fM_next_J46 at hf
  refine lv_aload_n hx hb dX4_next_46 rfl (lv_at hl 0 rfl) ?_
  refine lv_aload_n hx hb dX4_next_47 rfl (lv_at hl 0 rfl) ?_
  refine mo_g13 B hK hG.1 dX4_next_48 ?_
  obtain ⟨w_1, e_2, hf⟩ := bo hf
  refine mo_p14 B hK hG e_2 dX4_next_51 (fun H locs hG => ?_)
  refine lv_aload_n hx hb dX4_next_54 rfl (lv_at hl 0 rfl) ?_
  refine mo_g13 B hK hG.1 dX4_next_55 ?_
  refine lv_aload_n hx hb dX4_next_58 rfl (lv_at hl 0 rfl) ?_
  refine mo_g11 B hK hG.1 dX4_next_59 ?_
  refine lv_icmp_ne (tgt := 72) hx hb dX4_next_62 (by decide) (fun c_3 => ?_) (fun c_3 => ?_)
  · have hf := ifn c_3 hf
    refine lv_aload_n hx hb dX4_next_72 rfl (lv_at hl 0 rfl) ?_
    refine mo_g12 B hK hG.1 dX4_next_73 ?_
    refine lv_aload_n hx hb dX4_next_76 rfl (lv_at hl 0 rfl) ?_
    refine lv_dup hx hb dX4_next_77 rfl ?_
    refine mo_g14 B hK hG.1 dX4_next_78 ?_
    refine lv_dup_x1 hx hb dX4_next_81 rfl rfl ?_
    refine lv_iconst (v := 1) hx hb dX4_next_82 (by decide) ?_
    refine lv_iadd hx hb dX4_next_83 ?_
    obtain ⟨w_4, e_5, hf⟩ := bo hf
    refine mo_p14 B hK hG e_5 dX4_next_84 (fun H locs hG => ?_)
    obtain ⟨v_6, e_7, hf⟩ := bo hf
    refine mo_ld12 B hK hG.1 e_7 dX4_next_87 ?_
    refine lv_istore_n (lv' := [(1, .int v_6), (0, .ref (a 0))]) hx hb dX4_next_88 rfl hl (by decide) rfl (fun ls hl => ?_)
    refine lv_iload_n hx hb dX4_next_89 rfl (lv_at hl 0 rfl) ?_
    obtain ⟨r_8, e_9, hf⟩ := bo hf
    refine cM_isLetter B e_9 ⟨Nat.le_of_ble_eq_true rfl, Nat.le_of_ble_eq_true rfl⟩ ⟨Nat.zero_le _, Nat.zero_le _⟩ hl.1 (Nat.le_of_ble_eq_true rfl) dX4_next_90 ?_
    refine lv_if_eq (tgt := 144) hx hb dX4_next_93 (by decide) (fun c_10 => ?_) (fun c_10 => ?_)
    · have hf := ifp c_10 hf
      refine lv_iload_n hx hb dX4_next_144 rfl (lv_at hl 0 rfl) ?_
      obtain ⟨r_11, e_12, hf⟩ := bo hf
      refine cM_isDigit B e_12 ⟨Nat.le_of_ble_eq_true rfl, Nat.le_of_ble_eq_true rfl⟩ ⟨Nat.zero_le _, Nat.zero_le _⟩ hl.1 (Nat.le_of_ble_eq_true rfl) dX4_next_145 ?_
      refine lv_if_eq (tgt := 262) hx hb dX4_next_148 (by decide) (fun c_13 => ?_) (fun c_13 => ?_)
      · have hf := ifp c_13 hf
        refine lv_aload_n hx hb dX4_next_262 rfl (lv_at hl 1 rfl) ?_
        refine lv_iload_n hx hb dX4_next_263 rfl (lv_at hl 0 rfl) ?_
        refine lv_bipush (v := 59) hx hb dX4_next_264 (by decide) ?_
        refine lv_icmp_ne (tgt := 274) hx hb dX4_next_266 (by decide) (fun c_14 => ?_) (fun c_14 => ?_)
        · have hf := ifn c_14 hf
          refine lv_bipush (v := 120) hx hb dX4_next_274 (by decide) ?_
          exact wM_next_J276 B hK hf kr hG (lv_sub hl [] rfl)
        · have hf := ifp c_14 hf
          refine lv_bipush (v := 59) hx hb dX4_next_269 (by decide) ?_
          refine lv_goto (tgt := 276) hx hb dX4_next_271 (by decide) ?_
          exact wM_next_J276 B hK hf kr hG (lv_sub hl [] rfl)
      · have hf := ifn c_13 hf
        refine lv_aload_n hx hb dX4_next_151 rfl (lv_at hl 1 rfl) ?_
        refine lv_iload_n hx hb dX4_next_152 rfl (lv_at hl 0 rfl) ?_
        refine lv_bipush (v := 48) hx hb dX4_next_153 (by decide) ?_
        refine lv_isub hx hb dX4_next_155 ?_
        obtain ⟨w_15, e_16, hf⟩ := bo hf
        refine mo_p16 B hK hG e_16 dX4_next_156 (fun H locs hG => ?_)
        obtain ⟨w_17, e_19, hf⟩ := bo hf
        try dsimp only at hf
        refine vM_next_L159 B hK e_19 ?_ hG (lv_sub hl [1] rfl)
        intro z0 hz
        cases hz
        intro H locs hG ls hl
        exact wM_next_J235 B hK hf kr hG hl
    · have hf := ifn c_10 hf
      obtain ⟨w_20, e_22, hf⟩ := bo hf
      try dsimp only at hf
      refine vM_next_L96 B hK e_22 ?_ hG (lv_sub hl [1] rfl)
      intro z0 hz
      cases hz
      intro H locs hG ls hl
      exact wM_next_J135 B hK hf kr hG hl
  · have hf := ifp c_3 hf
    refine lv_aload_n hx hb dX4_next_65 rfl (lv_at hl 0 rfl) ?_
    refine lv_bipush (v := 101) hx hb dX4_next_66 (by decide) ?_
    obtain ⟨w_23, e_24, hf⟩ := bo hf
    refine mo_p15 B hK hG e_24 dX4_next_68 (fun H locs hG => ?_)
    exact kr _ (Option.some.inj hf).symm _ _ hG _ _ dX4_next_71

noncomputable def fM_next (w : MW)  : Option (MW) :=
  (some (mpt w 13 (w.1 14))).bind fun w_1 =>
  (lp (fun q : MW => fM_next_L8 q ) w_1).bind (
    fun q_4 => (fun (w_3 : MW) =>
      fM_next_J46 w_3 
    ) q_4
  )

set_option maxHeartbeats 4000000 in
theorem wM_next (B : CallFix p m c cX4_next 2 s args lw_all RX4) (hK : KK X s) {w : MW}  {res : MW} (hf : fM_next w  = some res) (kr : ∀ (w1 : MW), res = w1 → ∀ (H : Heap) (locs : List Loc), GG X (MP X a w1 ++ rest) s.heap H locs → ∀ (pc : Nat) (ls : Array Slot), decode cX4_next pc = .ok (.return_, 1) → W p l e (RMw 1 0 0 20) s m args below meth c H locs 0 0 Q (F0 m pc ls [])) {H : Heap} {locs : List Loc} (hG : GG X (MP X a w ++ rest) s.heap H locs) {ls : Array Slot} (hl : lv_has ls 2 [(0, .ref (a 0))]) : W p l e (RMw 1 0 0 20) s m args below meth c H locs 0 0 Q (F0 m 0 ls []) := by
  have hx := B.1
  have hb := B.2.1
  unfold fM_next at hf
  refine lv_aload_n hx hb dX4_next_0 rfl (lv_at hl 0 rfl) ?_
  refine lv_aload_n hx hb dX4_next_1 rfl (lv_at hl 0 rfl) ?_
  refine mo_g14 B hK hG.1 dX4_next_2 ?_
  obtain ⟨w_1, e_2, hf⟩ := bo hf
  refine mo_p13 B hK hG e_2 dX4_next_5 (fun H locs hG => ?_)
  obtain ⟨w_3, e_5, hf⟩ := bo hf
  try dsimp only at hf
  refine vM_next_L8 B hK e_5 ?_ hG hl
  intro z0 hz
  cases hz
  intro H locs hG ls hl
  exact wM_next_J46 B hK hf kr hG hl

theorem tM_next (l : Launch) (X : CX) (a : Nat → Nat) (rest : va_W) (w w' : MW)  (hf : fM_next w  = some w') : RW l yX4_next cX4_next 2 none 1 0 0 20 [.ref (a 0)] X (MP X a w ++ rest) (MP X a w' ++ rest) none := by
  refine RW.mk (by decide) (Nat.le_of_ble_eq_true rfl) ?_
  intro p e s m below meth c B hr hlk hK hG ls hl
  exact wM_next B hK hf (fun w h H locs hG pc ls hd => by cases h; exact w_vretW B hr hlk hG hd) hG hl
theorem cM_next (B : CallFix p m c cc nL s args lw_all RX4) (hK : KK X s) (hG : GG X (MP X a w ++ rest) s.heap H locs)  {w' : MW} (hf : fM_next w  = some w') (hR : 1 + 1 ≤ R.frames ∧ 41 ≤ R.locals) (hcs : cells ≤ R.cells ∧ slots ≤ R.slots) (hl : ls.size = nL) (hcat : (st.map fun v => v.category).sum ≤ 8) (hdg : decode cc pc = .ok (.invokevirtual 162, 3)) (kk : ∀ (H1 : Heap) (locs1 : List Loc), GG X (MP X a w' ++ rest) s.heap H1 locs1 → W p l e R s m args below meth c H1 locs1 cells slots Q (F0 m (pc + 3) ls st)) : W p l e R s m args below meth c H locs cells slots Q (F0 m pc ls (.ref (a 0) :: st)) :=
  w_afterWv (w_rV_RW (As := []) B hK hG (tM_next l X a rest w w'  hf) (lw_V q1633 q1635 qs52 q91 q1636) 0 rfl rfl (n := 0) (by decide +kernel) hR hcs rfl hl rfl hcat hdg) hG.2.2 kk
end S_next
