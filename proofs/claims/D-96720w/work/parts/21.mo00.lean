set_option maxRecDepth 100000
section S_within
variable {p : Program} {l : Launch} {e : Env} {R : Room} {s : State} {m : MethodId} {args : Array Value} {below : List Frame} {meth : Method} {c : Code} {H : Heap} {locs : List Loc} {cells slots : Nat} {Q : State → Prop} {cc : ByteArray} {nL pc : Nat} {ls : Array Slot} {st : List Value} {X : CX} {a : Nat → Nat} {w : MW} {rest : va_W}
noncomputable def fM_within (x0 : Int32) (x1 : Int32) (x2 : Int32) : Option (Int32) :=
  if x0 < x1 then
    some 0
  else
    if x2 < x0 then
      some 0
    else
      some 1

set_option maxHeartbeats 4000000 in
theorem wM_within (B : CallFix p m c cX4_within 3 s args lw_all RX4) {x0 : Int32} {x1 : Int32} {x2 : Int32} {res : Int32} (hf : fM_within x0 x1 x2 = some res) (kr : ∀ (r : Int32), res = r → narrow .boolean (.int r) = .int r → ∀ (pc : Nat) (ls : Array Slot), decode cX4_within pc = .ok (.ireturn, 1) → W p l e (RM 0 0) s m args below meth c s.heap [] 0 0 Q (F0 m pc ls [.int r])) {ls : Array Slot} (hl : lv_has ls 3 [(0, .int x0), (1, .int x1), (2, .int x2)]) : W p l e (RM 0 0) s m args below meth c s.heap [] 0 0 Q (F0 m 0 ls []) := by
  have hx := B.1
  have hb := B.2.1
  unfold fM_within at hf
  refine lv_iload_n hx hb dX4_within_0 rfl (lv_at hl 0 rfl) ?_
  refine lv_iload_n hx hb dX4_within_1 rfl (lv_at hl 1 rfl) ?_
  refine lv_icmp_lt (tgt := 14) hx hb dX4_within_2 (by decide) (fun c_1 => ?_) (fun c_1 => ?_)
  · have hf := ifp c_1 hf
    refine lv_iconst (v := 0) hx hb dX4_within_14 (by decide) ?_
    exact kr _ (Option.some.inj hf).symm (by decide) _ _ dX4_within_15
  · have hf := ifn c_1 hf
    refine lv_iload_n hx hb dX4_within_5 rfl (lv_at hl 0 rfl) ?_
    refine lv_iload_n hx hb dX4_within_6 rfl (lv_at hl 2 rfl) ?_
    refine lv_icmp_gt (tgt := 14) hx hb dX4_within_7 (by decide) (fun c_2 => ?_) (fun c_2 => ?_)
    · have hf := ifp c_2 hf
      refine lv_iconst (v := 0) hx hb dX4_within_14 (by decide) ?_
      exact kr _ (Option.some.inj hf).symm (by decide) _ _ dX4_within_15
    · have hf := ifn c_2 hf
      refine lv_iconst (v := 1) hx hb dX4_within_10 (by decide) ?_
      refine lv_goto (tgt := 15) hx hb dX4_within_11 (by decide) ?_
      exact kr _ (Option.some.inj hf).symm (by decide) _ _ dX4_within_15

theorem tM_within (l : Launch) (x0 : Int32) (x1 : Int32) (x2 : Int32) (r : Int32) (hf : fM_within x0 x1 x2 = some r) : ST l yX4_within cX4_within 3 (some .boolean) 0 0 [.int x0, .int x1, .int x2] (.int r) := by
  refine ST.mk (by decide) (Nat.le_of_ble_eq_true rfl) ?_
  intro p e s m below meth c B hr hlk ls hl
  exact wM_within B hf (fun r h hn pc ls hd => by cases h; exact w_zretR B hr hlk hn rfl hd) hl
theorem cM_within (B : CallFix p m c cc nL s args lw_all RX4) {x0 : Int32} {x1 : Int32} {x2 : Int32} {r : Int32} (hf : fM_within x0 x1 x2 = some r) (hR : 0 + 1 ≤ R.frames ∧ 22 ≤ R.locals) (hcs : cells ≤ R.cells ∧ slots ≤ R.slots) (hl : ls.size = nL) (hcat : (st.map fun v => v.category).sum ≤ 8) (hdg : decode cc pc = .ok (.invokestatic 79, 3)) (kk : W p l e R s m args below meth c H locs cells slots Q (F0 m (pc + 3) ls (.int r :: st))) : W p l e R s m args below meth c H locs cells slots Q (F0 m pc ls (.int x2 :: .int x1 :: .int x0 :: st)) :=
  w_afterR (w_rS_ST (As := [.int x0, .int x1, .int x2]) B (tM_within l x0 x1 x2 r hf) (lw_S q1482 q1483 q91 q1484) (n := 3) (by decide +kernel) hR hcs rfl hl rfl hcat hdg) kk
end S_within

section S_isShelf
variable {p : Program} {l : Launch} {e : Env} {R : Room} {s : State} {m : MethodId} {args : Array Value} {below : List Frame} {meth : Method} {c : Code} {H : Heap} {locs : List Loc} {cells slots : Nat} {Q : State → Prop} {cc : ByteArray} {nL pc : Nat} {ls : Array Slot} {st : List Value} {X : CX} {a : Nat → Nat} {w : MW} {rest : va_W}
noncomputable def fM_isShelf (x0 : Int32) : Option (Int32) :=
  (fM_within x0 0 7).bind fun r_1 =>
  (bz r_1).bind fun z_3 =>
  some z_3

set_option maxHeartbeats 4000000 in
theorem wM_isShelf (B : CallFix p m c cX4_isShelf 1 s args lw_all RX4) {x0 : Int32} {res : Int32} (hf : fM_isShelf x0 = some res) (kr : ∀ (r : Int32), res = r → narrow .boolean (.int r) = .int r → ∀ (pc : Nat) (ls : Array Slot), decode cX4_isShelf pc = .ok (.ireturn, 1) → W p l e (RM 1 22) s m args below meth c s.heap [] 0 0 Q (F0 m pc ls [.int r])) {ls : Array Slot} (hl : lv_has ls 1 [(0, .int x0)]) : W p l e (RM 1 22) s m args below meth c s.heap [] 0 0 Q (F0 m 0 ls []) := by
  have hx := B.1
  have hb := B.2.1
  unfold fM_isShelf at hf
  refine lv_iload_n hx hb dX4_isShelf_0 rfl (lv_at hl 0 rfl) ?_
  refine lv_iconst (v := 0) hx hb dX4_isShelf_1 (by decide) ?_
  refine lv_bipush (v := 7) hx hb dX4_isShelf_2 (by decide) ?_
  obtain ⟨r_1, e_2, hf⟩ := bo hf
  refine cM_within B e_2 ⟨Nat.le_of_ble_eq_true rfl, Nat.le_of_ble_eq_true rfl⟩ ⟨Nat.zero_le _, Nat.zero_le _⟩ hl.1 (Nat.le_of_ble_eq_true rfl) dX4_isShelf_4 ?_
  obtain ⟨z_3, e_4, hf⟩ := bo hf
  obtain ⟨n_5, hz⟩ := bz_in e_4
  rw [← hz] at hf
  exact kr _ (Option.some.inj hf).symm n_5 _ _ dX4_isShelf_7

theorem tM_isShelf (l : Launch) (x0 : Int32) (r : Int32) (hf : fM_isShelf x0 = some r) : ST l yX4_isShelf cX4_isShelf 1 (some .boolean) 1 22 [.int x0] (.int r) := by
  refine ST.mk (by decide) (Nat.le_of_ble_eq_true rfl) ?_
  intro p e s m below meth c B hr hlk ls hl
  exact wM_isShelf B hf (fun r h hn pc ls hd => by cases h; exact w_zretR B hr hlk hn rfl hd) hl
theorem cM_isShelf (B : CallFix p m c cc nL s args lw_all RX4) {x0 : Int32} {r : Int32} (hf : fM_isShelf x0 = some r) (hR : 1 + 1 ≤ R.frames ∧ 42 ≤ R.locals) (hcs : cells ≤ R.cells ∧ slots ≤ R.slots) (hl : ls.size = nL) (hcat : (st.map fun v => v.category).sum ≤ 8) (hdg : decode cc pc = .ok (.invokestatic 83, 3)) (kk : W p l e R s m args below meth c H locs cells slots Q (F0 m (pc + 3) ls (.int r :: st))) : W p l e R s m args below meth c H locs cells slots Q (F0 m pc ls (.int x0 :: st)) :=
  w_afterR (w_rS_ST (As := [.int x0]) B (tM_isShelf l x0 r hf) (lw_S q1479 q1480 q91 q1481) (n := 1) (by decide +kernel) hR hcs rfl hl rfl hcat hdg) kk
end S_isShelf

section S_no
variable {p : Program} {l : Launch} {e : Env} {R : Room} {s : State} {m : MethodId} {args : Array Value} {below : List Frame} {meth : Method} {c : Code} {H : Heap} {locs : List Loc} {cells slots : Nat} {Q : State → Prop} {cc : ByteArray} {nL pc : Nat} {ls : Array Slot} {st : List Value} {X : CX} {a : Nat → Nat} {w : MW} {rest : va_W}
noncomputable def fM_no (w : MW) (x1 : Int32) : Option (Int32 × MW) :=
  (rd (w.2.1 20) 7 (-x1)).bind fun v_1 =>
  (mst w 20 7 (-x1) (v_1 + 1)).bind fun w_3 =>
  some (x1, w_3)

set_option maxHeartbeats 4000000 in
theorem wM_no (B : CallFix p m c cX4_no 2 s args lw_all RX4) (hK : KK X s) {w : MW} {x1 : Int32} {res : Int32 × MW} (hf : fM_no w x1 = some res) (kr : ∀ (r : Int32) (w1 : MW), res = (r, w1) → ∀ (H : Heap) (locs : List Loc), GG X (MP X a w1 ++ rest) s.heap H locs → ∀ (pc : Nat) (ls : Array Slot), decode cX4_no pc = .ok (.ireturn, 1) → W p l e (RMw 0 0 0 0) s m args below meth c H locs 0 0 Q (F0 m pc ls [.int r])) {H : Heap} {locs : List Loc} (hG : GG X (MP X a w ++ rest) s.heap H locs) {ls : Array Slot} (hl : lv_has ls 2 [(0, .ref (a 0)), (1, .int x1)]) : W p l e (RMw 0 0 0 0) s m args below meth c H locs 0 0 Q (F0 m 0 ls []) := by
  have hx := B.1
  have hb := B.2.1
  unfold fM_no at hf
  refine lv_aload_n hx hb dX4_no_0 rfl (lv_at hl 0 rfl) ?_
  refine mo_g20 B hK hG.1 dX4_no_1 ?_
  refine lv_iload_n hx hb dX4_no_4 rfl (lv_at hl 1 rfl) ?_
  refine lv_ineg hx hb dX4_no_5 ?_
  refine lv_dup2_11 hx hb dX4_no_6 rfl rfl ?_
  obtain ⟨v_1, e_2, hf⟩ := bo hf
  refine mo_ld20 B hK hG.1 e_2 dX4_no_7 ?_
  refine lv_iconst (v := 1) hx hb dX4_no_8 (by decide) ?_
  refine lv_iadd hx hb dX4_no_9 ?_
  obtain ⟨w_3, e_4, hf⟩ := bo hf
  refine mo_st20 B hK hG e_4 dX4_no_10 (fun H locs hG => ?_)
  refine lv_iload_n hx hb dX4_no_11 rfl (lv_at hl 1 rfl) ?_
  exact kr _ _ (Option.some.inj hf).symm _ _ hG _ _ dX4_no_12

theorem tM_no (l : Launch) (X : CX) (a : Nat → Nat) (rest : va_W) (w w' : MW) (x1 : Int32) (r : Int32) (hf : fM_no w x1 = some (r, w')) : RW l yX4_no cX4_no 2 (some .int) 0 0 0 0 [.ref (a 0), .int x1] X (MP X a w ++ rest) (MP X a w' ++ rest) (some (.int r)) := by
  refine RW.mk (by decide) (Nat.le_of_ble_eq_true rfl) ?_
  intro p e s m below meth c B hr hlk hK hG ls hl
  exact wM_no B hK hf (fun r w h H locs hG pc ls hd => by cases h; exact w_iretW B hr hlk hG hd) hG hl
theorem cM_no (B : CallFix p m c cc nL s args lw_all RX4) (hK : KK X s) (hG : GG X (MP X a w ++ rest) s.heap H locs) {x1 : Int32} {r : Int32} {w' : MW} (hf : fM_no w x1 = some (r, w')) (hR : 0 + 1 ≤ R.frames ∧ 21 ≤ R.locals) (hcs : cells ≤ R.cells ∧ slots ≤ R.slots) (hl : ls.size = nL) (hcat : (st.map fun v => v.category).sum ≤ 8) (hdg : decode cc pc = .ok (.invokevirtual 87, 3)) (kk : ∀ (H1 : Heap) (locs1 : List Loc), GG X (MP X a w' ++ rest) s.heap H1 locs1 → W p l e R s m args below meth c H1 locs1 cells slots Q (F0 m (pc + 3) ls (.int r :: st))) : W p l e R s m args below meth c H locs cells slots Q (F0 m pc ls (.int x1 :: .ref (a 0) :: st)) :=
  w_afterW (w_rV_RW (As := [.int x1]) B hK hG (tM_no l X a rest w w' x1 r hf) (lw_V q1485 q1487 qs35 q91 q1488) 0 rfl rfl (n := 1) (by decide +kernel) hR hcs rfl hl rfl hcat hdg) hG.2.2 kk
end S_no

section S_row
variable {p : Program} {l : Launch} {e : Env} {R : Room} {s : State} {m : MethodId} {args : Array Value} {below : List Frame} {meth : Method} {c : Code} {H : Heap} {locs : List Loc} {cells slots : Nat} {Q : State → Prop} {cc : ByteArray} {nL pc : Nat} {ls : Array Slot} {st : List Value} {X : CX} {a : Nat → Nat} {w : MW} {rest : va_W}
noncomputable def fM_row_J26 (w : MW)  : Option (Int32 × MW) :=
  b2 (fM_no w (-2)) fun r_1 w_2 =>
  some (r_1, w_2)

set_option maxHeartbeats 4000000 in
theorem wM_row_J26 (B : CallFix p m c cX4_row 5 s args lw_all RX4) (hK : KK X s) {w : MW}  {res : Int32 × MW} (hf : fM_row_J26 w  = some res) (kr : ∀ (r : Int32) (w1 : MW), res = (r, w1) → ∀ (H : Heap) (locs : List Loc), GG X (MP X a w1 ++ rest) s.heap H locs → ∀ (pc : Nat) (ls : Array Slot), decode cX4_row pc = .ok (.ireturn, 1) → W p l e (RMw 2 0 0 42) s m args below meth c H locs 0 0 Q (F0 m pc ls [.int r])) {H : Heap} {locs : List Loc} (hG : GG X (MP X a w ++ rest) s.heap H locs) {ls : Array Slot} (hl : lv_has ls 5 [(0, .ref (a 0))]) : W p l e (RMw 2 0 0 42) s m args below meth c H locs 0 0 Q (F0 m 26 ls []) := by
  have hx := B.1
  have hb := B.2.1
  unfold fM_row_J26 at hf
  refine lv_aload_n hx hb dX4_row_26 rfl (lv_at hl 0 rfl) ?_
  refine lv_bipush (v := (-2)) hx hb dX4_row_27 (by decide) ?_
  obtain ⟨r_1, w_2, e_3, hf⟩ := b2s hf
  refine cM_no B hK hG e_3 ⟨Nat.le_of_ble_eq_true rfl, Nat.le_of_ble_eq_true rfl⟩ ⟨Nat.zero_le _, Nat.zero_le _⟩ hl.1 (Nat.le_of_ble_eq_true rfl) dX4_row_29 (fun H locs hG => ?_)
  exact kr _ _ (Option.some.inj hf).symm _ _ hG _ _ dX4_row_32

noncomputable def fM_row_L50 (w : MW) (x1 : Int32) (x4 : Int32) : Option ((Int32 × MW) ⊕ (MW)) :=
  if 40 ≤ x4 then
    some (.inr w)
  else
    (mstL w 320 ((40 * x1) + x4) 0).bind fun w_2 =>
    (some (x4 + 1)).bind fun x_4 =>
    some (.inl (x_4, w_2))

set_option maxHeartbeats 4000000 in
theorem wM_row_L50 (B : CallFix p m c cX4_row 5 s args lw_all RX4) (hK : KK X s) {w : MW} {x1 : Int32} {x4 : Int32} {res : (Int32 × MW) ⊕ (MW)} (hf : fM_row_L50 w x1 x4 = some res) (kc : ∀ (y4 : Int32) (w1 : MW), res = .inl (y4, w1) → ∀ (H : Heap) (locs : List Loc), GG X (MP X a w1 ++ rest) s.heap H locs → ∀ (ls : Array Slot), lv_has ls 5 [(0, .ref (a 0)), (1, .int x1), (4, .int y4)] → W p l e (RMw 2 0 0 42) s m args below meth c H locs 0 0 Q (F0 m 50 ls [])) (ke76 : ∀ (w1 : MW), res = .inr w1 → ∀ (H : Heap) (locs : List Loc), GG X (MP X a w1 ++ rest) s.heap H locs → ∀ (ls : Array Slot), lv_has ls 5 [] → W p l e (RMw 2 0 0 42) s m args below meth c H locs 0 0 Q (F0 m 76 ls [])) {H : Heap} {locs : List Loc} (hG : GG X (MP X a w ++ rest) s.heap H locs) {ls : Array Slot} (hl : lv_has ls 5 [(0, .ref (a 0)), (1, .int x1), (4, .int x4)]) : W p l e (RMw 2 0 0 42) s m args below meth c H locs 0 0 Q (F0 m 50 ls []) := by
  have hx := B.1
  have hb := B.2.1
  unfold fM_row_L50 at hf
  refine lv_iload hx hb dX4_row_50 (lv_at hl 2 rfl) ?_
  refine lv_bipush (v := 40) hx hb dX4_row_52 (by decide) ?_
  refine lv_icmp_ge (tgt := 76) hx hb dX4_row_54 (by decide) (fun c_1 => ?_) (fun c_1 => ?_)
  · have hf := ifp c_1 hf
    exact ke76 _ (Option.some.inj hf).symm _ _ hG _ (lv_sub hl [] rfl)
  · have hf := ifn c_1 hf
    refine lv_aload_n hx hb dX4_row_57 rfl (lv_at hl 0 rfl) ?_
    refine mo_g19 B hK hG.1 dX4_row_58 ?_
    refine lv_bipush (v := 40) hx hb dX4_row_61 (by decide) ?_
    refine lv_iload_n hx hb dX4_row_63 rfl (lv_at hl 1 rfl) ?_
    refine lv_imul hx hb dX4_row_64 ?_
    refine lv_iload hx hb dX4_row_65 (lv_at hl 2 rfl) ?_
    refine lv_iadd hx hb dX4_row_67 ?_
    refine lv_lconst (v := 0) hx hb dX4_row_68 (by decide) ?_
    obtain ⟨w_2, e_3, hf⟩ := bo hf
    refine mo_st19 B hK hG e_3 dX4_row_69 (fun H locs hG => ?_)
    obtain ⟨x_4, e_5, hf⟩ := bo hf
    refine w_iinc (k := 2) (lv' := [(4, .int x_4), (0, .ref (a 0)), (1, .int x1)]) e_5 hx hb dX4_row_70 hl rfl (by decide) rfl (fun ls hl => ?_)
    refine lv_goto (tgt := 50) hx hb dX4_row_73 (by decide) ?_
    exact kc _ _ (Option.some.inj hf).symm _ _ hG _ (lv_sub hl [1, 2, 0] rfl)

set_option maxHeartbeats 4000000 in
theorem vM_row_L50 (B : CallFix p m c cX4_row 5 s args lw_all RX4) (hK : KK X s) {w : MW} {x1 : Int32} {x4 : Int32} {res : MW} (hf : lp (fun q : Int32 × MW => fM_row_L50 q.2 x1 q.1) (x4, w) = some res) (ke76 : ∀ (w1 : MW), res = w1 → ∀ (H : Heap) (locs : List Loc), GG X (MP X a w1 ++ rest) s.heap H locs → ∀ (ls : Array Slot), lv_has ls 5 [] → W p l e (RMw 2 0 0 42) s m args below meth c H locs 0 0 Q (F0 m 76 ls [])) {H : Heap} {locs : List Loc} (hG : GG X (MP X a w ++ rest) s.heap H locs) {ls : Array Slot} (hl : lv_has ls 5 [(0, .ref (a 0)), (1, .int x1), (4, .int x4)]) : W p l e (RMw 2 0 0 42) s m args below meth c H locs 0 0 Q (F0 m 50 ls []) := by
  refine lp_ind (r := res) (P := fun q : Int32 × MW => ∀ (H : Heap) (locs : List Loc) (ls : Array Slot), GG X (MP X a q.2 ++ rest) s.heap H locs → lv_has ls 5 [(0, .ref (a 0)), (1, .int x1), (4, .int q.1)] → W p l e (RMw 2 0 0 42) s m args below meth c H locs 0 0 Q (F0 m 50 ls [])) ?_ ?_ _ hf _ _ _ hG hl
  · intro q hb H locs ls hG hl
    exact wM_row_L50 B hK hb (fun _ _ h => by cases h) (fun z0 h => ke76 z0 (Sum.inr.inj h)) hG hl
  · intro q q2 hb ih H locs ls hG hl
    exact wM_row_L50 B hK hb (fun z0 z1 h => by cases h; exact fun H locs hG ls hl => ih H locs ls hG hl) (fun _ h => by cases h) hG hl

noncomputable def fM_row (w : MW) (x1 : Int32) (x2 : Int32) (x3 : Int32) : Option (Int32 × MW) :=
  (fM_isShelf x1).bind fun r_1 =>
  if r_1 = 0 then
    fM_row_J26 w 
  else
    (fM_within x2 0 4).bind fun r_4 =>
    if r_4 = 0 then
      fM_row_J26 w 
    else
      (fM_within x3 0 40).bind fun r_7 =>
      if r_7 = 0 then
        fM_row_J26 w 
      else
        (mst w 17 8 x1 x2).bind fun w_10 =>
        (mst w_10 18 8 x1 x3).bind fun w_12 =>
        (lp (fun q : Int32 × MW => fM_row_L50 q.2 x1 q.1) (0, w_12)).bind (
          fun q_15 => (fun (w_14 : MW) =>
            some (1, w_14)
          ) q_15
        )

set_option maxHeartbeats 4000000 in
theorem wM_row (B : CallFix p m c cX4_row 5 s args lw_all RX4) (hK : KK X s) {w : MW} {x1 : Int32} {x2 : Int32} {x3 : Int32} {res : Int32 × MW} (hf : fM_row w x1 x2 x3 = some res) (kr : ∀ (r : Int32) (w1 : MW), res = (r, w1) → ∀ (H : Heap) (locs : List Loc), GG X (MP X a w1 ++ rest) s.heap H locs → ∀ (pc : Nat) (ls : Array Slot), decode cX4_row pc = .ok (.ireturn, 1) → W p l e (RMw 2 0 0 42) s m args below meth c H locs 0 0 Q (F0 m pc ls [.int r])) {H : Heap} {locs : List Loc} (hG : GG X (MP X a w ++ rest) s.heap H locs) {ls : Array Slot} (hl : lv_has ls 5 [(0, .ref (a 0)), (1, .int x1), (2, .int x2), (3, .int x3)]) : W p l e (RMw 2 0 0 42) s m args below meth c H locs 0 0 Q (F0 m 0 ls []) := by
  have hx := B.1
  have hb := B.2.1
  unfold fM_row at hf
  refine lv_iload_n hx hb dX4_row_0 rfl (lv_at hl 1 rfl) ?_
  obtain ⟨r_1, e_2, hf⟩ := bo hf
  refine cM_isShelf B e_2 ⟨Nat.le_of_ble_eq_true rfl, Nat.le_of_ble_eq_true rfl⟩ ⟨Nat.zero_le _, Nat.zero_le _⟩ hl.1 (Nat.le_of_ble_eq_true rfl) dX4_row_1 ?_
  refine lv_if_eq (tgt := 26) hx hb dX4_row_4 (by decide) (fun c_3 => ?_) (fun c_3 => ?_)
  · have hf := ifp c_3 hf
    exact wM_row_J26 B hK hf kr hG (lv_sub hl [0] rfl)
  · have hf := ifn c_3 hf
    refine lv_iload_n hx hb dX4_row_7 rfl (lv_at hl 2 rfl) ?_
    refine lv_iconst (v := 0) hx hb dX4_row_8 (by decide) ?_
    refine lv_iconst (v := 4) hx hb dX4_row_9 (by decide) ?_
    obtain ⟨r_4, e_5, hf⟩ := bo hf
    refine cM_within B e_5 ⟨Nat.le_of_ble_eq_true rfl, Nat.le_of_ble_eq_true rfl⟩ ⟨Nat.zero_le _, Nat.zero_le _⟩ hl.1 (Nat.le_of_ble_eq_true rfl) dX4_row_10 ?_
    refine lv_if_eq (tgt := 26) hx hb dX4_row_13 (by decide) (fun c_6 => ?_) (fun c_6 => ?_)
    · have hf := ifp c_6 hf
      exact wM_row_J26 B hK hf kr hG (lv_sub hl [0] rfl)
    · have hf := ifn c_6 hf
      refine lv_iload_n hx hb dX4_row_16 rfl (lv_at hl 3 rfl) ?_
      refine lv_iconst (v := 0) hx hb dX4_row_17 (by decide) ?_
      refine lv_bipush (v := 40) hx hb dX4_row_18 (by decide) ?_
      obtain ⟨r_7, e_8, hf⟩ := bo hf
      refine cM_within B e_8 ⟨Nat.le_of_ble_eq_true rfl, Nat.le_of_ble_eq_true rfl⟩ ⟨Nat.zero_le _, Nat.zero_le _⟩ hl.1 (Nat.le_of_ble_eq_true rfl) dX4_row_20 ?_
      refine lv_if_ne (tgt := 33) hx hb dX4_row_23 (by decide) (fun c_9 => ?_) (fun c_9 => ?_)
      · have hf := ifn c_9 hf
        refine lv_aload_n hx hb dX4_row_33 rfl (lv_at hl 0 rfl) ?_
        refine mo_g17 B hK hG.1 dX4_row_34 ?_
        refine lv_iload_n hx hb dX4_row_37 rfl (lv_at hl 1 rfl) ?_
        refine lv_iload_n hx hb dX4_row_38 rfl (lv_at hl 2 rfl) ?_
        obtain ⟨w_10, e_11, hf⟩ := bo hf
        refine mo_st17 B hK hG e_11 dX4_row_39 (fun H locs hG => ?_)
        refine lv_aload_n hx hb dX4_row_40 rfl (lv_at hl 0 rfl) ?_
        refine mo_g18 B hK hG.1 dX4_row_41 ?_
        refine lv_iload_n hx hb dX4_row_44 rfl (lv_at hl 1 rfl) ?_
        refine lv_iload_n hx hb dX4_row_45 rfl (lv_at hl 3 rfl) ?_
        obtain ⟨w_12, e_13, hf⟩ := bo hf
        refine mo_st18 B hK hG e_13 dX4_row_46 (fun H locs hG => ?_)
        refine lv_iconst (v := 0) hx hb dX4_row_47 (by decide) ?_
        refine lv_istore (lv' := [(4, .int 0), (0, .ref (a 0)), (1, .int x1), (2, .int x2), (3, .int x3)]) hx hb dX4_row_48 hl (by decide) rfl (fun ls hl => ?_)
        obtain ⟨w_14, e_16, hf⟩ := bo hf
        try dsimp only at hf
        refine vM_row_L50 B hK e_16 ?_ hG (lv_sub hl [1, 2, 0] rfl)
        intro z0 hz
        cases hz
        intro H locs hG ls hl
        refine lv_iconst (v := 1) hx hb dX4_row_76 (by decide) ?_
        exact kr _ _ (Option.some.inj hf).symm _ _ hG _ _ dX4_row_77
      · have hf := ifp c_9 hf
        exact wM_row_J26 B hK hf kr hG (lv_sub hl [0] rfl)

theorem tM_row (l : Launch) (X : CX) (a : Nat → Nat) (rest : va_W) (w w' : MW) (x1 : Int32) (x2 : Int32) (x3 : Int32) (r : Int32) (hf : fM_row w x1 x2 x3 = some (r, w')) : RW l yX4_row cX4_row 5 (some .int) 2 0 0 42 [.ref (a 0), .int x1, .int x2, .int x3] X (MP X a w ++ rest) (MP X a w' ++ rest) (some (.int r)) := by
  refine RW.mk (by decide) (Nat.le_of_ble_eq_true rfl) ?_
  intro p e s m below meth c B hr hlk hK hG ls hl
  exact wM_row B hK hf (fun r w h H locs hG pc ls hd => by cases h; exact w_iretW B hr hlk hG hd) hG hl
end S_row

section S_isRow
variable {p : Program} {l : Launch} {e : Env} {R : Room} {s : State} {m : MethodId} {args : Array Value} {below : List Frame} {meth : Method} {c : Code} {H : Heap} {locs : List Loc} {cells slots : Nat} {Q : State → Prop} {cc : ByteArray} {nL pc : Nat} {ls : Array Slot} {st : List Value} {X : CX} {a : Nat → Nat} {w : MW} {rest : va_W}
noncomputable def fM_isRow (w : MW) (x1 : Int32) : Option (Int32) :=
  (rd (w.2.1 17) 8 x1).bind fun v_1 =>
  (fM_within v_1 0 4).bind fun r_3 =>
  (bz r_3).bind fun z_5 =>
  some z_5

set_option maxHeartbeats 4000000 in
theorem wM_isRow (B : CallFix p m c cX4_isRow 2 s args lw_all RX4) (hK : KK X s) {w : MW} (hP : va_P X.2.2.1 vwCl (MP X a w ++ rest) s.heap) {x1 : Int32} {res : Int32} (hf : fM_isRow w x1 = some res) (kr : ∀ (r : Int32), res = r → narrow .boolean (.int r) = .int r → ∀ (pc : Nat) (ls : Array Slot), decode cX4_isRow pc = .ok (.ireturn, 1) → W p l e (RM 1 22) s m args below meth c s.heap [] 0 0 Q (F0 m pc ls [.int r])) {ls : Array Slot} (hl : lv_has ls 2 [(0, .ref (a 0)), (1, .int x1)]) : W p l e (RM 1 22) s m args below meth c s.heap [] 0 0 Q (F0 m 0 ls []) := by
  have hx := B.1
  have hb := B.2.1
  unfold fM_isRow at hf
  refine lv_aload_n hx hb dX4_isRow_0 rfl (lv_at hl 0 rfl) ?_
  refine mo_g17 B hK hP dX4_isRow_1 ?_
  refine lv_iload_n hx hb dX4_isRow_4 rfl (lv_at hl 1 rfl) ?_
  obtain ⟨v_1, e_2, hf⟩ := bo hf
  refine mo_ld17 B hK hP e_2 dX4_isRow_5 ?_
  refine lv_iconst (v := 0) hx hb dX4_isRow_6 (by decide) ?_
  refine lv_iconst (v := 4) hx hb dX4_isRow_7 (by decide) ?_
  obtain ⟨r_3, e_4, hf⟩ := bo hf
  refine cM_within B e_4 ⟨Nat.le_of_ble_eq_true rfl, Nat.le_of_ble_eq_true rfl⟩ ⟨Nat.zero_le _, Nat.zero_le _⟩ hl.1 (Nat.le_of_ble_eq_true rfl) dX4_isRow_8 ?_
  obtain ⟨z_5, e_6, hf⟩ := bo hf
  obtain ⟨n_7, hz⟩ := bz_in e_6
  rw [← hz] at hf
  exact kr _ (Option.some.inj hf).symm n_7 _ _ dX4_isRow_11

theorem tM_isRow (l : Launch) (X : CX) (a : Nat → Nat) (rest : va_W) (w : MW) (x1 : Int32) (r : Int32) (hf : fM_isRow w x1 = some r) : RO l yX4_isRow cX4_isRow 2 (some .boolean) 1 22 [.ref (a 0), .int x1] X (MP X a w ++ rest) (some (.int r)) := by
  refine RO.mk (by decide) (Nat.le_of_ble_eq_true rfl) ?_
  intro p e s m below meth c B hr hlk hK hP ls hl
  exact wM_isRow B hK hP hf (fun r h hn pc ls hd => by cases h; exact w_zretR B hr hlk hn rfl hd) hl
theorem cM_isRow (B : CallFix p m c cc nL s args lw_all RX4) (hK : KK X s) (hS : va_S (Az X) s.heap H locs) (hP : va_P X.2.2.1 vwCl (MP X a w ++ rest) H) {x1 : Int32} {r : Int32} (hf : fM_isRow w x1 = some r) (hR : 1 + 1 ≤ R.frames ∧ 43 ≤ R.locals) (hcs : cells ≤ R.cells ∧ slots ≤ R.slots) (hl : ls.size = nL) (hcat : (st.map fun v => v.category).sum ≤ 8) (hdg : decode cc pc = .ok (.invokevirtual 91, 3)) (kk : W p l e R s m args below meth c H locs cells slots Q (F0 m (pc + 3) ls (.int r :: st))) : W p l e R s m args below meth c H locs cells slots Q (F0 m pc ls (.int x1 :: .ref (a 0) :: st)) :=
  w_afterR (w_rV_RO (As := [.int x1]) B hK hS hP (tM_isRow l X a rest w x1 r hf) (lw_V q1493 q1495 qs36 q91 q1496) 0 rfl rfl (n := 1) (by decide +kernel) hR hcs rfl hl rfl hcat hdg) kk
end S_isRow

section S_kept
variable {p : Program} {l : Launch} {e : Env} {R : Room} {s : State} {m : MethodId} {args : Array Value} {below : List Frame} {meth : Method} {c : Code} {H : Heap} {locs : List Loc} {cells slots : Nat} {Q : State → Prop} {cc : ByteArray} {nL pc : Nat} {ls : Array Slot} {st : List Value} {X : CX} {a : Nat → Nat} {w : MW} {rest : va_W}
noncomputable def fM_kept (x0 : Int32) (x1 : Int64) : Option (Int64) :=
  if x0 = 0 then
    some (((x1.toInt32).toInt8.toInt32).toInt64)
  else
    if x0 = 1 then
      some (((x1.toInt32).toInt16.toInt32).toInt64)
    else
      if x0 = 2 then
        some ((x1.toInt32).toInt64)
      else
        if x0 = 3 then
          some x1
        else
          if (lg_cmp x1 0) = 0 then
            some 0
          else
            some 1

set_option maxHeartbeats 4000000 in
theorem wM_kept (B : CallFix p m c cX4_kept 3 s args lw_all RX4) {x0 : Int32} {x1 : Int64} {res : Int64} (hf : fM_kept x0 x1 = some res) (kr : ∀ (r : Int64), res = r → ∀ (pc : Nat) (ls : Array Slot), decode cX4_kept pc = .ok (.lreturn, 1) → W p l e (RM 0 0) s m args below meth c s.heap [] 0 0 Q (F0 m pc ls [.long r])) {ls : Array Slot} (hl : lv_has ls 3 [(0, .int x0), (1, .long x1)]) : W p l e (RM 0 0) s m args below meth c s.heap [] 0 0 Q (F0 m 0 ls []) := by
  have hx := B.1
  have hb := B.2.1
  unfold fM_kept at hf
  refine lv_iload_n hx hb dX4_kept_0 rfl (lv_at hl 0 rfl) ?_
  by_cases c_1 : x0 = 0
  · have hf := ifp c_1 hf
    refine w_tab (tgt := 32) 0 c_1 hx hb dX4_kept_1 (by decide) (by decide) rfl (by decide) ?_
    refine lv_lload_n hx hb dX4_kept_32 rfl (lv_at hl 1 rfl) ?_
    refine lv_l2i hx hb dX4_kept_33 rfl ?_
    refine lv_i2b hx hb dX4_kept_34 rfl ?_
    refine lv_i2l hx hb dX4_kept_35 rfl ?_
    exact kr _ (Option.some.inj hf).symm _ _ dX4_kept_36
  · have hf := ifn c_1 hf
    by_cases c_2 : x0 = 1
    · have hf := ifp c_2 hf
      refine w_tab (tgt := 37) 1 c_2 hx hb dX4_kept_1 (by decide) (by decide) rfl (by decide) ?_
      refine lv_lload_n hx hb dX4_kept_37 rfl (lv_at hl 1 rfl) ?_
      refine lv_l2i hx hb dX4_kept_38 rfl ?_
      refine lv_i2s hx hb dX4_kept_39 rfl ?_
      refine lv_i2l hx hb dX4_kept_40 rfl ?_
      exact kr _ (Option.some.inj hf).symm _ _ dX4_kept_41
    · have hf := ifn c_2 hf
      by_cases c_3 : x0 = 2
      · have hf := ifp c_3 hf
        refine w_tab (tgt := 42) 2 c_3 hx hb dX4_kept_1 (by decide) (by decide) rfl (by decide) ?_
        refine lv_lload_n hx hb dX4_kept_42 rfl (lv_at hl 1 rfl) ?_
        refine lv_l2i hx hb dX4_kept_43 rfl ?_
        refine lv_i2l hx hb dX4_kept_44 rfl ?_
        exact kr _ (Option.some.inj hf).symm _ _ dX4_kept_45
      · have hf := ifn c_3 hf
        by_cases c_4 : x0 = 3
        · have hf := ifp c_4 hf
          refine w_tab (tgt := 46) 3 c_4 hx hb dX4_kept_1 (by decide) (by decide) rfl (by decide) ?_
          refine lv_lload_n hx hb dX4_kept_46 rfl (lv_at hl 1 rfl) ?_
          exact kr _ (Option.some.inj hf).symm _ _ dX4_kept_47
        · have hf := ifn c_4 hf
          refine lv_tableOut (tgt := 48) hx hb dX4_kept_1 (by have := lv_neT c_1 (a := 0) rfl; have := lv_neT c_2 (a := 1) rfl; have := lv_neT c_3 (a := 2) rfl; have := lv_neT c_4 (a := 3) rfl; omega) (by decide) ?_
          refine lv_lload_n hx hb dX4_kept_48 rfl (lv_at hl 1 rfl) ?_
          refine lv_lconst (v := 0) hx hb dX4_kept_49 (by decide) ?_
          refine W.lcmp hx hb dX4_kept_50 ?_
          refine lv_if_eq (tgt := 58) hx hb dX4_kept_51 (by decide) (fun c_5 => ?_) (fun c_5 => ?_)
          · have hf := ifp c_5 hf
            refine lv_lconst (v := 0) hx hb dX4_kept_58 (by decide) ?_
            exact kr _ (Option.some.inj hf).symm _ _ dX4_kept_59
          · have hf := ifn c_5 hf
            refine lv_lconst (v := 1) hx hb dX4_kept_54 (by decide) ?_
            refine lv_goto (tgt := 59) hx hb dX4_kept_55 (by decide) ?_
            exact kr _ (Option.some.inj hf).symm _ _ dX4_kept_59

theorem tM_kept (l : Launch) (x0 : Int32) (x1 : Int64) (r : Int64) (hf : fM_kept x0 x1 = some r) : ST l yX4_kept cX4_kept 3 (some .long) 0 0 [.int x0, .long x1] (.long r) := by
  refine ST.mk (by decide) (Nat.le_of_ble_eq_true rfl) ?_
  intro p e s m below meth c B hr hlk ls hl
  exact wM_kept B hf (fun r h pc ls hd => by cases h; exact w_lretR B hr hlk rfl hd) hl
theorem cM_kept (B : CallFix p m c cc nL s args lw_all RX4) {x0 : Int32} {x1 : Int64} {r : Int64} (hf : fM_kept x0 x1 = some r) (hR : 0 + 1 ≤ R.frames ∧ 22 ≤ R.locals) (hcs : cells ≤ R.cells ∧ slots ≤ R.slots) (hl : ls.size = nL) (hcat : (st.map fun v => v.category).sum ≤ 8) (hdg : decode cc pc = .ok (.invokestatic 97, 3)) (kk : W p l e R s m args below meth c H locs cells slots Q (F0 m (pc + 3) ls (.long r :: st))) : W p l e R s m args below meth c H locs cells slots Q (F0 m pc ls (.long x1 :: .int x0 :: st)) :=
  w_afterR (w_rS_ST (As := [.int x0, .long x1]) B (tM_kept l x0 x1 r hf) (lw_S q1501 q1502 q91 q1503) (n := 2) (by decide +kernel) hR hcs rfl hl rfl hcat hdg) kk
end S_kept

section S_noRow
variable {p : Program} {l : Launch} {e : Env} {R : Room} {s : State} {m : MethodId} {args : Array Value} {below : List Frame} {meth : Method} {c : Code} {H : Heap} {locs : List Loc} {cells slots : Nat} {Q : State → Prop} {cc : ByteArray} {nL pc : Nat} {ls : Array Slot} {st : List Value} {X : CX} {a : Nat → Nat} {w : MW} {rest : va_W}
noncomputable def fM_noRow (w : MW) (x1 : Int32) : Option (Int32) :=
  (rd (w.2.1 17) 8 x1).bind fun v_1 =>
  if v_1 < 10 then
    (rd (w.2.1 17) 8 x1).bind fun v_4 =>
    if 0 ≤ v_4 then
      some 0
    else
      some (-4)
  else
    some (-3)

set_option maxHeartbeats 4000000 in
theorem wM_noRow (B : CallFix p m c cX4_noRow 2 s args lw_all RX4) (hK : KK X s) {w : MW} (hP : va_P X.2.2.1 vwCl (MP X a w ++ rest) s.heap) {x1 : Int32} {res : Int32} (hf : fM_noRow w x1 = some res) (kr : ∀ (r : Int32), res = r → ∀ (pc : Nat) (ls : Array Slot), decode cX4_noRow pc = .ok (.ireturn, 1) → W p l e (RM 0 0) s m args below meth c s.heap [] 0 0 Q (F0 m pc ls [.int r])) {ls : Array Slot} (hl : lv_has ls 2 [(0, .ref (a 0)), (1, .int x1)]) : W p l e (RM 0 0) s m args below meth c s.heap [] 0 0 Q (F0 m 0 ls []) := by
  have hx := B.1
  have hb := B.2.1
  unfold fM_noRow at hf
  refine lv_aload_n hx hb dX4_noRow_0 rfl (lv_at hl 0 rfl) ?_
  refine mo_g17 B hK hP dX4_noRow_1 ?_
  refine lv_iload_n hx hb dX4_noRow_4 rfl (lv_at hl 1 rfl) ?_
  obtain ⟨v_1, e_2, hf⟩ := bo hf
  refine mo_ld17 B hK hP e_2 dX4_noRow_5 ?_
  refine lv_bipush (v := 10) hx hb dX4_noRow_6 (by decide) ?_
  refine lv_icmp_lt (tgt := 16) hx hb dX4_noRow_8 (by decide) (fun c_3 => ?_) (fun c_3 => ?_)
  · have hf := ifp c_3 hf
    refine lv_aload_n hx hb dX4_noRow_16 rfl (lv_at hl 0 rfl) ?_
    refine mo_g17 B hK hP dX4_noRow_17 ?_
    refine lv_iload_n hx hb dX4_noRow_20 rfl (lv_at hl 1 rfl) ?_
    obtain ⟨v_4, e_5, hf⟩ := bo hf
    refine mo_ld17 B hK hP e_5 dX4_noRow_21 ?_
    refine lv_if_ge (tgt := 30) hx hb dX4_noRow_22 (by decide) (fun c_6 => ?_) (fun c_6 => ?_)
    · have hf := ifp c_6 hf
      refine lv_iconst (v := 0) hx hb dX4_noRow_30 (by decide) ?_
      exact kr _ (Option.some.inj hf).symm _ _ dX4_noRow_31
    · have hf := ifn c_6 hf
      refine lv_bipush (v := (-4)) hx hb dX4_noRow_25 (by decide) ?_
      refine lv_goto (tgt := 31) hx hb dX4_noRow_27 (by decide) ?_
      exact kr _ (Option.some.inj hf).symm _ _ dX4_noRow_31
  · have hf := ifn c_3 hf
    refine lv_bipush (v := (-3)) hx hb dX4_noRow_11 (by decide) ?_
    refine lv_goto (tgt := 31) hx hb dX4_noRow_13 (by decide) ?_
    exact kr _ (Option.some.inj hf).symm _ _ dX4_noRow_31

theorem tM_noRow (l : Launch) (X : CX) (a : Nat → Nat) (rest : va_W) (w : MW) (x1 : Int32) (r : Int32) (hf : fM_noRow w x1 = some r) : RO l yX4_noRow cX4_noRow 2 (some .int) 0 0 [.ref (a 0), .int x1] X (MP X a w ++ rest) (some (.int r)) := by
  refine RO.mk (by decide) (Nat.le_of_ble_eq_true rfl) ?_
  intro p e s m below meth c B hr hlk hK hP ls hl
  exact wM_noRow B hK hP hf (fun r h pc ls hd => by cases h; exact w_iretR B hr hlk rfl hd) hl
theorem cM_noRow (B : CallFix p m c cc nL s args lw_all RX4) (hK : KK X s) (hS : va_S (Az X) s.heap H locs) (hP : va_P X.2.2.1 vwCl (MP X a w ++ rest) H) {x1 : Int32} {r : Int32} (hf : fM_noRow w x1 = some r) (hR : 0 + 1 ≤ R.frames ∧ 21 ≤ R.locals) (hcs : cells ≤ R.cells ∧ slots ≤ R.slots) (hl : ls.size = nL) (hcat : (st.map fun v => v.category).sum ≤ 8) (hdg : decode cc pc = .ok (.invokevirtual 94, 3)) (kk : W p l e R s m args below meth c H locs cells slots Q (F0 m (pc + 3) ls (.int r :: st))) : W p l e R s m args below meth c H locs cells slots Q (F0 m pc ls (.int x1 :: .ref (a 0) :: st)) :=
  w_afterR (w_rV_RO (As := [.int x1]) B hK hS hP (tM_noRow l X a rest w x1 r hf) (lw_V q1497 q1499 qs37 q91 q1500) 0 rfl rfl (n := 1) (by decide +kernel) hR hcs rfl hl rfl hcat hdg) kk
end S_noRow

section S_set
variable {p : Program} {l : Launch} {e : Env} {R : Room} {s : State} {m : MethodId} {args : Array Value} {below : List Frame} {meth : Method} {c : Code} {H : Heap} {locs : List Loc} {cells slots : Nat} {Q : State → Prop} {cc : ByteArray} {nL pc : Nat} {ls : Array Slot} {st : List Value} {X : CX} {a : Nat → Nat} {w : MW} {rest : va_W}
noncomputable def fM_set (w : MW) (x1 : Int32) (x2 : Int32) (x3 : Int64) : Option (Int32 × MW) :=
  (fM_isShelf x1).bind fun r_1 =>
  if r_1 = 0 then
    b2 (fM_no w (-2)) fun r_26 w_27 =>
    some (r_26, w_27)
  else
    (fM_isRow w x1).bind fun r_4 =>
    if r_4 = 0 then
      (fM_noRow w x1).bind fun r_21 =>
      b2 (fM_no w r_21) fun r_23 w_24 =>
      some (r_23, w_24)
    else
      (rd (w.2.1 18) 8 x1).bind fun v_7 =>
      (fM_within x2 0 (v_7 - 1)).bind fun r_9 =>
      if r_9 = 0 then
        b2 (fM_no w (-2)) fun r_18 w_19 =>
        some (r_18, w_19)
      else
        (rd (w.2.1 17) 8 x1).bind fun v_12 =>
        (fM_kept v_12 x3).bind fun r_14 =>
        (mstL w 320 ((40 * x1) + x2) r_14).bind fun w_16 =>
        some (1, w_16)

set_option maxHeartbeats 4000000 in
theorem wM_set (B : CallFix p m c cX4_set 5 s args lw_all RX4) (hK : KK X s) {w : MW} {x1 : Int32} {x2 : Int32} {x3 : Int64} {res : Int32 × MW} (hf : fM_set w x1 x2 x3 = some res) (kr : ∀ (r : Int32) (w1 : MW), res = (r, w1) → ∀ (H : Heap) (locs : List Loc), GG X (MP X a w1 ++ rest) s.heap H locs → ∀ (pc : Nat) (ls : Array Slot), decode cX4_set pc = .ok (.ireturn, 1) → W p l e (RMw 2 0 0 43) s m args below meth c H locs 0 0 Q (F0 m pc ls [.int r])) {H : Heap} {locs : List Loc} (hG : GG X (MP X a w ++ rest) s.heap H locs) {ls : Array Slot} (hl : lv_has ls 5 [(0, .ref (a 0)), (1, .int x1), (2, .int x2), (3, .long x3)]) : W p l e (RMw 2 0 0 43) s m args below meth c H locs 0 0 Q (F0 m 0 ls []) := by
  have hx := B.1
  have hb := B.2.1
  unfold fM_set at hf
  refine lv_iload_n hx hb dX4_set_0 rfl (lv_at hl 1 rfl) ?_
  obtain ⟨r_1, e_2, hf⟩ := bo hf
  refine cM_isShelf B e_2 ⟨Nat.le_of_ble_eq_true rfl, Nat.le_of_ble_eq_true rfl⟩ ⟨Nat.zero_le _, Nat.zero_le _⟩ hl.1 (Nat.le_of_ble_eq_true rfl) dX4_set_1 ?_
  refine lv_if_ne (tgt := 14) hx hb dX4_set_4 (by decide) (fun c_3 => ?_) (fun c_3 => ?_)
  · have hf := ifn c_3 hf
    refine lv_aload_n hx hb dX4_set_14 rfl (lv_at hl 0 rfl) ?_
    refine lv_iload_n hx hb dX4_set_15 rfl (lv_at hl 1 rfl) ?_
    obtain ⟨r_4, e_5, hf⟩ := bo hf
    refine cM_isRow B hK hG.2.2 hG.1 e_5 ⟨Nat.le_of_ble_eq_true rfl, Nat.le_of_ble_eq_true rfl⟩ ⟨Nat.zero_le _, Nat.zero_le _⟩ hl.1 (Nat.le_of_ble_eq_true rfl) dX4_set_16 ?_
    refine lv_if_ne (tgt := 32) hx hb dX4_set_19 (by decide) (fun c_6 => ?_) (fun c_6 => ?_)
    · have hf := ifn c_6 hf
      refine lv_iload_n hx hb dX4_set_32 rfl (lv_at hl 2 rfl) ?_
      refine lv_iconst (v := 0) hx hb dX4_set_33 (by decide) ?_
      refine lv_aload_n hx hb dX4_set_34 rfl (lv_at hl 0 rfl) ?_
      refine mo_g18 B hK hG.1 dX4_set_35 ?_
      refine lv_iload_n hx hb dX4_set_38 rfl (lv_at hl 1 rfl) ?_
      obtain ⟨v_7, e_8, hf⟩ := bo hf
      refine mo_ld18 B hK hG.1 e_8 dX4_set_39 ?_
      refine lv_iconst (v := 1) hx hb dX4_set_40 (by decide) ?_
      refine lv_isub hx hb dX4_set_41 ?_
      obtain ⟨r_9, e_10, hf⟩ := bo hf
      refine cM_within B e_10 ⟨Nat.le_of_ble_eq_true rfl, Nat.le_of_ble_eq_true rfl⟩ ⟨Nat.zero_le _, Nat.zero_le _⟩ hl.1 (Nat.le_of_ble_eq_true rfl) dX4_set_42 ?_
      refine lv_if_ne (tgt := 55) hx hb dX4_set_45 (by decide) (fun c_11 => ?_) (fun c_11 => ?_)
      · have hf := ifn c_11 hf
        refine lv_aload_n hx hb dX4_set_55 rfl (lv_at hl 0 rfl) ?_
        refine mo_g19 B hK hG.1 dX4_set_56 ?_
        refine lv_bipush (v := 40) hx hb dX4_set_59 (by decide) ?_
        refine lv_iload_n hx hb dX4_set_61 rfl (lv_at hl 1 rfl) ?_
        refine lv_imul hx hb dX4_set_62 ?_
        refine lv_iload_n hx hb dX4_set_63 rfl (lv_at hl 2 rfl) ?_
        refine lv_iadd hx hb dX4_set_64 ?_
        refine lv_aload_n hx hb dX4_set_65 rfl (lv_at hl 0 rfl) ?_
        refine mo_g17 B hK hG.1 dX4_set_66 ?_
        refine lv_iload_n hx hb dX4_set_69 rfl (lv_at hl 1 rfl) ?_
        obtain ⟨v_12, e_13, hf⟩ := bo hf
        refine mo_ld17 B hK hG.1 e_13 dX4_set_70 ?_
        refine lv_lload_n hx hb dX4_set_71 rfl (lv_at hl 3 rfl) ?_
        obtain ⟨r_14, e_15, hf⟩ := bo hf
        refine cM_kept B e_15 ⟨Nat.le_of_ble_eq_true rfl, Nat.le_of_ble_eq_true rfl⟩ ⟨Nat.zero_le _, Nat.zero_le _⟩ hl.1 (Nat.le_of_ble_eq_true rfl) dX4_set_72 ?_
        obtain ⟨w_16, e_17, hf⟩ := bo hf
        refine mo_st19 B hK hG e_17 dX4_set_75 (fun H locs hG => ?_)
        refine lv_iconst (v := 1) hx hb dX4_set_76 (by decide) ?_
        exact kr _ _ (Option.some.inj hf).symm _ _ hG _ _ dX4_set_77
      · have hf := ifp c_11 hf
        refine lv_aload_n hx hb dX4_set_48 rfl (lv_at hl 0 rfl) ?_
        refine lv_bipush (v := (-2)) hx hb dX4_set_49 (by decide) ?_
        obtain ⟨r_18, w_19, e_20, hf⟩ := b2s hf
        refine cM_no B hK hG e_20 ⟨Nat.le_of_ble_eq_true rfl, Nat.le_of_ble_eq_true rfl⟩ ⟨Nat.zero_le _, Nat.zero_le _⟩ hl.1 (Nat.le_of_ble_eq_true rfl) dX4_set_51 (fun H locs hG => ?_)
        exact kr _ _ (Option.some.inj hf).symm _ _ hG _ _ dX4_set_54
    · have hf := ifp c_6 hf
      refine lv_aload_n hx hb dX4_set_22 rfl (lv_at hl 0 rfl) ?_
      refine lv_aload_n hx hb dX4_set_23 rfl (lv_at hl 0 rfl) ?_
      refine lv_iload_n hx hb dX4_set_24 rfl (lv_at hl 1 rfl) ?_
      obtain ⟨r_21, e_22, hf⟩ := bo hf
      refine cM_noRow B hK hG.2.2 hG.1 e_22 ⟨Nat.le_of_ble_eq_true rfl, Nat.le_of_ble_eq_true rfl⟩ ⟨Nat.zero_le _, Nat.zero_le _⟩ hl.1 (Nat.le_of_ble_eq_true rfl) dX4_set_25 ?_
      obtain ⟨r_23, w_24, e_25, hf⟩ := b2s hf
      refine cM_no B hK hG e_25 ⟨Nat.le_of_ble_eq_true rfl, Nat.le_of_ble_eq_true rfl⟩ ⟨Nat.zero_le _, Nat.zero_le _⟩ hl.1 (Nat.le_of_ble_eq_true rfl) dX4_set_28 (fun H locs hG => ?_)
      exact kr _ _ (Option.some.inj hf).symm _ _ hG _ _ dX4_set_31
  · have hf := ifp c_3 hf
    refine lv_aload_n hx hb dX4_set_7 rfl (lv_at hl 0 rfl) ?_
    refine lv_bipush (v := (-2)) hx hb dX4_set_8 (by decide) ?_
    obtain ⟨r_26, w_27, e_28, hf⟩ := b2s hf
    refine cM_no B hK hG e_28 ⟨Nat.le_of_ble_eq_true rfl, Nat.le_of_ble_eq_true rfl⟩ ⟨Nat.zero_le _, Nat.zero_le _⟩ hl.1 (Nat.le_of_ble_eq_true rfl) dX4_set_10 (fun H locs hG => ?_)
    exact kr _ _ (Option.some.inj hf).symm _ _ hG _ _ dX4_set_13

theorem tM_set (l : Launch) (X : CX) (a : Nat → Nat) (rest : va_W) (w w' : MW) (x1 : Int32) (x2 : Int32) (x3 : Int64) (r : Int32) (hf : fM_set w x1 x2 x3 = some (r, w')) : RW l yX4_set cX4_set 5 (some .int) 2 0 0 43 [.ref (a 0), .int x1, .int x2, .long x3] X (MP X a w ++ rest) (MP X a w' ++ rest) (some (.int r)) := by
  refine RW.mk (by decide) (Nat.le_of_ble_eq_true rfl) ?_
  intro p e s m below meth c B hr hlk hK hG ls hl
  exact wM_set B hK hf (fun r w h H locs hG pc ls hd => by cases h; exact w_iretW B hr hlk hG hd) hG hl
end S_set

section S_copy
variable {p : Program} {l : Launch} {e : Env} {R : Room} {s : State} {m : MethodId} {args : Array Value} {below : List Frame} {meth : Method} {c : Code} {H : Heap} {locs : List Loc} {cells slots : Nat} {Q : State → Prop} {cc : ByteArray} {nL pc : Nat} {ls : Array Slot} {st : List Value} {X : CX} {a : Nat → Nat} {w : MW} {rest : va_W}
noncomputable def fM_copy_J14 (w : MW)  : Option (Int32 × MW) :=
  b2 (fM_no w (-2)) fun r_1 w_2 =>
  some (r_1, w_2)

set_option maxHeartbeats 4000000 in
theorem wM_copy_J14 (B : CallFix p m c cX4_copy 7 s args lw_all RX4) (hK : KK X s) {w : MW}  {res : Int32 × MW} (hf : fM_copy_J14 w  = some res) (kr : ∀ (r : Int32) (w1 : MW), res = (r, w1) → ∀ (H : Heap) (locs : List Loc), GG X (MP X a w1 ++ rest) s.heap H locs → ∀ (pc : Nat) (ls : Array Slot), decode cX4_copy pc = .ok (.ireturn, 1) → W p l e (RMw 2 0 0 43) s m args below meth c H locs 0 0 Q (F0 m pc ls [.int r])) {H : Heap} {locs : List Loc} (hG : GG X (MP X a w ++ rest) s.heap H locs) {ls : Array Slot} (hl : lv_has ls 7 [(0, .ref (a 0))]) : W p l e (RMw 2 0 0 43) s m args below meth c H locs 0 0 Q (F0 m 14 ls []) := by
  have hx := B.1
  have hb := B.2.1
  unfold fM_copy_J14 at hf
  refine lv_aload_n hx hb dX4_copy_14 rfl (lv_at hl 0 rfl) ?_
  refine lv_bipush (v := (-2)) hx hb dX4_copy_15 (by decide) ?_
  obtain ⟨r_1, w_2, e_3, hf⟩ := b2s hf
  refine cM_no B hK hG e_3 ⟨Nat.le_of_ble_eq_true rfl, Nat.le_of_ble_eq_true rfl⟩ ⟨Nat.zero_le _, Nat.zero_le _⟩ hl.1 (Nat.le_of_ble_eq_true rfl) dX4_copy_17 (fun H locs hG => ?_)
  exact kr _ _ (Option.some.inj hf).symm _ _ hG _ _ dX4_copy_20

noncomputable def fM_copy_J74 (w : MW)  : Option (Int32 × MW) :=
  b2 (fM_no w (-3)) fun r_1 w_2 =>
  some (r_1, w_2)

set_option maxHeartbeats 4000000 in
theorem wM_copy_J74 (B : CallFix p m c cX4_copy 7 s args lw_all RX4) (hK : KK X s) {w : MW}  {res : Int32 × MW} (hf : fM_copy_J74 w  = some res) (kr : ∀ (r : Int32) (w1 : MW), res = (r, w1) → ∀ (H : Heap) (locs : List Loc), GG X (MP X a w1 ++ rest) s.heap H locs → ∀ (pc : Nat) (ls : Array Slot), decode cX4_copy pc = .ok (.ireturn, 1) → W p l e (RMw 2 0 0 43) s m args below meth c H locs 0 0 Q (F0 m pc ls [.int r])) {H : Heap} {locs : List Loc} (hG : GG X (MP X a w ++ rest) s.heap H locs) {ls : Array Slot} (hl : lv_has ls 7 [(0, .ref (a 0))]) : W p l e (RMw 2 0 0 43) s m args below meth c H locs 0 0 Q (F0 m 74 ls []) := by
  have hx := B.1
  have hb := B.2.1
  unfold fM_copy_J74 at hf
  refine lv_aload_n hx hb dX4_copy_74 rfl (lv_at hl 0 rfl) ?_
  refine lv_bipush (v := (-3)) hx hb dX4_copy_75 (by decide) ?_
  obtain ⟨r_1, w_2, e_3, hf⟩ := b2s hf
  refine cM_no B hK hG e_3 ⟨Nat.le_of_ble_eq_true rfl, Nat.le_of_ble_eq_true rfl⟩ ⟨Nat.zero_le _, Nat.zero_le _⟩ hl.1 (Nat.le_of_ble_eq_true rfl) dX4_copy_77 (fun H locs hG => ?_)
  exact kr _ _ (Option.some.inj hf).symm _ _ hG _ _ dX4_copy_80

noncomputable def fM_copy_J99 (w : MW)  : Option (Int32 × MW) :=
  b2 (fM_no w (-4)) fun r_1 w_2 =>
  some (r_1, w_2)

set_option maxHeartbeats 4000000 in
theorem wM_copy_J99 (B : CallFix p m c cX4_copy 7 s args lw_all RX4) (hK : KK X s) {w : MW}  {res : Int32 × MW} (hf : fM_copy_J99 w  = some res) (kr : ∀ (r : Int32) (w1 : MW), res = (r, w1) → ∀ (H : Heap) (locs : List Loc), GG X (MP X a w1 ++ rest) s.heap H locs → ∀ (pc : Nat) (ls : Array Slot), decode cX4_copy pc = .ok (.ireturn, 1) → W p l e (RMw 2 0 0 43) s m args below meth c H locs 0 0 Q (F0 m pc ls [.int r])) {H : Heap} {locs : List Loc} (hG : GG X (MP X a w ++ rest) s.heap H locs) {ls : Array Slot} (hl : lv_has ls 7 [(0, .ref (a 0))]) : W p l e (RMw 2 0 0 43) s m args below meth c H locs 0 0 Q (F0 m 99 ls []) := by
  have hx := B.1
  have hb := B.2.1
  unfold fM_copy_J99 at hf
  refine lv_aload_n hx hb dX4_copy_99 rfl (lv_at hl 0 rfl) ?_
  refine lv_bipush (v := (-4)) hx hb dX4_copy_100 (by decide) ?_
  obtain ⟨r_1, w_2, e_3, hf⟩ := b2s hf
  refine cM_no B hK hG e_3 ⟨Nat.le_of_ble_eq_true rfl, Nat.le_of_ble_eq_true rfl⟩ ⟨Nat.zero_le _, Nat.zero_le _⟩ hl.1 (Nat.le_of_ble_eq_true rfl) dX4_copy_102 (fun H locs hG => ?_)
  exact kr _ _ (Option.some.inj hf).symm _ _ hG _ _ dX4_copy_105

noncomputable def fM_copy_J155 (w : MW)  : Option (Int32 × MW) :=
  b2 (fM_no w (-2)) fun r_1 w_2 =>
  some (r_1, w_2)

set_option maxHeartbeats 4000000 in
theorem wM_copy_J155 (B : CallFix p m c cX4_copy 7 s args lw_all RX4) (hK : KK X s) {w : MW}  {res : Int32 × MW} (hf : fM_copy_J155 w  = some res) (kr : ∀ (r : Int32) (w1 : MW), res = (r, w1) → ∀ (H : Heap) (locs : List Loc), GG X (MP X a w1 ++ rest) s.heap H locs → ∀ (pc : Nat) (ls : Array Slot), decode cX4_copy pc = .ok (.ireturn, 1) → W p l e (RMw 2 0 0 43) s m args below meth c H locs 0 0 Q (F0 m pc ls [.int r])) {H : Heap} {locs : List Loc} (hG : GG X (MP X a w ++ rest) s.heap H locs) {ls : Array Slot} (hl : lv_has ls 7 [(0, .ref (a 0))]) : W p l e (RMw 2 0 0 43) s m args below meth c H locs 0 0 Q (F0 m 155 ls []) := by
  have hx := B.1
  have hb := B.2.1
  unfold fM_copy_J155 at hf
  refine lv_aload_n hx hb dX4_copy_155 rfl (lv_at hl 0 rfl) ?_
  refine lv_bipush (v := (-2)) hx hb dX4_copy_156 (by decide) ?_
  obtain ⟨r_1, w_2, e_3, hf⟩ := b2s hf
  refine cM_no B hK hG e_3 ⟨Nat.le_of_ble_eq_true rfl, Nat.le_of_ble_eq_true rfl⟩ ⟨Nat.zero_le _, Nat.zero_le _⟩ hl.1 (Nat.le_of_ble_eq_true rfl) dX4_copy_158 (fun H locs hG => ?_)
  exact kr _ _ (Option.some.inj hf).symm _ _ hG _ _ dX4_copy_161

noncomputable def fM_copy_L225 (w : MW) (x1 : Int32) (x2 : Int32) (x3 : Int32) (x4 : Int32) (x5 : Int32) (x6 : Int32) : Option ((Int32 × MW) ⊕ (MW)) :=
  if x5 ≤ x6 then
    some (.inr w)
  else
    (rd w.2.2 320 (((40 * x1) + x3) + x6)).bind fun v_2 =>
    (mstL w 320 (((40 * x2) + x4) + x6) v_2).bind fun w_4 =>
    (some (x6 + 1)).bind fun x_6 =>
    some (.inl (x_6, w_4))

set_option maxHeartbeats 4000000 in
theorem wM_copy_L225 (B : CallFix p m c cX4_copy 7 s args lw_all RX4) (hK : KK X s) {w : MW} {x1 : Int32} {x2 : Int32} {x3 : Int32} {x4 : Int32} {x5 : Int32} {x6 : Int32} {res : (Int32 × MW) ⊕ (MW)} (hf : fM_copy_L225 w x1 x2 x3 x4 x5 x6 = some res) (kc : ∀ (y6 : Int32) (w1 : MW), res = .inl (y6, w1) → ∀ (H : Heap) (locs : List Loc), GG X (MP X a w1 ++ rest) s.heap H locs → ∀ (ls : Array Slot), lv_has ls 7 [(0, .ref (a 0)), (1, .int x1), (2, .int x2), (3, .int x3), (4, .int x4), (5, .int x5), (6, .int y6)] → W p l e (RMw 2 0 0 43) s m args below meth c H locs 0 0 Q (F0 m 225 ls [])) (ke267 : ∀ (w1 : MW), res = .inr w1 → ∀ (H : Heap) (locs : List Loc), GG X (MP X a w1 ++ rest) s.heap H locs → ∀ (ls : Array Slot), lv_has ls 7 [(5, .int x5)] → W p l e (RMw 2 0 0 43) s m args below meth c H locs 0 0 Q (F0 m 267 ls [])) {H : Heap} {locs : List Loc} (hG : GG X (MP X a w ++ rest) s.heap H locs) {ls : Array Slot} (hl : lv_has ls 7 [(0, .ref (a 0)), (1, .int x1), (2, .int x2), (3, .int x3), (4, .int x4), (5, .int x5), (6, .int x6)]) : W p l e (RMw 2 0 0 43) s m args below meth c H locs 0 0 Q (F0 m 225 ls []) := by
  have hx := B.1
  have hb := B.2.1
  unfold fM_copy_L225 at hf
  refine lv_iload hx hb dX4_copy_225 (lv_at hl 6 rfl) ?_
  refine lv_iload hx hb dX4_copy_227 (lv_at hl 5 rfl) ?_
  refine lv_icmp_ge (tgt := 267) hx hb dX4_copy_229 (by decide) (fun c_1 => ?_) (fun c_1 => ?_)
  · have hf := ifp c_1 hf
    exact ke267 _ (Option.some.inj hf).symm _ _ hG _ (lv_sub hl [5] rfl)
  · have hf := ifn c_1 hf
    refine lv_aload_n hx hb dX4_copy_232 rfl (lv_at hl 0 rfl) ?_
    refine mo_g19 B hK hG.1 dX4_copy_233 ?_
    refine lv_bipush (v := 40) hx hb dX4_copy_236 (by decide) ?_
    refine lv_iload_n hx hb dX4_copy_238 rfl (lv_at hl 2 rfl) ?_
    refine lv_imul hx hb dX4_copy_239 ?_
    refine lv_iload hx hb dX4_copy_240 (lv_at hl 4 rfl) ?_
    refine lv_iadd hx hb dX4_copy_242 ?_
    refine lv_iload hx hb dX4_copy_243 (lv_at hl 6 rfl) ?_
    refine lv_iadd hx hb dX4_copy_245 ?_
    refine lv_aload_n hx hb dX4_copy_246 rfl (lv_at hl 0 rfl) ?_
    refine mo_g19 B hK hG.1 dX4_copy_247 ?_
    refine lv_bipush (v := 40) hx hb dX4_copy_250 (by decide) ?_
    refine lv_iload_n hx hb dX4_copy_252 rfl (lv_at hl 1 rfl) ?_
    refine lv_imul hx hb dX4_copy_253 ?_
    refine lv_iload_n hx hb dX4_copy_254 rfl (lv_at hl 3 rfl) ?_
    refine lv_iadd hx hb dX4_copy_255 ?_
    refine lv_iload hx hb dX4_copy_256 (lv_at hl 6 rfl) ?_
    refine lv_iadd hx hb dX4_copy_258 ?_
    obtain ⟨v_2, e_3, hf⟩ := bo hf
    refine mo_ld19 B hK hG.1 e_3 dX4_copy_259 ?_
    obtain ⟨w_4, e_5, hf⟩ := bo hf
    refine mo_st19 B hK hG e_5 dX4_copy_260 (fun H locs hG => ?_)
    obtain ⟨x_6, e_7, hf⟩ := bo hf
    refine w_iinc (k := 6) (lv' := [(6, .int x_6), (0, .ref (a 0)), (1, .int x1), (2, .int x2), (3, .int x3), (4, .int x4), (5, .int x5)]) e_7 hx hb dX4_copy_261 hl rfl (by decide) rfl (fun ls hl => ?_)
    refine lv_goto (tgt := 225) hx hb dX4_copy_264 (by decide) ?_
    exact kc _ _ (Option.some.inj hf).symm _ _ hG _ (lv_sub hl [1, 2, 3, 4, 5, 6, 0] rfl)

set_option maxHeartbeats 4000000 in
theorem vM_copy_L225 (B : CallFix p m c cX4_copy 7 s args lw_all RX4) (hK : KK X s) {w : MW} {x1 : Int32} {x2 : Int32} {x3 : Int32} {x4 : Int32} {x5 : Int32} {x6 : Int32} {res : MW} (hf : lp (fun q : Int32 × MW => fM_copy_L225 q.2 x1 x2 x3 x4 x5 q.1) (x6, w) = some res) (ke267 : ∀ (w1 : MW), res = w1 → ∀ (H : Heap) (locs : List Loc), GG X (MP X a w1 ++ rest) s.heap H locs → ∀ (ls : Array Slot), lv_has ls 7 [(5, .int x5)] → W p l e (RMw 2 0 0 43) s m args below meth c H locs 0 0 Q (F0 m 267 ls [])) {H : Heap} {locs : List Loc} (hG : GG X (MP X a w ++ rest) s.heap H locs) {ls : Array Slot} (hl : lv_has ls 7 [(0, .ref (a 0)), (1, .int x1), (2, .int x2), (3, .int x3), (4, .int x4), (5, .int x5), (6, .int x6)]) : W p l e (RMw 2 0 0 43) s m args below meth c H locs 0 0 Q (F0 m 225 ls []) := by
  refine lp_ind (r := res) (P := fun q : Int32 × MW => ∀ (H : Heap) (locs : List Loc) (ls : Array Slot), GG X (MP X a q.2 ++ rest) s.heap H locs → lv_has ls 7 [(0, .ref (a 0)), (1, .int x1), (2, .int x2), (3, .int x3), (4, .int x4), (5, .int x5), (6, .int q.1)] → W p l e (RMw 2 0 0 43) s m args below meth c H locs 0 0 Q (F0 m 225 ls [])) ?_ ?_ _ hf _ _ _ hG hl
  · intro q hb H locs ls hG hl
    exact wM_copy_L225 B hK hb (fun _ _ h => by cases h) (fun z0 h => ke267 z0 (Sum.inr.inj h)) hG hl
  · intro q q2 hb ih H locs ls hG hl
    exact wM_copy_L225 B hK hb (fun z0 z1 h => by cases h; exact fun H locs hG ls hl => ih H locs ls hG hl) (fun _ h => by cases h) hG hl

noncomputable def fM_copy_L179 (w : MW) (x1 : Int32) (x2 : Int32) (x3 : Int32) (x4 : Int32) (x5 : Int32) (x6 : Int32) : Option ((Int32 × MW) ⊕ (MW)) :=
  if x6 < 0 then
    some (.inr w)
  else
    (rd w.2.2 320 (((40 * x1) + x3) + x6)).bind fun v_2 =>
    (mstL w 320 (((40 * x2) + x4) + x6) v_2).bind fun w_4 =>
    (some (x6 + (Int32.ofInt (-1)))).bind fun x_6 =>
    some (.inl (x_6, w_4))

set_option maxHeartbeats 4000000 in
theorem wM_copy_L179 (B : CallFix p m c cX4_copy 7 s args lw_all RX4) (hK : KK X s) {w : MW} {x1 : Int32} {x2 : Int32} {x3 : Int32} {x4 : Int32} {x5 : Int32} {x6 : Int32} {res : (Int32 × MW) ⊕ (MW)} (hf : fM_copy_L179 w x1 x2 x3 x4 x5 x6 = some res) (kc : ∀ (y6 : Int32) (w1 : MW), res = .inl (y6, w1) → ∀ (H : Heap) (locs : List Loc), GG X (MP X a w1 ++ rest) s.heap H locs → ∀ (ls : Array Slot), lv_has ls 7 [(0, .ref (a 0)), (1, .int x1), (2, .int x2), (3, .int x3), (4, .int x4), (5, .int x5), (6, .int y6)] → W p l e (RMw 2 0 0 43) s m args below meth c H locs 0 0 Q (F0 m 179 ls [])) (ke219 : ∀ (w1 : MW), res = .inr w1 → ∀ (H : Heap) (locs : List Loc), GG X (MP X a w1 ++ rest) s.heap H locs → ∀ (ls : Array Slot), lv_has ls 7 [(5, .int x5)] → W p l e (RMw 2 0 0 43) s m args below meth c H locs 0 0 Q (F0 m 219 ls [])) {H : Heap} {locs : List Loc} (hG : GG X (MP X a w ++ rest) s.heap H locs) {ls : Array Slot} (hl : lv_has ls 7 [(0, .ref (a 0)), (1, .int x1), (2, .int x2), (3, .int x3), (4, .int x4), (5, .int x5), (6, .int x6)]) : W p l e (RMw 2 0 0 43) s m args below meth c H locs 0 0 Q (F0 m 179 ls []) := by
  have hx := B.1
  have hb := B.2.1
  unfold fM_copy_L179 at hf
  refine lv_iload hx hb dX4_copy_179 (lv_at hl 6 rfl) ?_
  refine lv_if_lt (tgt := 219) hx hb dX4_copy_181 (by decide) (fun c_1 => ?_) (fun c_1 => ?_)
  · have hf := ifp c_1 hf
    exact ke219 _ (Option.some.inj hf).symm _ _ hG _ (lv_sub hl [5] rfl)
  · have hf := ifn c_1 hf
    refine lv_aload_n hx hb dX4_copy_184 rfl (lv_at hl 0 rfl) ?_
    refine mo_g19 B hK hG.1 dX4_copy_185 ?_
    refine lv_bipush (v := 40) hx hb dX4_copy_188 (by decide) ?_
    refine lv_iload_n hx hb dX4_copy_190 rfl (lv_at hl 2 rfl) ?_
    refine lv_imul hx hb dX4_copy_191 ?_
    refine lv_iload hx hb dX4_copy_192 (lv_at hl 4 rfl) ?_
    refine lv_iadd hx hb dX4_copy_194 ?_
    refine lv_iload hx hb dX4_copy_195 (lv_at hl 6 rfl) ?_
    refine lv_iadd hx hb dX4_copy_197 ?_
    refine lv_aload_n hx hb dX4_copy_198 rfl (lv_at hl 0 rfl) ?_
    refine mo_g19 B hK hG.1 dX4_copy_199 ?_
    refine lv_bipush (v := 40) hx hb dX4_copy_202 (by decide) ?_
    refine lv_iload_n hx hb dX4_copy_204 rfl (lv_at hl 1 rfl) ?_
    refine lv_imul hx hb dX4_copy_205 ?_
    refine lv_iload_n hx hb dX4_copy_206 rfl (lv_at hl 3 rfl) ?_
    refine lv_iadd hx hb dX4_copy_207 ?_
    refine lv_iload hx hb dX4_copy_208 (lv_at hl 6 rfl) ?_
    refine lv_iadd hx hb dX4_copy_210 ?_
    obtain ⟨v_2, e_3, hf⟩ := bo hf
    refine mo_ld19 B hK hG.1 e_3 dX4_copy_211 ?_
    obtain ⟨w_4, e_5, hf⟩ := bo hf
    refine mo_st19 B hK hG e_5 dX4_copy_212 (fun H locs hG => ?_)
    obtain ⟨x_6, e_7, hf⟩ := bo hf
    refine w_iinc (k := 6) (lv' := [(6, .int x_6), (0, .ref (a 0)), (1, .int x1), (2, .int x2), (3, .int x3), (4, .int x4), (5, .int x5)]) e_7 hx hb dX4_copy_213 hl rfl (by decide) rfl (fun ls hl => ?_)
    refine lv_goto (tgt := 179) hx hb dX4_copy_216 (by decide) ?_
    exact kc _ _ (Option.some.inj hf).symm _ _ hG _ (lv_sub hl [1, 2, 3, 4, 5, 6, 0] rfl)

set_option maxHeartbeats 4000000 in
theorem vM_copy_L179 (B : CallFix p m c cX4_copy 7 s args lw_all RX4) (hK : KK X s) {w : MW} {x1 : Int32} {x2 : Int32} {x3 : Int32} {x4 : Int32} {x5 : Int32} {x6 : Int32} {res : MW} (hf : lp (fun q : Int32 × MW => fM_copy_L179 q.2 x1 x2 x3 x4 x5 q.1) (x6, w) = some res) (ke219 : ∀ (w1 : MW), res = w1 → ∀ (H : Heap) (locs : List Loc), GG X (MP X a w1 ++ rest) s.heap H locs → ∀ (ls : Array Slot), lv_has ls 7 [(5, .int x5)] → W p l e (RMw 2 0 0 43) s m args below meth c H locs 0 0 Q (F0 m 219 ls [])) {H : Heap} {locs : List Loc} (hG : GG X (MP X a w ++ rest) s.heap H locs) {ls : Array Slot} (hl : lv_has ls 7 [(0, .ref (a 0)), (1, .int x1), (2, .int x2), (3, .int x3), (4, .int x4), (5, .int x5), (6, .int x6)]) : W p l e (RMw 2 0 0 43) s m args below meth c H locs 0 0 Q (F0 m 179 ls []) := by
  refine lp_ind (r := res) (P := fun q : Int32 × MW => ∀ (H : Heap) (locs : List Loc) (ls : Array Slot), GG X (MP X a q.2 ++ rest) s.heap H locs → lv_has ls 7 [(0, .ref (a 0)), (1, .int x1), (2, .int x2), (3, .int x3), (4, .int x4), (5, .int x5), (6, .int q.1)] → W p l e (RMw 2 0 0 43) s m args below meth c H locs 0 0 Q (F0 m 179 ls [])) ?_ ?_ _ hf _ _ _ hG hl
  · intro q hb H locs ls hG hl
    exact wM_copy_L179 B hK hb (fun _ _ h => by cases h) (fun z0 h => ke219 z0 (Sum.inr.inj h)) hG hl
  · intro q q2 hb ih H locs ls hG hl
    exact wM_copy_L179 B hK hb (fun z0 z1 h => by cases h; exact fun H locs hG ls hl => ih H locs ls hG hl) (fun _ h => by cases h) hG hl

noncomputable def fM_copy_J81 (w : MW) (x1 : Int32) (x2 : Int32) (x3 : Int32) (x4 : Int32) (x5 : Int32) : Option (Int32 × MW) :=
  (rd (w.2.1 17) 8 x1).bind fun v_1 =>
  if v_1 < 0 then
    fM_copy_J99 w 
  else
    (rd (w.2.1 17) 8 x2).bind fun v_4 =>
    if 0 ≤ v_4 then
      if x5 < 0 then
        fM_copy_J155 w 
      else
        if x3 < 0 then
          fM_copy_J155 w 
        else
          if x4 < 0 then
            fM_copy_J155 w 
          else
            (rd (w.2.1 18) 8 x1).bind fun v_10 =>
            if 0 < (lg_cmp ((x3.toInt64) + (x5.toInt64)) (v_10.toInt64)) then
              fM_copy_J155 w 
            else
              (rd (w.2.1 18) 8 x2).bind fun v_13 =>
              if (lg_cmp ((x4.toInt64) + (x5.toInt64)) (v_13.toInt64)) ≤ 0 then
                if x1 = x2 then
                  if x4 ≤ x3 then
                    (lp (fun q : Int32 × MW => fM_copy_L225 q.2 x1 x2 x3 x4 x5 q.1) (0, w)).bind (
                      fun q_22 => (fun (w_21 : MW) =>
                        some (x5, w_21)
                      ) q_22
                    )
                  else
                    (some (x5 - 1)).bind fun x_24 =>
                    (lp (fun q : Int32 × MW => fM_copy_L179 q.2 x1 x2 x3 x4 x5 q.1) (x_24, w)).bind (
                      fun q_27 => (fun (w_26 : MW) =>
                        some (x5, w_26)
                      ) q_27
                    )
                else
                  (lp (fun q : Int32 × MW => fM_copy_L225 q.2 x1 x2 x3 x4 x5 q.1) (0, w)).bind (
                    fun q_18 => (fun (w_17 : MW) =>
                      some (x5, w_17)
                    ) q_18
                  )
              else
                fM_copy_J155 w 
    else
      fM_copy_J99 w 

set_option maxHeartbeats 4000000 in
theorem wM_copy_J81 (B : CallFix p m c cX4_copy 7 s args lw_all RX4) (hK : KK X s) {w : MW} {x1 : Int32} {x2 : Int32} {x3 : Int32} {x4 : Int32} {x5 : Int32} {res : Int32 × MW} (hf : fM_copy_J81 w x1 x2 x3 x4 x5 = some res) (kr : ∀ (r : Int32) (w1 : MW), res = (r, w1) → ∀ (H : Heap) (locs : List Loc), GG X (MP X a w1 ++ rest) s.heap H locs → ∀ (pc : Nat) (ls : Array Slot), decode cX4_copy pc = .ok (.ireturn, 1) → W p l e (RMw 2 0 0 43) s m args below meth c H locs 0 0 Q (F0 m pc ls [.int r])) {H : Heap} {locs : List Loc} (hG : GG X (MP X a w ++ rest) s.heap H locs) {ls : Array Slot} (hl : lv_has ls 7 [(0, .ref (a 0)), (1, .int x1), (2, .int x2), (3, .int x3), (4, .int x4), (5, .int x5)]) : W p l e (RMw 2 0 0 43) s m args below meth c H locs 0 0 Q (F0 m 81 ls []) := by
  have hx := B.1
  have hb := B.2.1
  unfold fM_copy_J81 at hf
  refine lv_aload_n hx hb dX4_copy_81 rfl (lv_at hl 0 rfl) ?_
  refine mo_g17 B hK hG.1 dX4_copy_82 ?_
  refine lv_iload_n hx hb dX4_copy_85 rfl (lv_at hl 1 rfl) ?_
  obtain ⟨v_1, e_2, hf⟩ := bo hf
  refine mo_ld17 B hK hG.1 e_2 dX4_copy_86 ?_
  refine lv_if_lt (tgt := 99) hx hb dX4_copy_87 (by decide) (fun c_3 => ?_) (fun c_3 => ?_)
  · have hf := ifp c_3 hf
    exact wM_copy_J99 B hK hf kr hG (lv_sub hl [0] rfl)
  · have hf := ifn c_3 hf
    refine lv_aload_n hx hb dX4_copy_90 rfl (lv_at hl 0 rfl) ?_
    refine mo_g17 B hK hG.1 dX4_copy_91 ?_
    refine lv_iload_n hx hb dX4_copy_94 rfl (lv_at hl 2 rfl) ?_
    obtain ⟨v_4, e_5, hf⟩ := bo hf
    refine mo_ld17 B hK hG.1 e_5 dX4_copy_95 ?_
    refine lv_if_ge (tgt := 106) hx hb dX4_copy_96 (by decide) (fun c_6 => ?_) (fun c_6 => ?_)
    · have hf := ifp c_6 hf
      refine lv_iload hx hb dX4_copy_106 (lv_at hl 5 rfl) ?_
      refine lv_if_lt (tgt := 155) hx hb dX4_copy_108 (by decide) (fun c_7 => ?_) (fun c_7 => ?_)
      · have hf := ifp c_7 hf
        exact wM_copy_J155 B hK hf kr hG (lv_sub hl [0] rfl)
      · have hf := ifn c_7 hf
        refine lv_iload_n hx hb dX4_copy_111 rfl (lv_at hl 3 rfl) ?_
        refine lv_if_lt (tgt := 155) hx hb dX4_copy_112 (by decide) (fun c_8 => ?_) (fun c_8 => ?_)
        · have hf := ifp c_8 hf
          exact wM_copy_J155 B hK hf kr hG (lv_sub hl [0] rfl)
        · have hf := ifn c_8 hf
          refine lv_iload hx hb dX4_copy_115 (lv_at hl 4 rfl) ?_
          refine lv_if_lt (tgt := 155) hx hb dX4_copy_117 (by decide) (fun c_9 => ?_) (fun c_9 => ?_)
          · have hf := ifp c_9 hf
            exact wM_copy_J155 B hK hf kr hG (lv_sub hl [0] rfl)
          · have hf := ifn c_9 hf
            refine lv_iload_n hx hb dX4_copy_120 rfl (lv_at hl 3 rfl) ?_
            refine lv_i2l hx hb dX4_copy_121 rfl ?_
            refine lv_iload hx hb dX4_copy_122 (lv_at hl 5 rfl) ?_
            refine lv_i2l hx hb dX4_copy_124 rfl ?_
            refine lv_ladd hx hb dX4_copy_125 ?_
            refine lv_aload_n hx hb dX4_copy_126 rfl (lv_at hl 0 rfl) ?_
            refine mo_g18 B hK hG.1 dX4_copy_127 ?_
            refine lv_iload_n hx hb dX4_copy_130 rfl (lv_at hl 1 rfl) ?_
            obtain ⟨v_10, e_11, hf⟩ := bo hf
            refine mo_ld18 B hK hG.1 e_11 dX4_copy_131 ?_
            refine lv_i2l hx hb dX4_copy_132 rfl ?_
            refine W.lcmp hx hb dX4_copy_133 ?_
            refine lv_if_gt (tgt := 155) hx hb dX4_copy_134 (by decide) (fun c_12 => ?_) (fun c_12 => ?_)
            · have hf := ifp c_12 hf
              exact wM_copy_J155 B hK hf kr hG (lv_sub hl [0] rfl)
            · have hf := ifn c_12 hf
              refine lv_iload hx hb dX4_copy_137 (lv_at hl 4 rfl) ?_
              refine lv_i2l hx hb dX4_copy_139 rfl ?_
              refine lv_iload hx hb dX4_copy_140 (lv_at hl 5 rfl) ?_
              refine lv_i2l hx hb dX4_copy_142 rfl ?_
              refine lv_ladd hx hb dX4_copy_143 ?_
              refine lv_aload_n hx hb dX4_copy_144 rfl (lv_at hl 0 rfl) ?_
              refine mo_g18 B hK hG.1 dX4_copy_145 ?_
              refine lv_iload_n hx hb dX4_copy_148 rfl (lv_at hl 2 rfl) ?_
              obtain ⟨v_13, e_14, hf⟩ := bo hf
              refine mo_ld18 B hK hG.1 e_14 dX4_copy_149 ?_
              refine lv_i2l hx hb dX4_copy_150 rfl ?_
              refine W.lcmp hx hb dX4_copy_151 ?_
              refine lv_if_le (tgt := 162) hx hb dX4_copy_152 (by decide) (fun c_15 => ?_) (fun c_15 => ?_)
              · have hf := ifp c_15 hf
                refine lv_iload_n hx hb dX4_copy_162 rfl (lv_at hl 1 rfl) ?_
                refine lv_iload_n hx hb dX4_copy_163 rfl (lv_at hl 2 rfl) ?_
                refine lv_icmp_ne (tgt := 222) hx hb dX4_copy_164 (by decide) (fun c_16 => ?_) (fun c_16 => ?_)
                · have hf := ifn c_16 hf
                  refine lv_iconst (v := 0) hx hb dX4_copy_222 (by decide) ?_
                  refine lv_istore (lv' := [(6, .int 0), (0, .ref (a 0)), (1, .int x1), (2, .int x2), (3, .int x3), (4, .int x4), (5, .int x5)]) hx hb dX4_copy_223 hl (by decide) rfl (fun ls hl => ?_)
                  obtain ⟨w_17, e_19, hf⟩ := bo hf
                  try dsimp only at hf
                  refine vM_copy_L225 B hK e_19 ?_ hG (lv_sub hl [1, 2, 3, 4, 5, 6, 0] rfl)
                  intro z0 hz
                  cases hz
                  intro H locs hG ls hl
                  refine lv_iload hx hb dX4_copy_267 (lv_at hl 0 rfl) ?_
                  exact kr _ _ (Option.some.inj hf).symm _ _ hG _ _ dX4_copy_269
                · have hf := ifp c_16 hf
                  refine lv_iload_n hx hb dX4_copy_167 rfl (lv_at hl 3 rfl) ?_
                  refine lv_iload hx hb dX4_copy_168 (lv_at hl 4 rfl) ?_
                  refine lv_icmp_ge (tgt := 222) hx hb dX4_copy_170 (by decide) (fun c_20 => ?_) (fun c_20 => ?_)
                  · have hf := ifp c_20 hf
                    refine lv_iconst (v := 0) hx hb dX4_copy_222 (by decide) ?_
                    refine lv_istore (lv' := [(6, .int 0), (0, .ref (a 0)), (1, .int x1), (2, .int x2), (3, .int x3), (4, .int x4), (5, .int x5)]) hx hb dX4_copy_223 hl (by decide) rfl (fun ls hl => ?_)
                    obtain ⟨w_21, e_23, hf⟩ := bo hf
                    try dsimp only at hf
                    refine vM_copy_L225 B hK e_23 ?_ hG (lv_sub hl [1, 2, 3, 4, 5, 6, 0] rfl)
                    intro z0 hz
                    cases hz
                    intro H locs hG ls hl
                    refine lv_iload hx hb dX4_copy_267 (lv_at hl 0 rfl) ?_
                    exact kr _ _ (Option.some.inj hf).symm _ _ hG _ _ dX4_copy_269
                  · have hf := ifn c_20 hf
                    refine lv_iload hx hb dX4_copy_173 (lv_at hl 5 rfl) ?_
                    refine lv_iconst (v := 1) hx hb dX4_copy_175 (by decide) ?_
                    refine lv_isub hx hb dX4_copy_176 ?_
                    obtain ⟨x_24, e_25, hf⟩ := bo hf
                    refine w_istore (lv' := [(6, .int x_24), (0, .ref (a 0)), (1, .int x1), (2, .int x2), (3, .int x3), (4, .int x4), (5, .int x5)]) e_25 hx hb dX4_copy_177 hl (by decide) rfl (fun ls hl => ?_)
                    obtain ⟨w_26, e_28, hf⟩ := bo hf
                    try dsimp only at hf
                    refine vM_copy_L179 B hK e_28 ?_ hG (lv_sub hl [1, 2, 3, 4, 5, 6, 0] rfl)
                    intro z0 hz
                    cases hz
                    intro H locs hG ls hl
                    refine lv_goto (tgt := 267) hx hb dX4_copy_219 (by decide) ?_
                    refine lv_iload hx hb dX4_copy_267 (lv_at hl 0 rfl) ?_
                    exact kr _ _ (Option.some.inj hf).symm _ _ hG _ _ dX4_copy_269
              · have hf := ifn c_15 hf
                exact wM_copy_J155 B hK hf kr hG (lv_sub hl [0] rfl)
    · have hf := ifn c_6 hf
      exact wM_copy_J99 B hK hf kr hG (lv_sub hl [0] rfl)

noncomputable def fM_copy (w : MW) (x1 : Int32) (x2 : Int32) (x3 : Int32) (x4 : Int32) (x5 : Int32) : Option (Int32 × MW) :=
  (fM_isShelf x1).bind fun r_1 =>
  if r_1 = 0 then
    fM_copy_J14 w 
  else
    (fM_isShelf x2).bind fun r_4 =>
    if r_4 = 0 then
      fM_copy_J14 w 
    else
      (rd (w.2.1 17) 8 x1).bind fun v_7 =>
      if 10 ≤ v_7 then
        fM_copy_J74 w 
      else
        (rd (w.2.1 17) 8 x2).bind fun v_10 =>
        if 10 ≤ v_10 then
          fM_copy_J74 w 
        else
          (fM_isRow w x1).bind fun r_13 =>
          if r_13 = 0 then
            fM_copy_J81 w x1 x2 x3 x4 x5
          else
            (fM_isRow w x2).bind fun r_16 =>
            if r_16 = 0 then
              fM_copy_J81 w x1 x2 x3 x4 x5
            else
              (rd (w.2.1 17) 8 x1).bind fun v_19 =>
              (rd (w.2.1 17) 8 x2).bind fun v_21 =>
              if v_19 = v_21 then
                fM_copy_J81 w x1 x2 x3 x4 x5
              else
                fM_copy_J74 w 

set_option maxHeartbeats 4000000 in
theorem wM_copy (B : CallFix p m c cX4_copy 7 s args lw_all RX4) (hK : KK X s) {w : MW} {x1 : Int32} {x2 : Int32} {x3 : Int32} {x4 : Int32} {x5 : Int32} {res : Int32 × MW} (hf : fM_copy w x1 x2 x3 x4 x5 = some res) (kr : ∀ (r : Int32) (w1 : MW), res = (r, w1) → ∀ (H : Heap) (locs : List Loc), GG X (MP X a w1 ++ rest) s.heap H locs → ∀ (pc : Nat) (ls : Array Slot), decode cX4_copy pc = .ok (.ireturn, 1) → W p l e (RMw 2 0 0 43) s m args below meth c H locs 0 0 Q (F0 m pc ls [.int r])) {H : Heap} {locs : List Loc} (hG : GG X (MP X a w ++ rest) s.heap H locs) {ls : Array Slot} (hl : lv_has ls 7 [(0, .ref (a 0)), (1, .int x1), (2, .int x2), (3, .int x3), (4, .int x4), (5, .int x5)]) : W p l e (RMw 2 0 0 43) s m args below meth c H locs 0 0 Q (F0 m 0 ls []) := by
  have hx := B.1
  have hb := B.2.1
  unfold fM_copy at hf
  refine lv_iload_n hx hb dX4_copy_0 rfl (lv_at hl 1 rfl) ?_
  obtain ⟨r_1, e_2, hf⟩ := bo hf
  refine cM_isShelf B e_2 ⟨Nat.le_of_ble_eq_true rfl, Nat.le_of_ble_eq_true rfl⟩ ⟨Nat.zero_le _, Nat.zero_le _⟩ hl.1 (Nat.le_of_ble_eq_true rfl) dX4_copy_1 ?_
  refine lv_if_eq (tgt := 14) hx hb dX4_copy_4 (by decide) (fun c_3 => ?_) (fun c_3 => ?_)
  · have hf := ifp c_3 hf
    exact wM_copy_J14 B hK hf kr hG (lv_sub hl [0] rfl)
  · have hf := ifn c_3 hf
    refine lv_iload_n hx hb dX4_copy_7 rfl (lv_at hl 2 rfl) ?_
    obtain ⟨r_4, e_5, hf⟩ := bo hf
    refine cM_isShelf B e_5 ⟨Nat.le_of_ble_eq_true rfl, Nat.le_of_ble_eq_true rfl⟩ ⟨Nat.zero_le _, Nat.zero_le _⟩ hl.1 (Nat.le_of_ble_eq_true rfl) dX4_copy_8 ?_
    refine lv_if_ne (tgt := 21) hx hb dX4_copy_11 (by decide) (fun c_6 => ?_) (fun c_6 => ?_)
    · have hf := ifn c_6 hf
      refine lv_aload_n hx hb dX4_copy_21 rfl (lv_at hl 0 rfl) ?_
      refine mo_g17 B hK hG.1 dX4_copy_22 ?_
      refine lv_iload_n hx hb dX4_copy_25 rfl (lv_at hl 1 rfl) ?_
      obtain ⟨v_7, e_8, hf⟩ := bo hf
      refine mo_ld17 B hK hG.1 e_8 dX4_copy_26 ?_
      refine lv_bipush (v := 10) hx hb dX4_copy_27 (by decide) ?_
      refine lv_icmp_ge (tgt := 74) hx hb dX4_copy_29 (by decide) (fun c_9 => ?_) (fun c_9 => ?_)
      · have hf := ifp c_9 hf
        exact wM_copy_J74 B hK hf kr hG (lv_sub hl [0] rfl)
      · have hf := ifn c_9 hf
        refine lv_aload_n hx hb dX4_copy_32 rfl (lv_at hl 0 rfl) ?_
        refine mo_g17 B hK hG.1 dX4_copy_33 ?_
        refine lv_iload_n hx hb dX4_copy_36 rfl (lv_at hl 2 rfl) ?_
        obtain ⟨v_10, e_11, hf⟩ := bo hf
        refine mo_ld17 B hK hG.1 e_11 dX4_copy_37 ?_
        refine lv_bipush (v := 10) hx hb dX4_copy_38 (by decide) ?_
        refine lv_icmp_ge (tgt := 74) hx hb dX4_copy_40 (by decide) (fun c_12 => ?_) (fun c_12 => ?_)
        · have hf := ifp c_12 hf
          exact wM_copy_J74 B hK hf kr hG (lv_sub hl [0] rfl)
        · have hf := ifn c_12 hf
          refine lv_aload_n hx hb dX4_copy_43 rfl (lv_at hl 0 rfl) ?_
          refine lv_iload_n hx hb dX4_copy_44 rfl (lv_at hl 1 rfl) ?_
          obtain ⟨r_13, e_14, hf⟩ := bo hf
          refine cM_isRow B hK hG.2.2 hG.1 e_14 ⟨Nat.le_of_ble_eq_true rfl, Nat.le_of_ble_eq_true rfl⟩ ⟨Nat.zero_le _, Nat.zero_le _⟩ hl.1 (Nat.le_of_ble_eq_true rfl) dX4_copy_45 ?_
          refine lv_if_eq (tgt := 81) hx hb dX4_copy_48 (by decide) (fun c_15 => ?_) (fun c_15 => ?_)
          · have hf := ifp c_15 hf
            exact wM_copy_J81 B hK hf kr hG hl
          · have hf := ifn c_15 hf
            refine lv_aload_n hx hb dX4_copy_51 rfl (lv_at hl 0 rfl) ?_
            refine lv_iload_n hx hb dX4_copy_52 rfl (lv_at hl 2 rfl) ?_
            obtain ⟨r_16, e_17, hf⟩ := bo hf
            refine cM_isRow B hK hG.2.2 hG.1 e_17 ⟨Nat.le_of_ble_eq_true rfl, Nat.le_of_ble_eq_true rfl⟩ ⟨Nat.zero_le _, Nat.zero_le _⟩ hl.1 (Nat.le_of_ble_eq_true rfl) dX4_copy_53 ?_
            refine lv_if_eq (tgt := 81) hx hb dX4_copy_56 (by decide) (fun c_18 => ?_) (fun c_18 => ?_)
            · have hf := ifp c_18 hf
              exact wM_copy_J81 B hK hf kr hG hl
            · have hf := ifn c_18 hf
              refine lv_aload_n hx hb dX4_copy_59 rfl (lv_at hl 0 rfl) ?_
              refine mo_g17 B hK hG.1 dX4_copy_60 ?_
              refine lv_iload_n hx hb dX4_copy_63 rfl (lv_at hl 1 rfl) ?_
              obtain ⟨v_19, e_20, hf⟩ := bo hf
              refine mo_ld17 B hK hG.1 e_20 dX4_copy_64 ?_
              refine lv_aload_n hx hb dX4_copy_65 rfl (lv_at hl 0 rfl) ?_
              refine mo_g17 B hK hG.1 dX4_copy_66 ?_
              refine lv_iload_n hx hb dX4_copy_69 rfl (lv_at hl 2 rfl) ?_
              obtain ⟨v_21, e_22, hf⟩ := bo hf
              refine mo_ld17 B hK hG.1 e_22 dX4_copy_70 ?_
              refine lv_icmp_eq (tgt := 81) hx hb dX4_copy_71 (by decide) (fun c_23 => ?_) (fun c_23 => ?_)
              · have hf := ifp c_23 hf
                exact wM_copy_J81 B hK hf kr hG hl
              · have hf := ifn c_23 hf
                exact wM_copy_J74 B hK hf kr hG (lv_sub hl [0] rfl)
    · have hf := ifp c_6 hf
      exact wM_copy_J14 B hK hf kr hG (lv_sub hl [0] rfl)

theorem tM_copy (l : Launch) (X : CX) (a : Nat → Nat) (rest : va_W) (w w' : MW) (x1 : Int32) (x2 : Int32) (x3 : Int32) (x4 : Int32) (x5 : Int32) (r : Int32) (hf : fM_copy w x1 x2 x3 x4 x5 = some (r, w')) : RW l yX4_copy cX4_copy 7 (some .int) 2 0 0 43 [.ref (a 0), .int x1, .int x2, .int x3, .int x4, .int x5] X (MP X a w ++ rest) (MP X a w' ++ rest) (some (.int r)) := by
  refine RW.mk (by decide) (Nat.le_of_ble_eq_true rfl) ?_
  intro p e s m below meth c B hr hlk hK hG ls hl
  exact wM_copy B hK hf (fun r w h H locs hG pc ls hd => by cases h; exact w_iretW B hr hlk hG hd) hG hl
end S_copy

section S_element
variable {p : Program} {l : Launch} {e : Env} {R : Room} {s : State} {m : MethodId} {args : Array Value} {below : List Frame} {meth : Method} {c : Code} {H : Heap} {locs : List Loc} {cells slots : Nat} {Q : State → Prop} {cc : ByteArray} {nL pc : Nat} {ls : Array Slot} {st : List Value} {X : CX} {a : Nat → Nat} {w : MW} {rest : va_W}
noncomputable def fM_element (w : MW) (x1 : Int32) (x2 : Int32) : Option (Int64) :=
  (fM_isShelf x1).bind fun r_1 =>
  if r_1 = 0 then
    some 0
  else
    (fM_isRow w x1).bind fun r_4 =>
    if r_4 = 0 then
      some 0
    else
      (rd (w.2.1 18) 8 x1).bind fun v_7 =>
      (fM_within x2 0 (v_7 - 1)).bind fun r_9 =>
      if r_9 = 0 then
        some 0
      else
        (rd w.2.2 320 ((40 * x1) + x2)).bind fun v_12 =>
        some v_12

set_option maxHeartbeats 4000000 in
theorem wM_element (B : CallFix p m c cX4_element 3 s args lw_all RX4) (hK : KK X s) {w : MW} (hP : va_P X.2.2.1 vwCl (MP X a w ++ rest) s.heap) {x1 : Int32} {x2 : Int32} {res : Int64} (hf : fM_element w x1 x2 = some res) (kr : ∀ (r : Int64), res = r → ∀ (pc : Nat) (ls : Array Slot), decode cX4_element pc = .ok (.lreturn, 1) → W p l e (RM 2 43) s m args below meth c s.heap [] 0 0 Q (F0 m pc ls [.long r])) {ls : Array Slot} (hl : lv_has ls 3 [(0, .ref (a 0)), (1, .int x1), (2, .int x2)]) : W p l e (RM 2 43) s m args below meth c s.heap [] 0 0 Q (F0 m 0 ls []) := by
  have hx := B.1
  have hb := B.2.1
  unfold fM_element at hf
  refine lv_iload_n hx hb dX4_element_0 rfl (lv_at hl 1 rfl) ?_
  obtain ⟨r_1, e_2, hf⟩ := bo hf
  refine cM_isShelf B e_2 ⟨Nat.le_of_ble_eq_true rfl, Nat.le_of_ble_eq_true rfl⟩ ⟨Nat.zero_le _, Nat.zero_le _⟩ hl.1 (Nat.le_of_ble_eq_true rfl) dX4_element_1 ?_
  refine lv_if_eq (tgt := 45) hx hb dX4_element_4 (by decide) (fun c_3 => ?_) (fun c_3 => ?_)
  · have hf := ifp c_3 hf
    refine lv_lconst (v := 0) hx hb dX4_element_45 (by decide) ?_
    exact kr _ (Option.some.inj hf).symm _ _ dX4_element_46
  · have hf := ifn c_3 hf
    refine lv_aload_n hx hb dX4_element_7 rfl (lv_at hl 0 rfl) ?_
    refine lv_iload_n hx hb dX4_element_8 rfl (lv_at hl 1 rfl) ?_
    obtain ⟨r_4, e_5, hf⟩ := bo hf
    refine cM_isRow B hK va_S.rf hP e_5 ⟨Nat.le_of_ble_eq_true rfl, Nat.le_of_ble_eq_true rfl⟩ ⟨Nat.zero_le _, Nat.zero_le _⟩ hl.1 (Nat.le_of_ble_eq_true rfl) dX4_element_9 ?_
    refine lv_if_eq (tgt := 45) hx hb dX4_element_12 (by decide) (fun c_6 => ?_) (fun c_6 => ?_)
    · have hf := ifp c_6 hf
      refine lv_lconst (v := 0) hx hb dX4_element_45 (by decide) ?_
      exact kr _ (Option.some.inj hf).symm _ _ dX4_element_46
    · have hf := ifn c_6 hf
      refine lv_iload_n hx hb dX4_element_15 rfl (lv_at hl 2 rfl) ?_
      refine lv_iconst (v := 0) hx hb dX4_element_16 (by decide) ?_
      refine lv_aload_n hx hb dX4_element_17 rfl (lv_at hl 0 rfl) ?_
      refine mo_g18 B hK hP dX4_element_18 ?_
      refine lv_iload_n hx hb dX4_element_21 rfl (lv_at hl 1 rfl) ?_
      obtain ⟨v_7, e_8, hf⟩ := bo hf
      refine mo_ld18 B hK hP e_8 dX4_element_22 ?_
      refine lv_iconst (v := 1) hx hb dX4_element_23 (by decide) ?_
      refine lv_isub hx hb dX4_element_24 ?_
      obtain ⟨r_9, e_10, hf⟩ := bo hf
      refine cM_within B e_10 ⟨Nat.le_of_ble_eq_true rfl, Nat.le_of_ble_eq_true rfl⟩ ⟨Nat.zero_le _, Nat.zero_le _⟩ hl.1 (Nat.le_of_ble_eq_true rfl) dX4_element_25 ?_
      refine lv_if_eq (tgt := 45) hx hb dX4_element_28 (by decide) (fun c_11 => ?_) (fun c_11 => ?_)
      · have hf := ifp c_11 hf
        refine lv_lconst (v := 0) hx hb dX4_element_45 (by decide) ?_
        exact kr _ (Option.some.inj hf).symm _ _ dX4_element_46
      · have hf := ifn c_11 hf
        refine lv_aload_n hx hb dX4_element_31 rfl (lv_at hl 0 rfl) ?_
        refine mo_g19 B hK hP dX4_element_32 ?_
        refine lv_bipush (v := 40) hx hb dX4_element_35 (by decide) ?_
        refine lv_iload_n hx hb dX4_element_37 rfl (lv_at hl 1 rfl) ?_
        refine lv_imul hx hb dX4_element_38 ?_
        refine lv_iload_n hx hb dX4_element_39 rfl (lv_at hl 2 rfl) ?_
        refine lv_iadd hx hb dX4_element_40 ?_
        obtain ⟨v_12, e_13, hf⟩ := bo hf
        refine mo_ld19 B hK hP e_13 dX4_element_41 ?_
        refine lv_goto (tgt := 46) hx hb dX4_element_42 (by decide) ?_
        exact kr _ (Option.some.inj hf).symm _ _ dX4_element_46

theorem tM_element (l : Launch) (X : CX) (a : Nat → Nat) (rest : va_W) (w : MW) (x1 : Int32) (x2 : Int32) (r : Int64) (hf : fM_element w x1 x2 = some r) : RO l yX4_element cX4_element 3 (some .long) 2 43 [.ref (a 0), .int x1, .int x2] X (MP X a w ++ rest) (some (.long r)) := by
  refine RO.mk (by decide) (Nat.le_of_ble_eq_true rfl) ?_
  intro p e s m below meth c B hr hlk hK hP ls hl
  exact wM_element B hK hP hf (fun r h pc ls hd => by cases h; exact w_lretR B hr hlk rfl hd) hl
end S_element

section S_holds
variable {p : Program} {l : Launch} {e : Env} {R : Room} {s : State} {m : MethodId} {args : Array Value} {below : List Frame} {meth : Method} {c : Code} {H : Heap} {locs : List Loc} {cells slots : Nat} {Q : State → Prop} {cc : ByteArray} {nL pc : Nat} {ls : Array Slot} {st : List Value} {X : CX} {a : Nat → Nat} {w : MW} {rest : va_W}
noncomputable def fM_holds (w : MW) (x1 : Int32) : Option (Int32) :=
  (fM_isShelf x1).bind fun r_1 =>
  if r_1 = 0 then
    some (-1)
  else
    (rd (w.2.1 17) 8 x1).bind fun v_4 =>
    some v_4

set_option maxHeartbeats 4000000 in
theorem wM_holds (B : CallFix p m c cX4_holds 2 s args lw_all RX4) (hK : KK X s) {w : MW} (hP : va_P X.2.2.1 vwCl (MP X a w ++ rest) s.heap) {x1 : Int32} {res : Int32} (hf : fM_holds w x1 = some res) (kr : ∀ (r : Int32), res = r → ∀ (pc : Nat) (ls : Array Slot), decode cX4_holds pc = .ok (.ireturn, 1) → W p l e (RM 2 42) s m args below meth c s.heap [] 0 0 Q (F0 m pc ls [.int r])) {ls : Array Slot} (hl : lv_has ls 2 [(0, .ref (a 0)), (1, .int x1)]) : W p l e (RM 2 42) s m args below meth c s.heap [] 0 0 Q (F0 m 0 ls []) := by
  have hx := B.1
  have hb := B.2.1
  unfold fM_holds at hf
  refine lv_iload_n hx hb dX4_holds_0 rfl (lv_at hl 1 rfl) ?_
  obtain ⟨r_1, e_2, hf⟩ := bo hf
  refine cM_isShelf B e_2 ⟨Nat.le_of_ble_eq_true rfl, Nat.le_of_ble_eq_true rfl⟩ ⟨Nat.zero_le _, Nat.zero_le _⟩ hl.1 (Nat.le_of_ble_eq_true rfl) dX4_holds_1 ?_
  refine lv_if_eq (tgt := 16) hx hb dX4_holds_4 (by decide) (fun c_3 => ?_) (fun c_3 => ?_)
  · have hf := ifp c_3 hf
    refine lv_iconst (v := (-1)) hx hb dX4_holds_16 (by decide) ?_
    exact kr _ (Option.some.inj hf).symm _ _ dX4_holds_17
  · have hf := ifn c_3 hf
    refine lv_aload_n hx hb dX4_holds_7 rfl (lv_at hl 0 rfl) ?_
    refine mo_g17 B hK hP dX4_holds_8 ?_
    refine lv_iload_n hx hb dX4_holds_11 rfl (lv_at hl 1 rfl) ?_
    obtain ⟨v_4, e_5, hf⟩ := bo hf
    refine mo_ld17 B hK hP e_5 dX4_holds_12 ?_
    refine lv_goto (tgt := 17) hx hb dX4_holds_13 (by decide) ?_
    exact kr _ (Option.some.inj hf).symm _ _ dX4_holds_17

theorem tM_holds (l : Launch) (X : CX) (a : Nat → Nat) (rest : va_W) (w : MW) (x1 : Int32) (r : Int32) (hf : fM_holds w x1 = some r) : RO l yX4_holds cX4_holds 2 (some .int) 2 42 [.ref (a 0), .int x1] X (MP X a w ++ rest) (some (.int r)) := by
  refine RO.mk (by decide) (Nat.le_of_ble_eq_true rfl) ?_
  intro p e s m below meth c B hr hlk hK hP ls hl
  exact wM_holds B hK hP hf (fun r h pc ls hd => by cases h; exact w_iretR B hr hlk rfl hd) hl
end S_holds

section S_isPost
variable {p : Program} {l : Launch} {e : Env} {R : Room} {s : State} {m : MethodId} {args : Array Value} {below : List Frame} {meth : Method} {c : Code} {H : Heap} {locs : List Loc} {cells slots : Nat} {Q : State → Prop} {cc : ByteArray} {nL pc : Nat} {ls : Array Slot} {st : List Value} {X : CX} {a : Nat → Nat} {w : MW} {rest : va_W}
noncomputable def fM_isPost (w : MW) (x1 : Int64) : Option (Int32) :=
  if (lg_cmp x1 0) < 0 then
    some 0
  else
    if 0 ≤ (lg_cmp x1 ((w.1 3).toInt64)) then
      some 0
    else
      some 1

set_option maxHeartbeats 4000000 in
theorem wM_isPost (B : CallFix p m c cX4_isPost 3 s args lw_all RX4) (hK : KK X s) {w : MW} (hP : va_P X.2.2.1 vwCl (MP X a w ++ rest) s.heap) {x1 : Int64} {res : Int32} (hf : fM_isPost w x1 = some res) (kr : ∀ (r : Int32), res = r → narrow .boolean (.int r) = .int r → ∀ (pc : Nat) (ls : Array Slot), decode cX4_isPost pc = .ok (.ireturn, 1) → W p l e (RM 0 0) s m args below meth c s.heap [] 0 0 Q (F0 m pc ls [.int r])) {ls : Array Slot} (hl : lv_has ls 3 [(0, .ref (a 0)), (1, .long x1)]) : W p l e (RM 0 0) s m args below meth c s.heap [] 0 0 Q (F0 m 0 ls []) := by
  have hx := B.1
  have hb := B.2.1
  unfold fM_isPost at hf
  refine lv_lload_n hx hb dX4_isPost_0 rfl (lv_at hl 1 rfl) ?_
  refine lv_lconst (v := 0) hx hb dX4_isPost_1 (by decide) ?_
  refine W.lcmp hx hb dX4_isPost_2 ?_
  refine lv_if_lt (tgt := 20) hx hb dX4_isPost_3 (by decide) (fun c_1 => ?_) (fun c_1 => ?_)
  · have hf := ifp c_1 hf
    refine lv_iconst (v := 0) hx hb dX4_isPost_20 (by decide) ?_
    exact kr _ (Option.some.inj hf).symm (by decide) _ _ dX4_isPost_21
  · have hf := ifn c_1 hf
    refine lv_lload_n hx hb dX4_isPost_6 rfl (lv_at hl 1 rfl) ?_
    refine lv_aload_n hx hb dX4_isPost_7 rfl (lv_at hl 0 rfl) ?_
    refine mo_g3 B hK hP dX4_isPost_8 ?_
    refine lv_i2l hx hb dX4_isPost_11 rfl ?_
    refine W.lcmp hx hb dX4_isPost_12 ?_
    refine lv_if_ge (tgt := 20) hx hb dX4_isPost_13 (by decide) (fun c_2 => ?_) (fun c_2 => ?_)
    · have hf := ifp c_2 hf
      refine lv_iconst (v := 0) hx hb dX4_isPost_20 (by decide) ?_
      exact kr _ (Option.some.inj hf).symm (by decide) _ _ dX4_isPost_21
    · have hf := ifn c_2 hf
      refine lv_iconst (v := 1) hx hb dX4_isPost_16 (by decide) ?_
      refine lv_goto (tgt := 21) hx hb dX4_isPost_17 (by decide) ?_
      exact kr _ (Option.some.inj hf).symm (by decide) _ _ dX4_isPost_21

theorem tM_isPost (l : Launch) (X : CX) (a : Nat → Nat) (rest : va_W) (w : MW) (x1 : Int64) (r : Int32) (hf : fM_isPost w x1 = some r) : RO l yX4_isPost cX4_isPost 3 (some .boolean) 0 0 [.ref (a 0), .long x1] X (MP X a w ++ rest) (some (.int r)) := by
  refine RO.mk (by decide) (Nat.le_of_ble_eq_true rfl) ?_
  intro p e s m below meth c B hr hlk hK hP ls hl
  exact wM_isPost B hK hP hf (fun r h hn pc ls hd => by cases h; exact w_zretR B hr hlk hn rfl hd) hl
theorem cM_isPost (B : CallFix p m c cc nL s args lw_all RX4) (hK : KK X s) (hS : va_S (Az X) s.heap H locs) (hP : va_P X.2.2.1 vwCl (MP X a w ++ rest) H) {x1 : Int64} {r : Int32} (hf : fM_isPost w x1 = some r) (hR : 0 + 1 ≤ R.frames ∧ 22 ≤ R.locals) (hcs : cells ≤ R.cells ∧ slots ≤ R.slots) (hl : ls.size = nL) (hcat : (st.map fun v => v.category).sum ≤ 8) (hdg : decode cc pc = .ok (.invokevirtual 101, 3)) (kk : W p l e R s m args below meth c H locs cells slots Q (F0 m (pc + 3) ls (.int r :: st))) : W p l e R s m args below meth c H locs cells slots Q (F0 m pc ls (.long x1 :: .ref (a 0) :: st)) :=
  w_afterR (w_rV_RO (As := [.long x1]) B hK hS hP (tM_isPost l X a rest w x1 r hf) (lw_V q1520 q1522 qs38 q91 q1523) 0 rfl rfl (n := 1) (by decide +kernel) hR hcs rfl hl rfl hcat hdg) kk
end S_isPost

section S_show
variable {p : Program} {l : Launch} {e : Env} {R : Room} {s : State} {m : MethodId} {args : Array Value} {below : List Frame} {meth : Method} {c : Code} {H : Heap} {locs : List Loc} {cells slots : Nat} {Q : State → Prop} {cc : ByteArray} {nL pc : Nat} {ls : Array Slot} {st : List Value} {X : CX} {a : Nat → Nat} {w : MW} {rest : va_W}
noncomputable def fM_show_J21 (w : MW)  : Option (Int32 × MW) :=
  b2 (fM_no w (-2)) fun r_1 w_2 =>
  some (r_1, w_2)

set_option maxHeartbeats 4000000 in
theorem wM_show_J21 (B : CallFix p m c cX4_show 3 s args lw_all RX4) (hK : KK X s) {w : MW}  {res : Int32 × MW} (hf : fM_show_J21 w  = some res) (kr : ∀ (r : Int32) (w1 : MW), res = (r, w1) → ∀ (H : Heap) (locs : List Loc), GG X (MP X a w1 ++ rest) s.heap H locs → ∀ (pc : Nat) (ls : Array Slot), decode cX4_show pc = .ok (.ireturn, 1) → W p l e (RMw 2 0 0 42) s m args below meth c H locs 0 0 Q (F0 m pc ls [.int r])) {H : Heap} {locs : List Loc} (hG : GG X (MP X a w ++ rest) s.heap H locs) {ls : Array Slot} (hl : lv_has ls 3 [(0, .ref (a 0))]) : W p l e (RMw 2 0 0 42) s m args below meth c H locs 0 0 Q (F0 m 21 ls []) := by
  have hx := B.1
  have hb := B.2.1
  unfold fM_show_J21 at hf
  refine lv_aload_n hx hb dX4_show_21 rfl (lv_at hl 0 rfl) ?_
  refine lv_bipush (v := (-2)) hx hb dX4_show_22 (by decide) ?_
  obtain ⟨r_1, w_2, e_3, hf⟩ := b2s hf
  refine cM_no B hK hG e_3 ⟨Nat.le_of_ble_eq_true rfl, Nat.le_of_ble_eq_true rfl⟩ ⟨Nat.zero_le _, Nat.zero_le _⟩ hl.1 (Nat.le_of_ble_eq_true rfl) dX4_show_24 (fun H locs hG => ?_)
  exact kr _ _ (Option.some.inj hf).symm _ _ hG _ _ dX4_show_27

noncomputable def fM_show_J46 (w : MW) (t1 : Int32) (t2 : Int32) : Option (Int32 × MW) :=
  (mst w 17 8 t1 t2).bind fun w_1 =>
  some (1, w_1)

set_option maxHeartbeats 4000000 in
theorem wM_show_J46 (B : CallFix p m c cX4_show 3 s args lw_all RX4) (hK : KK X s) {w : MW} {t1 : Int32} {t2 : Int32} {res : Int32 × MW} (hf : fM_show_J46 w t1 t2 = some res) (kr : ∀ (r : Int32) (w1 : MW), res = (r, w1) → ∀ (H : Heap) (locs : List Loc), GG X (MP X a w1 ++ rest) s.heap H locs → ∀ (pc : Nat) (ls : Array Slot), decode cX4_show pc = .ok (.ireturn, 1) → W p l e (RMw 2 0 0 42) s m args below meth c H locs 0 0 Q (F0 m pc ls [.int r])) {H : Heap} {locs : List Loc} (hG : GG X (MP X a w ++ rest) s.heap H locs) {ls : Array Slot} (hl : lv_has ls 3 []) : W p l e (RMw 2 0 0 42) s m args below meth c H locs 0 0 Q (F0 m 46 ls [.int t2, .int t1, .ref (a 17)]) := by
  have hx := B.1
  have hb := B.2.1
  unfold fM_show_J46 at hf
  obtain ⟨w_1, e_2, hf⟩ := bo hf
  refine mo_st17 B hK hG e_2 dX4_show_46 (fun H locs hG => ?_)
  refine lv_iconst (v := 1) hx hb dX4_show_47 (by decide) ?_
  exact kr _ _ (Option.some.inj hf).symm _ _ hG _ _ dX4_show_48

noncomputable def fM_show_J28 (w : MW) (x1 : Int32) (x2 : Int32) : Option (Int32 × MW) :=
  if x2 = (-1) then
    fM_show_J46 w x1 (-1)
  else
    fM_show_J46 w x1 (10 + x2)

set_option maxHeartbeats 4000000 in
theorem wM_show_J28 (B : CallFix p m c cX4_show 3 s args lw_all RX4) (hK : KK X s) {w : MW} {x1 : Int32} {x2 : Int32} {res : Int32 × MW} (hf : fM_show_J28 w x1 x2 = some res) (kr : ∀ (r : Int32) (w1 : MW), res = (r, w1) → ∀ (H : Heap) (locs : List Loc), GG X (MP X a w1 ++ rest) s.heap H locs → ∀ (pc : Nat) (ls : Array Slot), decode cX4_show pc = .ok (.ireturn, 1) → W p l e (RMw 2 0 0 42) s m args below meth c H locs 0 0 Q (F0 m pc ls [.int r])) {H : Heap} {locs : List Loc} (hG : GG X (MP X a w ++ rest) s.heap H locs) {ls : Array Slot} (hl : lv_has ls 3 [(0, .ref (a 0)), (1, .int x1), (2, .int x2)]) : W p l e (RMw 2 0 0 42) s m args below meth c H locs 0 0 Q (F0 m 28 ls []) := by
  have hx := B.1
  have hb := B.2.1
  unfold fM_show_J28 at hf
  refine lv_aload_n hx hb dX4_show_28 rfl (lv_at hl 0 rfl) ?_
  refine mo_g17 B hK hG.1 dX4_show_29 ?_
  refine lv_iload_n hx hb dX4_show_32 rfl (lv_at hl 1 rfl) ?_
  refine lv_iload_n hx hb dX4_show_33 rfl (lv_at hl 2 rfl) ?_
  refine lv_iconst (v := (-1)) hx hb dX4_show_34 (by decide) ?_
  refine lv_icmp_ne (tgt := 42) hx hb dX4_show_35 (by decide) (fun c_1 => ?_) (fun c_1 => ?_)
  · have hf := ifn c_1 hf
    refine lv_bipush (v := 10) hx hb dX4_show_42 (by decide) ?_
    refine lv_iload_n hx hb dX4_show_44 rfl (lv_at hl 2 rfl) ?_
    refine lv_iadd hx hb dX4_show_45 ?_
    exact wM_show_J46 B hK hf kr hG (lv_sub hl [] rfl)
  · have hf := ifp c_1 hf
    refine lv_iconst (v := (-1)) hx hb dX4_show_38 (by decide) ?_
    refine lv_goto (tgt := 46) hx hb dX4_show_39 (by decide) ?_
    exact wM_show_J46 B hK hf kr hG (lv_sub hl [] rfl)

noncomputable def fM_show (w : MW) (x1 : Int32) (x2 : Int32) : Option (Int32 × MW) :=
  (fM_isShelf x1).bind fun r_1 =>
  if r_1 = 0 then
    fM_show_J21 w 
  else
    if x2 = (-1) then
      fM_show_J28 w x1 x2
    else
      (fM_isPost w (x2.toInt64)).bind fun r_5 =>
      if r_5 = 0 then
        fM_show_J21 w 
      else
        fM_show_J28 w x1 x2

set_option maxHeartbeats 4000000 in
theorem wM_show (B : CallFix p m c cX4_show 3 s args lw_all RX4) (hK : KK X s) {w : MW} {x1 : Int32} {x2 : Int32} {res : Int32 × MW} (hf : fM_show w x1 x2 = some res) (kr : ∀ (r : Int32) (w1 : MW), res = (r, w1) → ∀ (H : Heap) (locs : List Loc), GG X (MP X a w1 ++ rest) s.heap H locs → ∀ (pc : Nat) (ls : Array Slot), decode cX4_show pc = .ok (.ireturn, 1) → W p l e (RMw 2 0 0 42) s m args below meth c H locs 0 0 Q (F0 m pc ls [.int r])) {H : Heap} {locs : List Loc} (hG : GG X (MP X a w ++ rest) s.heap H locs) {ls : Array Slot} (hl : lv_has ls 3 [(0, .ref (a 0)), (1, .int x1), (2, .int x2)]) : W p l e (RMw 2 0 0 42) s m args below meth c H locs 0 0 Q (F0 m 0 ls []) := by
  have hx := B.1
  have hb := B.2.1
  unfold fM_show at hf
  refine lv_iload_n hx hb dX4_show_0 rfl (lv_at hl 1 rfl) ?_
  obtain ⟨r_1, e_2, hf⟩ := bo hf
  refine cM_isShelf B e_2 ⟨Nat.le_of_ble_eq_true rfl, Nat.le_of_ble_eq_true rfl⟩ ⟨Nat.zero_le _, Nat.zero_le _⟩ hl.1 (Nat.le_of_ble_eq_true rfl) dX4_show_1 ?_
  refine lv_if_eq (tgt := 21) hx hb dX4_show_4 (by decide) (fun c_3 => ?_) (fun c_3 => ?_)
  · have hf := ifp c_3 hf
    exact wM_show_J21 B hK hf kr hG (lv_sub hl [0] rfl)
  · have hf := ifn c_3 hf
    refine lv_iload_n hx hb dX4_show_7 rfl (lv_at hl 2 rfl) ?_
    refine lv_iconst (v := (-1)) hx hb dX4_show_8 (by decide) ?_
    refine lv_icmp_eq (tgt := 28) hx hb dX4_show_9 (by decide) (fun c_4 => ?_) (fun c_4 => ?_)
    · have hf := ifp c_4 hf
      exact wM_show_J28 B hK hf kr hG hl
    · have hf := ifn c_4 hf
      refine lv_aload_n hx hb dX4_show_12 rfl (lv_at hl 0 rfl) ?_
      refine lv_iload_n hx hb dX4_show_13 rfl (lv_at hl 2 rfl) ?_
      refine lv_i2l hx hb dX4_show_14 rfl ?_
      obtain ⟨r_5, e_6, hf⟩ := bo hf
      refine cM_isPost B hK hG.2.2 hG.1 e_6 ⟨Nat.le_of_ble_eq_true rfl, Nat.le_of_ble_eq_true rfl⟩ ⟨Nat.zero_le _, Nat.zero_le _⟩ hl.1 (Nat.le_of_ble_eq_true rfl) dX4_show_15 ?_
      refine lv_if_ne (tgt := 28) hx hb dX4_show_18 (by decide) (fun c_7 => ?_) (fun c_7 => ?_)
      · have hf := ifn c_7 hf
        exact wM_show_J28 B hK hf kr hG hl
      · have hf := ifp c_7 hf
        exact wM_show_J21 B hK hf kr hG (lv_sub hl [0] rfl)

theorem tM_show (l : Launch) (X : CX) (a : Nat → Nat) (rest : va_W) (w w' : MW) (x1 : Int32) (x2 : Int32) (r : Int32) (hf : fM_show w x1 x2 = some (r, w')) : RW l yX4_show cX4_show 3 (some .int) 2 0 0 42 [.ref (a 0), .int x1, .int x2] X (MP X a w ++ rest) (MP X a w' ++ rest) (some (.int r)) := by
  refine RW.mk (by decide) (Nat.le_of_ble_eq_true rfl) ?_
  intro p e s m below meth c B hr hlk hK hG ls hl
  exact wM_show B hK hf (fun r w h H locs hG pc ls hd => by cases h; exact w_iretW B hr hlk hG hd) hG hl
end S_show

section S_isUnder
variable {p : Program} {l : Launch} {e : Env} {R : Room} {s : State} {m : MethodId} {args : Array Value} {below : List Frame} {meth : Method} {c : Code} {H : Heap} {locs : List Loc} {cells slots : Nat} {Q : State → Prop} {cc : ByteArray} {nL pc : Nat} {ls : Array Slot} {st : List Value} {X : CX} {a : Nat → Nat} {w : MW} {rest : va_W}
noncomputable def fM_isUnder_J19 (x0 : Int32) (x1 : Int32) : Option (Int32) :=
  if x0 = 4 then
    if x1 = 2 then
      some 1
    else
      some 0
  else
    some 0

set_option maxHeartbeats 4000000 in
theorem wM_isUnder_J19 (B : CallFix p m c cX4_isUnder 2 s args lw_all RX4) {x0 : Int32} {x1 : Int32} {res : Int32} (hf : fM_isUnder_J19 x0 x1 = some res) (kr : ∀ (r : Int32), res = r → narrow .boolean (.int r) = .int r → ∀ (pc : Nat) (ls : Array Slot), decode cX4_isUnder pc = .ok (.ireturn, 1) → W p l e (RM 0 0) s m args below meth c s.heap [] 0 0 Q (F0 m pc ls [.int r])) {ls : Array Slot} (hl : lv_has ls 2 [(0, .int x0), (1, .int x1)]) : W p l e (RM 0 0) s m args below meth c s.heap [] 0 0 Q (F0 m 19 ls []) := by
  have hx := B.1
  have hb := B.2.1
  unfold fM_isUnder_J19 at hf
  refine lv_iload_n hx hb dX4_isUnder_19 rfl (lv_at hl 0 rfl) ?_
  refine lv_iconst (v := 4) hx hb dX4_isUnder_20 (by decide) ?_
  refine lv_icmp_ne (tgt := 33) hx hb dX4_isUnder_21 (by decide) (fun c_1 => ?_) (fun c_1 => ?_)
  · have hf := ifn c_1 hf
    refine lv_iconst (v := 0) hx hb dX4_isUnder_33 (by decide) ?_
    exact kr _ (Option.some.inj hf).symm (by decide) _ _ dX4_isUnder_34
  · have hf := ifp c_1 hf
    refine lv_iload_n hx hb dX4_isUnder_24 rfl (lv_at hl 1 rfl) ?_
    refine lv_iconst (v := 2) hx hb dX4_isUnder_25 (by decide) ?_
    refine lv_icmp_ne (tgt := 33) hx hb dX4_isUnder_26 (by decide) (fun c_2 => ?_) (fun c_2 => ?_)
    · have hf := ifn c_2 hf
      refine lv_iconst (v := 0) hx hb dX4_isUnder_33 (by decide) ?_
      exact kr _ (Option.some.inj hf).symm (by decide) _ _ dX4_isUnder_34
    · have hf := ifp c_2 hf
      refine lv_iconst (v := 1) hx hb dX4_isUnder_29 (by decide) ?_
      refine lv_goto (tgt := 34) hx hb dX4_isUnder_30 (by decide) ?_
      exact kr _ (Option.some.inj hf).symm (by decide) _ _ dX4_isUnder_34

noncomputable def fM_isUnder (x0 : Int32) (x1 : Int32) : Option (Int32) :=
  if x1 = 0 then
    some 1
  else
    if x0 = x1 then
      some 1
    else
      if x0 = 3 then
        if x1 = 1 then
          some 1
        else
          fM_isUnder_J19 x0 x1
      else
        fM_isUnder_J19 x0 x1

set_option maxHeartbeats 4000000 in
theorem wM_isUnder (B : CallFix p m c cX4_isUnder 2 s args lw_all RX4) {x0 : Int32} {x1 : Int32} {res : Int32} (hf : fM_isUnder x0 x1 = some res) (kr : ∀ (r : Int32), res = r → narrow .boolean (.int r) = .int r → ∀ (pc : Nat) (ls : Array Slot), decode cX4_isUnder pc = .ok (.ireturn, 1) → W p l e (RM 0 0) s m args below meth c s.heap [] 0 0 Q (F0 m pc ls [.int r])) {ls : Array Slot} (hl : lv_has ls 2 [(0, .int x0), (1, .int x1)]) : W p l e (RM 0 0) s m args below meth c s.heap [] 0 0 Q (F0 m 0 ls []) := by
  have hx := B.1
  have hb := B.2.1
  unfold fM_isUnder at hf
  refine lv_iload_n hx hb dX4_isUnder_0 rfl (lv_at hl 1 rfl) ?_
  refine lv_if_eq (tgt := 29) hx hb dX4_isUnder_1 (by decide) (fun c_1 => ?_) (fun c_1 => ?_)
  · have hf := ifp c_1 hf
    refine lv_iconst (v := 1) hx hb dX4_isUnder_29 (by decide) ?_
    refine lv_goto (tgt := 34) hx hb dX4_isUnder_30 (by decide) ?_
    exact kr _ (Option.some.inj hf).symm (by decide) _ _ dX4_isUnder_34
  · have hf := ifn c_1 hf
    refine lv_iload_n hx hb dX4_isUnder_4 rfl (lv_at hl 0 rfl) ?_
    refine lv_iload_n hx hb dX4_isUnder_5 rfl (lv_at hl 1 rfl) ?_
    refine lv_icmp_eq (tgt := 29) hx hb dX4_isUnder_6 (by decide) (fun c_2 => ?_) (fun c_2 => ?_)
    · have hf := ifp c_2 hf
      refine lv_iconst (v := 1) hx hb dX4_isUnder_29 (by decide) ?_
      refine lv_goto (tgt := 34) hx hb dX4_isUnder_30 (by decide) ?_
      exact kr _ (Option.some.inj hf).symm (by decide) _ _ dX4_isUnder_34
    · have hf := ifn c_2 hf
      refine lv_iload_n hx hb dX4_isUnder_9 rfl (lv_at hl 0 rfl) ?_
      refine lv_iconst (v := 3) hx hb dX4_isUnder_10 (by decide) ?_
      refine lv_icmp_ne (tgt := 19) hx hb dX4_isUnder_11 (by decide) (fun c_3 => ?_) (fun c_3 => ?_)
      · have hf := ifn c_3 hf
        exact wM_isUnder_J19 B hf kr hl
      · have hf := ifp c_3 hf
        refine lv_iload_n hx hb dX4_isUnder_14 rfl (lv_at hl 1 rfl) ?_
        refine lv_iconst (v := 1) hx hb dX4_isUnder_15 (by decide) ?_
        refine lv_icmp_eq (tgt := 29) hx hb dX4_isUnder_16 (by decide) (fun c_4 => ?_) (fun c_4 => ?_)
        · have hf := ifp c_4 hf
          refine lv_iconst (v := 1) hx hb dX4_isUnder_29 (by decide) ?_
          refine lv_goto (tgt := 34) hx hb dX4_isUnder_30 (by decide) ?_
          exact kr _ (Option.some.inj hf).symm (by decide) _ _ dX4_isUnder_34
        · have hf := ifn c_4 hf
          exact wM_isUnder_J19 B hf kr hl

theorem tM_isUnder (l : Launch) (x0 : Int32) (x1 : Int32) (r : Int32) (hf : fM_isUnder x0 x1 = some r) : ST l yX4_isUnder cX4_isUnder 2 (some .boolean) 0 0 [.int x0, .int x1] (.int r) := by
  refine ST.mk (by decide) (Nat.le_of_ble_eq_true rfl) ?_
  intro p e s m below meth c B hr hlk ls hl
  exact wM_isUnder B hf (fun r h hn pc ls hd => by cases h; exact w_zretR B hr hlk hn rfl hd) hl
theorem cM_isUnder (B : CallFix p m c cc nL s args lw_all RX4) {x0 : Int32} {x1 : Int32} {r : Int32} (hf : fM_isUnder x0 x1 = some r) (hR : 0 + 1 ≤ R.frames ∧ 21 ≤ R.locals) (hcs : cells ≤ R.cells ∧ slots ≤ R.slots) (hl : ls.size = nL) (hcat : (st.map fun v => v.category).sum ≤ 8) (hdg : decode cc pc = .ok (.invokestatic 104, 3)) (kk : W p l e R s m args below meth c H locs cells slots Q (F0 m (pc + 3) ls (.int r :: st))) : W p l e R s m args below meth c H locs cells slots Q (F0 m pc ls (.int x1 :: .int x0 :: st)) :=
  w_afterR (w_rS_ST (As := [.int x0, .int x1]) B (tM_isUnder l x0 x1 r hf) (lw_S q1528 q1529 q91 q1530) (n := 2) (by decide +kernel) hR hcs rfl hl rfl hcat hdg) kk
end S_isUnder

section S_isLost
variable {p : Program} {l : Launch} {e : Env} {R : Room} {s : State} {m : MethodId} {args : Array Value} {below : List Frame} {meth : Method} {c : Code} {H : Heap} {locs : List Loc} {cells slots : Nat} {Q : State → Prop} {cc : ByteArray} {nL pc : Nat} {ls : Array Slot} {st : List Value} {X : CX} {a : Nat → Nat} {w : MW} {rest : va_W}
noncomputable def fM_isLost (w : MW) (x1 : Int32) : Option (Int32) :=
  (rd (w.2.1 9) 4 x1).bind fun v_1 =>
  if 5 ≤ v_1 then
    some 0
  else
    some 1

set_option maxHeartbeats 4000000 in
theorem wM_isLost (B : CallFix p m c cX4_isLost 2 s args lw_all RX4) (hK : KK X s) {w : MW} (hP : va_P X.2.2.1 vwCl (MP X a w ++ rest) s.heap) {x1 : Int32} {res : Int32} (hf : fM_isLost w x1 = some res) (kr : ∀ (r : Int32), res = r → narrow .boolean (.int r) = .int r → ∀ (pc : Nat) (ls : Array Slot), decode cX4_isLost pc = .ok (.ireturn, 1) → W p l e (RM 0 0) s m args below meth c s.heap [] 0 0 Q (F0 m pc ls [.int r])) {ls : Array Slot} (hl : lv_has ls 2 [(0, .ref (a 0)), (1, .int x1)]) : W p l e (RM 0 0) s m args below meth c s.heap [] 0 0 Q (F0 m 0 ls []) := by
  have hx := B.1
  have hb := B.2.1
  unfold fM_isLost at hf
  refine lv_aload_n hx hb dX4_isLost_0 rfl (lv_at hl 0 rfl) ?_
  refine mo_g9 B hK hP dX4_isLost_1 ?_
  refine lv_iload_n hx hb dX4_isLost_4 rfl (lv_at hl 1 rfl) ?_
  obtain ⟨v_1, e_2, hf⟩ := bo hf
  refine mo_ld9 B hK hP e_2 dX4_isLost_5 ?_
  refine lv_iconst (v := 5) hx hb dX4_isLost_6 (by decide) ?_
  refine lv_icmp_ge (tgt := 14) hx hb dX4_isLost_7 (by decide) (fun c_3 => ?_) (fun c_3 => ?_)
  · have hf := ifp c_3 hf
    refine lv_iconst (v := 0) hx hb dX4_isLost_14 (by decide) ?_
    exact kr _ (Option.some.inj hf).symm (by decide) _ _ dX4_isLost_15
  · have hf := ifn c_3 hf
    refine lv_iconst (v := 1) hx hb dX4_isLost_10 (by decide) ?_
    refine lv_goto (tgt := 15) hx hb dX4_isLost_11 (by decide) ?_
    exact kr _ (Option.some.inj hf).symm (by decide) _ _ dX4_isLost_15

theorem tM_isLost (l : Launch) (X : CX) (a : Nat → Nat) (rest : va_W) (w : MW) (x1 : Int32) (r : Int32) (hf : fM_isLost w x1 = some r) : RO l yX4_isLost cX4_isLost 2 (some .boolean) 0 0 [.ref (a 0), .int x1] X (MP X a w ++ rest) (some (.int r)) := by
  refine RO.mk (by decide) (Nat.le_of_ble_eq_true rfl) ?_
  intro p e s m below meth c B hr hlk hK hP ls hl
  exact wM_isLost B hK hP hf (fun r h hn pc ls hd => by cases h; exact w_zretR B hr hlk hn rfl hd) hl
theorem cM_isLost (B : CallFix p m c cc nL s args lw_all RX4) (hK : KK X s) (hS : va_S (Az X) s.heap H locs) (hP : va_P X.2.2.1 vwCl (MP X a w ++ rest) H) {x1 : Int32} {r : Int32} (hf : fM_isLost w x1 = some r) (hR : 0 + 1 ≤ R.frames ∧ 21 ≤ R.locals) (hcs : cells ≤ R.cells ∧ slots ≤ R.slots) (hl : ls.size = nL) (hcat : (st.map fun v => v.category).sum ≤ 8) (hdg : decode cc pc = .ok (.invokevirtual 207, 3)) (kk : W p l e R s m args below meth c H locs cells slots Q (F0 m (pc + 3) ls (.int r :: st))) : W p l e R s m args below meth c H locs cells slots Q (F0 m pc ls (.int x1 :: .ref (a 0) :: st)) :=
  w_afterR (w_rV_RO (As := [.int x1]) B hK hS hP (tM_isLost l X a rest w x1 r hf) (lw_V q1535 q1537 qs40 q91 q1538) 0 rfl rfl (n := 1) (by decide +kernel) hR hcs rfl hl rfl hcat hdg) kk
end S_isLost

section S_asThingsAre
variable {p : Program} {l : Launch} {e : Env} {R : Room} {s : State} {m : MethodId} {args : Array Value} {below : List Frame} {meth : Method} {c : Code} {H : Heap} {locs : List Loc} {cells slots : Nat} {Q : State → Prop} {cc : ByteArray} {nL pc : Nat} {ls : Array Slot} {st : List Value} {X : CX} {a : Nat → Nat} {w : MW} {rest : va_W}
noncomputable def fM_asThingsAre_L7 (w : MW) (x1 : Int32) : Option ((Int32 × MW) ⊕ (MW)) :=
  if (w.1 7) ≤ x1 then
    some (.inr w)
  else
    (fM_isLost w x1).bind fun r_2 =>
    if r_2 = 0 then
      (some (x1 + 1)).bind fun x_5 =>
      some (.inl (x_5, w))
    else
      (some (mpt w 24 ((w.1 24) + 1))).bind fun w_7 =>
      (rd (w_7.2.1 8) 4 x1).bind fun v_9 =>
      (mst w_7 25 4 (w.1 24) v_9).bind fun w_11 =>
      (some (x1 + 1)).bind fun x_13 =>
      some (.inl (x_13, w_11))

set_option maxHeartbeats 4000000 in
theorem wM_asThingsAre_L7 (B : CallFix p m c cX4_asThingsAre 2 s args lw_all RX4) (hK : KK X s) {w : MW} {x1 : Int32} {res : (Int32 × MW) ⊕ (MW)} (hf : fM_asThingsAre_L7 w x1 = some res) (kc : ∀ (y1 : Int32) (w1 : MW), res = .inl (y1, w1) → ∀ (H : Heap) (locs : List Loc), GG X (MP X a w1 ++ rest) s.heap H locs → ∀ (ls : Array Slot), lv_has ls 2 [(0, .ref (a 0)), (1, .int y1)] → W p l e (RMw 1 0 0 21) s m args below meth c H locs 0 0 Q (F0 m 7 ls [])) (ke51 : ∀ (w1 : MW), res = .inr w1 → ∀ (H : Heap) (locs : List Loc), GG X (MP X a w1 ++ rest) s.heap H locs → ∀ (ls : Array Slot), lv_has ls 2 [] → W p l e (RMw 1 0 0 21) s m args below meth c H locs 0 0 Q (F0 m 51 ls [])) {H : Heap} {locs : List Loc} (hG : GG X (MP X a w ++ rest) s.heap H locs) {ls : Array Slot} (hl : lv_has ls 2 [(0, .ref (a 0)), (1, .int x1)]) : W p l e (RMw 1 0 0 21) s m args below meth c H locs 0 0 Q (F0 m 7 ls []) := by
  have hx := B.1
  have hb := B.2.1
  unfold fM_asThingsAre_L7 at hf
  refine lv_iload_n hx hb dX4_asThingsAre_7 rfl (lv_at hl 1 rfl) ?_
  refine lv_aload_n hx hb dX4_asThingsAre_8 rfl (lv_at hl 0 rfl) ?_
  refine mo_g7 B hK hG.1 dX4_asThingsAre_9 ?_
  refine lv_icmp_ge (tgt := 51) hx hb dX4_asThingsAre_12 (by decide) (fun c_1 => ?_) (fun c_1 => ?_)
  · have hf := ifp c_1 hf
    exact ke51 _ (Option.some.inj hf).symm _ _ hG _ (lv_sub hl [] rfl)
  · have hf := ifn c_1 hf
    refine lv_aload_n hx hb dX4_asThingsAre_15 rfl (lv_at hl 0 rfl) ?_
    refine lv_iload_n hx hb dX4_asThingsAre_16 rfl (lv_at hl 1 rfl) ?_
    obtain ⟨r_2, e_3, hf⟩ := bo hf
    refine cM_isLost B hK hG.2.2 hG.1 e_3 ⟨Nat.le_of_ble_eq_true rfl, Nat.le_of_ble_eq_true rfl⟩ ⟨Nat.zero_le _, Nat.zero_le _⟩ hl.1 (Nat.le_of_ble_eq_true rfl) dX4_asThingsAre_17 ?_
    refine lv_if_eq (tgt := 45) hx hb dX4_asThingsAre_20 (by decide) (fun c_4 => ?_) (fun c_4 => ?_)
    · have hf := ifp c_4 hf
      obtain ⟨x_5, e_6, hf⟩ := bo hf
      refine w_iinc (k := 1) (lv' := [(1, .int x_5), (0, .ref (a 0))]) e_6 hx hb dX4_asThingsAre_45 hl rfl (by decide) rfl (fun ls hl => ?_)
      refine lv_goto (tgt := 7) hx hb dX4_asThingsAre_48 (by decide) ?_
      exact kc _ _ (Option.some.inj hf).symm _ _ hG _ (lv_sub hl [1, 0] rfl)
    · have hf := ifn c_4 hf
      refine lv_aload_n hx hb dX4_asThingsAre_23 rfl (lv_at hl 0 rfl) ?_
      refine mo_g25 B hK hG.1 dX4_asThingsAre_24 ?_
      refine lv_aload_n hx hb dX4_asThingsAre_27 rfl (lv_at hl 0 rfl) ?_
      refine lv_dup hx hb dX4_asThingsAre_28 rfl ?_
      refine mo_g24 B hK hG.1 dX4_asThingsAre_29 ?_
      refine lv_dup_x1 hx hb dX4_asThingsAre_32 rfl rfl ?_
      refine lv_iconst (v := 1) hx hb dX4_asThingsAre_33 (by decide) ?_
      refine lv_iadd hx hb dX4_asThingsAre_34 ?_
      obtain ⟨w_7, e_8, hf⟩ := bo hf
      refine mo_p24 B hK hG e_8 dX4_asThingsAre_35 (fun H locs hG => ?_)
      refine lv_aload_n hx hb dX4_asThingsAre_38 rfl (lv_at hl 0 rfl) ?_
      refine mo_g8 B hK hG.1 dX4_asThingsAre_39 ?_
      refine lv_iload_n hx hb dX4_asThingsAre_42 rfl (lv_at hl 1 rfl) ?_
      obtain ⟨v_9, e_10, hf⟩ := bo hf
      refine mo_ld8 B hK hG.1 e_10 dX4_asThingsAre_43 ?_
      obtain ⟨w_11, e_12, hf⟩ := bo hf
      refine mo_st25 B hK hG e_12 dX4_asThingsAre_44 (fun H locs hG => ?_)
      obtain ⟨x_13, e_14, hf⟩ := bo hf
      refine w_iinc (k := 1) (lv' := [(1, .int x_13), (0, .ref (a 0))]) e_14 hx hb dX4_asThingsAre_45 hl rfl (by decide) rfl (fun ls hl => ?_)
      refine lv_goto (tgt := 7) hx hb dX4_asThingsAre_48 (by decide) ?_
      exact kc _ _ (Option.some.inj hf).symm _ _ hG _ (lv_sub hl [1, 0] rfl)

set_option maxHeartbeats 4000000 in
theorem vM_asThingsAre_L7 (B : CallFix p m c cX4_asThingsAre 2 s args lw_all RX4) (hK : KK X s) {w : MW} {x1 : Int32} {res : MW} (hf : lp (fun q : Int32 × MW => fM_asThingsAre_L7 q.2 q.1) (x1, w) = some res) (ke51 : ∀ (w1 : MW), res = w1 → ∀ (H : Heap) (locs : List Loc), GG X (MP X a w1 ++ rest) s.heap H locs → ∀ (ls : Array Slot), lv_has ls 2 [] → W p l e (RMw 1 0 0 21) s m args below meth c H locs 0 0 Q (F0 m 51 ls [])) {H : Heap} {locs : List Loc} (hG : GG X (MP X a w ++ rest) s.heap H locs) {ls : Array Slot} (hl : lv_has ls 2 [(0, .ref (a 0)), (1, .int x1)]) : W p l e (RMw 1 0 0 21) s m args below meth c H locs 0 0 Q (F0 m 7 ls []) := by
  refine lp_ind (r := res) (P := fun q : Int32 × MW => ∀ (H : Heap) (locs : List Loc) (ls : Array Slot), GG X (MP X a q.2 ++ rest) s.heap H locs → lv_has ls 2 [(0, .ref (a 0)), (1, .int q.1)] → W p l e (RMw 1 0 0 21) s m args below meth c H locs 0 0 Q (F0 m 7 ls [])) ?_ ?_ _ hf _ _ _ hG hl
  · intro q hb H locs ls hG hl
    exact wM_asThingsAre_L7 B hK hb (fun _ _ h => by cases h) (fun z0 h => ke51 z0 (Sum.inr.inj h)) hG hl
  · intro q q2 hb ih H locs ls hG hl
    exact wM_asThingsAre_L7 B hK hb (fun z0 z1 h => by cases h; exact fun H locs hG ls hl => ih H locs ls hG hl) (fun _ h => by cases h) hG hl

noncomputable def fM_asThingsAre (w : MW)  : Option (MW) :=
  (some (mpt w 24 0)).bind fun w_1 =>
  (lp (fun q : Int32 × MW => fM_asThingsAre_L7 q.2 q.1) (0, w_1)).bind (
    fun q_4 => (fun (w_3 : MW) =>
      some w_3
    ) q_4
  )

set_option maxHeartbeats 4000000 in
theorem wM_asThingsAre (B : CallFix p m c cX4_asThingsAre 2 s args lw_all RX4) (hK : KK X s) {w : MW}  {res : MW} (hf : fM_asThingsAre w  = some res) (kr : ∀ (w1 : MW), res = w1 → ∀ (H : Heap) (locs : List Loc), GG X (MP X a w1 ++ rest) s.heap H locs → ∀ (pc : Nat) (ls : Array Slot), decode cX4_asThingsAre pc = .ok (.return_, 1) → W p l e (RMw 1 0 0 21) s m args below meth c H locs 0 0 Q (F0 m pc ls [])) {H : Heap} {locs : List Loc} (hG : GG X (MP X a w ++ rest) s.heap H locs) {ls : Array Slot} (hl : lv_has ls 2 [(0, .ref (a 0))]) : W p l e (RMw 1 0 0 21) s m args below meth c H locs 0 0 Q (F0 m 0 ls []) := by
  have hx := B.1
  have hb := B.2.1
  unfold fM_asThingsAre at hf
  refine lv_aload_n hx hb dX4_asThingsAre_0 rfl (lv_at hl 0 rfl) ?_
  refine lv_iconst (v := 0) hx hb dX4_asThingsAre_1 (by decide) ?_
  obtain ⟨w_1, e_2, hf⟩ := bo hf
  refine mo_p24 B hK hG e_2 dX4_asThingsAre_2 (fun H locs hG => ?_)
  refine lv_iconst (v := 0) hx hb dX4_asThingsAre_5 (by decide) ?_
  refine lv_istore_n (lv' := [(1, .int 0), (0, .ref (a 0))]) hx hb dX4_asThingsAre_6 rfl hl (by decide) rfl (fun ls hl => ?_)
  obtain ⟨w_3, e_5, hf⟩ := bo hf
  try dsimp only at hf
  refine vM_asThingsAre_L7 B hK e_5 ?_ hG (lv_sub hl [1, 0] rfl)
  intro z0 hz
  cases hz
  intro H locs hG ls hl
  exact kr _ (Option.some.inj hf).symm _ _ hG _ _ dX4_asThingsAre_51

theorem tM_asThingsAre (l : Launch) (X : CX) (a : Nat → Nat) (rest : va_W) (w w' : MW)  (hf : fM_asThingsAre w  = some w') : RW l yX4_asThingsAre cX4_asThingsAre 2 none 1 0 0 21 [.ref (a 0)] X (MP X a w ++ rest) (MP X a w' ++ rest) none := by
  refine RW.mk (by decide) (Nat.le_of_ble_eq_true rfl) ?_
  intro p e s m below meth c B hr hlk hK hG ls hl
  exact wM_asThingsAre B hK hf (fun w h H locs hG pc ls hd => by cases h; exact w_vretW B hr hlk hG hd) hG hl
theorem cM_asThingsAre (B : CallFix p m c cc nL s args lw_all RX4) (hK : KK X s) (hG : GG X (MP X a w ++ rest) s.heap H locs)  {w' : MW} (hf : fM_asThingsAre w  = some w') (hR : 1 + 1 ≤ R.frames ∧ 42 ≤ R.locals) (hcs : cells ≤ R.cells ∧ slots ≤ R.slots) (hl : ls.size = nL) (hcat : (st.map fun v => v.category).sum ≤ 8) (hdg : decode cc pc = .ok (.invokevirtual 108, 3)) (kk : ∀ (H1 : Heap) (locs1 : List Loc), GG X (MP X a w' ++ rest) s.heap H1 locs1 → W p l e R s m args below meth c H1 locs1 cells slots Q (F0 m (pc + 3) ls st)) : W p l e R s m args below meth c H locs cells slots Q (F0 m pc ls (.ref (a 0) :: st)) :=
  w_afterWv (w_rV_RW (As := []) B hK hG (tM_asThingsAre l X a rest w w'  hf) (lw_V q1531 q1533 qs39 q91 q1534) 0 rfl rfl (n := 0) (by decide +kernel) hR hcs rfl hl rfl hcat hdg) hG.2.2 kk
end S_asThingsAre

section S_steps
variable {p : Program} {l : Launch} {e : Env} {R : Room} {s : State} {m : MethodId} {args : Array Value} {below : List Frame} {meth : Method} {c : Code} {H : Heap} {locs : List Loc} {cells slots : Nat} {Q : State → Prop} {cc : ByteArray} {nL pc : Nat} {ls : Array Slot} {st : List Value} {X : CX} {a : Nat → Nat} {w : MW} {rest : va_W}
noncomputable def fM_steps (x0 : Int32) (x1 : Int32) : Option (Int32) :=
  some ((iabs ((x0 / 10) - (x1 / 10))) + (iabs ((irem x0 10) - (irem x1 10))))

set_option maxHeartbeats 4000000 in
theorem wM_steps (B : CallFix p m c cX4_steps 2 s args lw_all RX4) {x0 : Int32} {x1 : Int32} {res : Int32} (hf : fM_steps x0 x1 = some res) (kr : ∀ (r : Int32), res = r → ∀ (pc : Nat) (ls : Array Slot), decode cX4_steps pc = .ok (.ireturn, 1) → W p l e (RM 1 21) s m args below meth c s.heap [] 0 0 Q (F0 m pc ls [.int r])) {ls : Array Slot} (hl : lv_has ls 2 [(0, .int x0), (1, .int x1)]) : W p l e (RM 1 21) s m args below meth c s.heap [] 0 0 Q (F0 m 0 ls []) := by
  have hx := B.1
  have hb := B.2.1
  unfold fM_steps at hf
  refine lv_iload_n hx hb dX4_steps_0 rfl (lv_at hl 0 rfl) ?_
  refine lv_bipush (v := 10) hx hb dX4_steps_1 (by decide) ?_
  refine lv_idiv hx hb dX4_steps_3 (by decide) ?_
  refine lv_iload_n hx hb dX4_steps_4 rfl (lv_at hl 1 rfl) ?_
  refine lv_bipush (v := 10) hx hb dX4_steps_5 (by decide) ?_
  refine lv_idiv hx hb dX4_steps_7 (by decide) ?_
  refine lv_isub hx hb dX4_steps_8 ?_
  refine w_abs B hl.1 q1550 q531 q104 q532 (Nat.le_of_ble_eq_true rfl) (Nat.le_of_ble_eq_true rfl) (Nat.le_of_ble_eq_true rfl) (Nat.zero_le _) (Nat.zero_le _) dX4_steps_9 ?_
  refine lv_iload_n hx hb dX4_steps_12 rfl (lv_at hl 0 rfl) ?_
  refine lv_bipush (v := 10) hx hb dX4_steps_13 (by decide) ?_
  refine w_irem hx hb dX4_steps_15 (by decide) ?_
  refine lv_iload_n hx hb dX4_steps_16 rfl (lv_at hl 1 rfl) ?_
  refine lv_bipush (v := 10) hx hb dX4_steps_17 (by decide) ?_
  refine w_irem hx hb dX4_steps_19 (by decide) ?_
  refine lv_isub hx hb dX4_steps_20 ?_
  refine w_abs B hl.1 q1550 q531 q104 q532 (Nat.le_of_ble_eq_true rfl) (Nat.le_of_ble_eq_true rfl) (Nat.le_of_ble_eq_true rfl) (Nat.zero_le _) (Nat.zero_le _) dX4_steps_21 ?_
  refine lv_iadd hx hb dX4_steps_24 ?_
  exact kr _ (Option.some.inj hf).symm _ _ dX4_steps_25

theorem tM_steps (l : Launch) (x0 : Int32) (x1 : Int32) (r : Int32) (hf : fM_steps x0 x1 = some r) : ST l yX4_steps cX4_steps 2 (some .int) 1 21 [.int x0, .int x1] (.int r) := by
  refine ST.mk (by decide) (Nat.le_of_ble_eq_true rfl) ?_
  intro p e s m below meth c B hr hlk ls hl
  exact wM_steps B hf (fun r h pc ls hd => by cases h; exact w_iretR B hr hlk rfl hd) hl
theorem cM_steps (B : CallFix p m c cc nL s args lw_all RX4) {x0 : Int32} {x1 : Int32} {r : Int32} (hf : fM_steps x0 x1 = some r) (hR : 1 + 1 ≤ R.frames ∧ 42 ≤ R.locals) (hcs : cells ≤ R.cells ∧ slots ≤ R.slots) (hl : ls.size = nL) (hcat : (st.map fun v => v.category).sum ≤ 8) (hdg : decode cc pc = .ok (.invokestatic 210, 3)) (kk : W p l e R s m args below meth c H locs cells slots Q (F0 m (pc + 3) ls (.int r :: st))) : W p l e R s m args below meth c H locs cells slots Q (F0 m pc ls (.int x1 :: .int x0 :: st)) :=
  w_afterR (w_rS_ST (As := [.int x0, .int x1]) B (tM_steps l x0 x1 r hf) (lw_S q1547 q1548 q91 q1549) (n := 2) (by decide +kernel) hR hcs rfl hl rfl hcat hdg) kk
end S_steps

section S_wayBy
variable {p : Program} {l : Launch} {e : Env} {R : Room} {s : State} {m : MethodId} {args : Array Value} {below : List Frame} {meth : Method} {c : Code} {H : Heap} {locs : List Loc} {cells slots : Nat} {Q : State → Prop} {cc : ByteArray} {nL pc : Nat} {ls : Array Slot} {st : List Value} {X : CX} {a : Nat → Nat} {w : MW} {rest : va_W}
noncomputable def fM_wayBy (x0 : Int32) (x1 : Int32) : Option (Int32) :=
  (some (iabs x0)).bind fun x_1 =>
  (some (iabs x1)).bind fun x_3 =>
  if (x_1 + x_3) = 0 then
    some 8
  else
    if x_1 ≤ (2 * x_3) then
      if x_3 ≤ (2 * x_1) then
        if x1 ≤ 0 then
          if x0 ≤ 0 then
            some 7
          else
            some 5
        else
          if 0 ≤ x0 then
            some 3
          else
            some 1
      else
        if x1 ≤ 0 then
          some 6
        else
          some 2
    else
      if 0 ≤ x0 then
        some 4
      else
        some 0

set_option maxHeartbeats 4000000 in
theorem wM_wayBy (B : CallFix p m c cX4_wayBy 4 s args lw_all RX4) {x0 : Int32} {x1 : Int32} {res : Int32} (hf : fM_wayBy x0 x1 = some res) (kr : ∀ (r : Int32), res = r → ∀ (pc : Nat) (ls : Array Slot), decode cX4_wayBy pc = .ok (.ireturn, 1) → W p l e (RM 1 21) s m args below meth c s.heap [] 0 0 Q (F0 m pc ls [.int r])) {ls : Array Slot} (hl : lv_has ls 4 [(0, .int x0), (1, .int x1)]) : W p l e (RM 1 21) s m args below meth c s.heap [] 0 0 Q (F0 m 0 ls []) := by
  have hx := B.1
  have hb := B.2.1
  unfold fM_wayBy at hf
  refine lv_iload_n hx hb dX4_wayBy_0 rfl (lv_at hl 0 rfl) ?_
  refine w_abs B hl.1 q1550 q531 q104 q532 (Nat.le_of_ble_eq_true rfl) (Nat.le_of_ble_eq_true rfl) (Nat.le_of_ble_eq_true rfl) (Nat.zero_le _) (Nat.zero_le _) dX4_wayBy_1 ?_
  obtain ⟨x_1, e_2, hf⟩ := bo hf
  refine w_istore_n (lv' := [(2, .int x_1), (0, .int x0), (1, .int x1)]) e_2 hx hb dX4_wayBy_4 rfl hl (by decide) rfl (fun ls hl => ?_)
  refine lv_iload_n hx hb dX4_wayBy_5 rfl (lv_at hl 2 rfl) ?_
  refine w_abs B hl.1 q1550 q531 q104 q532 (Nat.le_of_ble_eq_true rfl) (Nat.le_of_ble_eq_true rfl) (Nat.le_of_ble_eq_true rfl) (Nat.zero_le _) (Nat.zero_le _) dX4_wayBy_6 ?_
  obtain ⟨x_3, e_4, hf⟩ := bo hf
  refine w_istore_n (lv' := [(3, .int x_3), (2, .int x_1), (0, .int x0), (1, .int x1)]) e_4 hx hb dX4_wayBy_9 rfl hl (by decide) rfl (fun ls hl => ?_)
  refine lv_iload_n hx hb dX4_wayBy_10 rfl (lv_at hl 1 rfl) ?_
  refine lv_iload_n hx hb dX4_wayBy_11 rfl (lv_at hl 0 rfl) ?_
  refine lv_iadd hx hb dX4_wayBy_12 ?_
  refine lv_if_ne (tgt := 19) hx hb dX4_wayBy_13 (by decide) (fun c_5 => ?_) (fun c_5 => ?_)
  · have hf := ifn c_5 hf
    refine lv_iconst (v := 2) hx hb dX4_wayBy_19 (by decide) ?_
    refine lv_iload_n hx hb dX4_wayBy_20 rfl (lv_at hl 0 rfl) ?_
    refine lv_imul hx hb dX4_wayBy_21 ?_
    refine lv_iload_n hx hb dX4_wayBy_22 rfl (lv_at hl 1 rfl) ?_
    refine lv_icmp_ge (tgt := 36) hx hb dX4_wayBy_23 (by decide) (fun c_6 => ?_) (fun c_6 => ?_)
    · have hf := ifp c_6 hf
      refine lv_iconst (v := 2) hx hb dX4_wayBy_36 (by decide) ?_
      refine lv_iload_n hx hb dX4_wayBy_37 rfl (lv_at hl 1 rfl) ?_
      refine lv_imul hx hb dX4_wayBy_38 ?_
      refine lv_iload_n hx hb dX4_wayBy_39 rfl (lv_at hl 0 rfl) ?_
      refine lv_icmp_ge (tgt := 54) hx hb dX4_wayBy_40 (by decide) (fun c_7 => ?_) (fun c_7 => ?_)
      · have hf := ifp c_7 hf
        refine lv_iload_n hx hb dX4_wayBy_54 rfl (lv_at hl 3 rfl) ?_
        refine lv_if_le (tgt := 68) hx hb dX4_wayBy_55 (by decide) (fun c_8 => ?_) (fun c_8 => ?_)
        · have hf := ifp c_8 hf
          refine lv_iload_n hx hb dX4_wayBy_68 rfl (lv_at hl 2 rfl) ?_
          refine lv_if_le (tgt := 76) hx hb dX4_wayBy_69 (by decide) (fun c_9 => ?_) (fun c_9 => ?_)
          · have hf := ifp c_9 hf
            refine lv_bipush (v := 7) hx hb dX4_wayBy_76 (by decide) ?_
            exact kr _ (Option.some.inj hf).symm _ _ dX4_wayBy_78
          · have hf := ifn c_9 hf
            refine lv_iconst (v := 5) hx hb dX4_wayBy_72 (by decide) ?_
            refine lv_goto (tgt := 78) hx hb dX4_wayBy_73 (by decide) ?_
            exact kr _ (Option.some.inj hf).symm _ _ dX4_wayBy_78
        · have hf := ifn c_8 hf
          refine lv_iload_n hx hb dX4_wayBy_58 rfl (lv_at hl 2 rfl) ?_
          refine lv_if_ge (tgt := 66) hx hb dX4_wayBy_59 (by decide) (fun c_10 => ?_) (fun c_10 => ?_)
          · have hf := ifp c_10 hf
            refine lv_iconst (v := 3) hx hb dX4_wayBy_66 (by decide) ?_
            exact kr _ (Option.some.inj hf).symm _ _ dX4_wayBy_67
          · have hf := ifn c_10 hf
            refine lv_iconst (v := 1) hx hb dX4_wayBy_62 (by decide) ?_
            refine lv_goto (tgt := 67) hx hb dX4_wayBy_63 (by decide) ?_
            exact kr _ (Option.some.inj hf).symm _ _ dX4_wayBy_67
      · have hf := ifn c_7 hf
        refine lv_iload_n hx hb dX4_wayBy_43 rfl (lv_at hl 3 rfl) ?_
        refine lv_if_le (tgt := 51) hx hb dX4_wayBy_44 (by decide) (fun c_11 => ?_) (fun c_11 => ?_)
        · have hf := ifp c_11 hf
          refine lv_bipush (v := 6) hx hb dX4_wayBy_51 (by decide) ?_
          exact kr _ (Option.some.inj hf).symm _ _ dX4_wayBy_53
        · have hf := ifn c_11 hf
          refine lv_iconst (v := 2) hx hb dX4_wayBy_47 (by decide) ?_
          refine lv_goto (tgt := 53) hx hb dX4_wayBy_48 (by decide) ?_
          exact kr _ (Option.some.inj hf).symm _ _ dX4_wayBy_53
    · have hf := ifn c_6 hf
      refine lv_iload_n hx hb dX4_wayBy_26 rfl (lv_at hl 2 rfl) ?_
      refine lv_if_ge (tgt := 34) hx hb dX4_wayBy_27 (by decide) (fun c_12 => ?_) (fun c_12 => ?_)
      · have hf := ifp c_12 hf
        refine lv_iconst (v := 4) hx hb dX4_wayBy_34 (by decide) ?_
        exact kr _ (Option.some.inj hf).symm _ _ dX4_wayBy_35
      · have hf := ifn c_12 hf
        refine lv_iconst (v := 0) hx hb dX4_wayBy_30 (by decide) ?_
        refine lv_goto (tgt := 35) hx hb dX4_wayBy_31 (by decide) ?_
        exact kr _ (Option.some.inj hf).symm _ _ dX4_wayBy_35
  · have hf := ifp c_5 hf
    refine lv_bipush (v := 8) hx hb dX4_wayBy_16 (by decide) ?_
    exact kr _ (Option.some.inj hf).symm _ _ dX4_wayBy_18

theorem tM_wayBy (l : Launch) (x0 : Int32) (x1 : Int32) (r : Int32) (hf : fM_wayBy x0 x1 = some r) : ST l yX4_wayBy cX4_wayBy 4 (some .int) 1 21 [.int x0, .int x1] (.int r) := by
  refine ST.mk (by decide) (Nat.le_of_ble_eq_true rfl) ?_
  intro p e s m below meth c B hr hlk ls hl
  exact wM_wayBy B hf (fun r h pc ls hd => by cases h; exact w_iretR B hr hlk rfl hd) hl
theorem cM_wayBy (B : CallFix p m c cc nL s args lw_all RX4) {x0 : Int32} {x1 : Int32} {r : Int32} (hf : fM_wayBy x0 x1 = some r) (hR : 1 + 1 ≤ R.frames ∧ 44 ≤ R.locals) (hcs : cells ≤ R.cells ∧ slots ≤ R.slots) (hl : ls.size = nL) (hcat : (st.map fun v => v.category).sum ≤ 8) (hdg : decode cc pc = .ok (.invokestatic 201, 3)) (kk : W p l e R s m args below meth c H locs cells slots Q (F0 m (pc + 3) ls (.int r :: st))) : W p l e R s m args below meth c H locs cells slots Q (F0 m pc ls (.int x1 :: .int x0 :: st)) :=
  w_afterR (w_rS_ST (As := [.int x0, .int x1]) B (tM_wayBy l x0 x1 r hf) (lw_S q1554 q1555 q91 q1556) (n := 2) (by decide +kernel) hR hcs rfl hl rfl hcat hdg) kk
end S_wayBy

section S_wayTo
variable {p : Program} {l : Launch} {e : Env} {R : Room} {s : State} {m : MethodId} {args : Array Value} {below : List Frame} {meth : Method} {c : Code} {H : Heap} {locs : List Loc} {cells slots : Nat} {Q : State → Prop} {cc : ByteArray} {nL pc : Nat} {ls : Array Slot} {st : List Value} {X : CX} {a : Nat → Nat} {w : MW} {rest : va_W}
noncomputable def fM_wayTo (x0 : Int32) (x1 : Int32) : Option (Int32) :=
  (fM_wayBy ((x1 / 10) - (x0 / 10)) ((irem x1 10) - (irem x0 10))).bind fun r_1 =>
  some r_1

set_option maxHeartbeats 4000000 in
theorem wM_wayTo (B : CallFix p m c cX4_wayTo 2 s args lw_all RX4) {x0 : Int32} {x1 : Int32} {res : Int32} (hf : fM_wayTo x0 x1 = some res) (kr : ∀ (r : Int32), res = r → ∀ (pc : Nat) (ls : Array Slot), decode cX4_wayTo pc = .ok (.ireturn, 1) → W p l e (RM 2 44) s m args below meth c s.heap [] 0 0 Q (F0 m pc ls [.int r])) {ls : Array Slot} (hl : lv_has ls 2 [(0, .int x0), (1, .int x1)]) : W p l e (RM 2 44) s m args below meth c s.heap [] 0 0 Q (F0 m 0 ls []) := by
  have hx := B.1
  have hb := B.2.1
  unfold fM_wayTo at hf
  refine lv_iload_n hx hb dX4_wayTo_0 rfl (lv_at hl 1 rfl) ?_
  refine lv_bipush (v := 10) hx hb dX4_wayTo_1 (by decide) ?_
  refine lv_idiv hx hb dX4_wayTo_3 (by decide) ?_
  refine lv_iload_n hx hb dX4_wayTo_4 rfl (lv_at hl 0 rfl) ?_
  refine lv_bipush (v := 10) hx hb dX4_wayTo_5 (by decide) ?_
  refine lv_idiv hx hb dX4_wayTo_7 (by decide) ?_
  refine lv_isub hx hb dX4_wayTo_8 ?_
  refine lv_iload_n hx hb dX4_wayTo_9 rfl (lv_at hl 1 rfl) ?_
  refine lv_bipush (v := 10) hx hb dX4_wayTo_10 (by decide) ?_
  refine w_irem hx hb dX4_wayTo_12 (by decide) ?_
  refine lv_iload_n hx hb dX4_wayTo_13 rfl (lv_at hl 0 rfl) ?_
  refine lv_bipush (v := 10) hx hb dX4_wayTo_14 (by decide) ?_
  refine w_irem hx hb dX4_wayTo_16 (by decide) ?_
  refine lv_isub hx hb dX4_wayTo_17 ?_
  obtain ⟨r_1, e_2, hf⟩ := bo hf
  refine cM_wayBy B e_2 ⟨Nat.le_of_ble_eq_true rfl, Nat.le_of_ble_eq_true rfl⟩ ⟨Nat.zero_le _, Nat.zero_le _⟩ hl.1 (Nat.le_of_ble_eq_true rfl) dX4_wayTo_18 ?_
  exact kr _ (Option.some.inj hf).symm _ _ dX4_wayTo_21

theorem tM_wayTo (l : Launch) (x0 : Int32) (x1 : Int32) (r : Int32) (hf : fM_wayTo x0 x1 = some r) : ST l yX4_wayTo cX4_wayTo 2 (some .int) 2 44 [.int x0, .int x1] (.int r) := by
  refine ST.mk (by decide) (Nat.le_of_ble_eq_true rfl) ?_
  intro p e s m below meth c B hr hlk ls hl
  exact wM_wayTo B hf (fun r h pc ls hd => by cases h; exact w_iretR B hr hlk rfl hd) hl
theorem cM_wayTo (B : CallFix p m c cc nL s args lw_all RX4) {x0 : Int32} {x1 : Int32} {r : Int32} (hf : fM_wayTo x0 x1 = some r) (hR : 2 + 1 ≤ R.frames ∧ 65 ≤ R.locals) (hcs : cells ≤ R.cells ∧ slots ≤ R.slots) (hl : ls.size = nL) (hcat : (st.map fun v => v.category).sum ≤ 8) (hdg : decode cc pc = .ok (.invokestatic 213, 3)) (kk : W p l e R s m args below meth c H locs cells slots Q (F0 m (pc + 3) ls (.int r :: st))) : W p l e R s m args below meth c H locs cells slots Q (F0 m pc ls (.int x1 :: .int x0 :: st)) :=
  w_afterR (w_rS_ST (As := [.int x0, .int x1]) B (tM_wayTo l x0 x1 r hf) (lw_S q1551 q1552 q91 q1553) (n := 2) (by decide +kernel) hR hcs rfl hl rfl hcat hdg) kk
end S_wayTo

section S_keenArm
variable {p : Program} {l : Launch} {e : Env} {R : Room} {s : State} {m : MethodId} {args : Array Value} {below : List Frame} {meth : Method} {c : Code} {H : Heap} {locs : List Loc} {cells slots : Nat} {Q : State → Prop} {cc : ByteArray} {nL pc : Nat} {ls : Array Slot} {st : List Value} {X : CX} {a : Nat → Nat} {w : MW} {rest : va_W}
noncomputable def fM_keenArm_L13 (w : MW) (x1 : Int32) (x2 : Int32) (x3 : Int32) : Option ((Int32 × Int32) ⊕ (Int32)) :=
  if (w.1 24) ≤ x3 then
    some (.inr x2)
  else
    (rd (w.2.1 6) 9 x1).bind fun v_2 =>
    (rd (w.2.1 25) 4 x3).bind fun v_4 =>
    (fM_steps v_2 v_4).bind fun r_6 =>
    (rd (w.2.1 6) 9 x1).bind fun v_8 =>
    (rd (w.2.1 25) 4 x2).bind fun v_10 =>
    (fM_steps v_8 v_10).bind fun r_12 =>
    if r_12 ≤ r_6 then
      (some (x3 + 1)).bind fun x_15 =>
      some (.inl (x2, x_15))
    else
      (some (x3 + 1)).bind fun x_17 =>
      some (.inl (x3, x_17))

set_option maxHeartbeats 4000000 in
theorem wM_keenArm_L13 (B : CallFix p m c cX4_keenArm 4 s args lw_all RX4) (hK : KK X s) {w : MW} (hP : va_P X.2.2.1 vwCl (MP X a w ++ rest) s.heap) {x1 : Int32} {x2 : Int32} {x3 : Int32} {res : (Int32 × Int32) ⊕ (Int32)} (hf : fM_keenArm_L13 w x1 x2 x3 = some res) (kc : ∀ (y2 : Int32) (y3 : Int32), res = .inl (y2, y3) → ∀ (ls : Array Slot), lv_has ls 4 [(0, .ref (a 0)), (1, .int x1), (2, .int y2), (3, .int y3)] → W p l e (RM 3 65) s m args below meth c s.heap [] 0 0 Q (F0 m 13 ls [])) (ke62 : ∀ (y2 : Int32), res = .inr y2 → ∀ (ls : Array Slot), lv_has ls 4 [(0, .ref (a 0)), (1, .int x1), (2, .int y2)] → W p l e (RM 3 65) s m args below meth c s.heap [] 0 0 Q (F0 m 62 ls [])) {ls : Array Slot} (hl : lv_has ls 4 [(0, .ref (a 0)), (1, .int x1), (2, .int x2), (3, .int x3)]) : W p l e (RM 3 65) s m args below meth c s.heap [] 0 0 Q (F0 m 13 ls []) := by
  have hx := B.1
  have hb := B.2.1
  unfold fM_keenArm_L13 at hf
  refine lv_iload_n hx hb dX4_keenArm_13 rfl (lv_at hl 3 rfl) ?_
  refine lv_aload_n hx hb dX4_keenArm_14 rfl (lv_at hl 0 rfl) ?_
  refine mo_g24 B hK hP dX4_keenArm_15 ?_
  refine lv_icmp_ge (tgt := 62) hx hb dX4_keenArm_18 (by decide) (fun c_1 => ?_) (fun c_1 => ?_)
  · have hf := ifp c_1 hf
    exact ke62 _ (Option.some.inj hf).symm _ (lv_sub hl [0, 1, 2] rfl)
  · have hf := ifn c_1 hf
    refine lv_aload_n hx hb dX4_keenArm_21 rfl (lv_at hl 0 rfl) ?_
    refine mo_g6 B hK hP dX4_keenArm_22 ?_
    refine lv_iload_n hx hb dX4_keenArm_25 rfl (lv_at hl 1 rfl) ?_
    obtain ⟨v_2, e_3, hf⟩ := bo hf
    refine mo_ld6 B hK hP e_3 dX4_keenArm_26 ?_
    refine lv_aload_n hx hb dX4_keenArm_27 rfl (lv_at hl 0 rfl) ?_
    refine mo_g25 B hK hP dX4_keenArm_28 ?_
    refine lv_iload_n hx hb dX4_keenArm_31 rfl (lv_at hl 3 rfl) ?_
    obtain ⟨v_4, e_5, hf⟩ := bo hf
    refine mo_ld25 B hK hP e_5 dX4_keenArm_32 ?_
    obtain ⟨r_6, e_7, hf⟩ := bo hf
    refine cM_steps B e_7 ⟨Nat.le_of_ble_eq_true rfl, Nat.le_of_ble_eq_true rfl⟩ ⟨Nat.zero_le _, Nat.zero_le _⟩ hl.1 (Nat.le_of_ble_eq_true rfl) dX4_keenArm_33 ?_
    refine lv_aload_n hx hb dX4_keenArm_36 rfl (lv_at hl 0 rfl) ?_
    refine mo_g6 B hK hP dX4_keenArm_37 ?_
    refine lv_iload_n hx hb dX4_keenArm_40 rfl (lv_at hl 1 rfl) ?_
    obtain ⟨v_8, e_9, hf⟩ := bo hf
    refine mo_ld6 B hK hP e_9 dX4_keenArm_41 ?_
    refine lv_aload_n hx hb dX4_keenArm_42 rfl (lv_at hl 0 rfl) ?_
    refine mo_g25 B hK hP dX4_keenArm_43 ?_
    refine lv_iload_n hx hb dX4_keenArm_46 rfl (lv_at hl 2 rfl) ?_
    obtain ⟨v_10, e_11, hf⟩ := bo hf
    refine mo_ld25 B hK hP e_11 dX4_keenArm_47 ?_
    obtain ⟨r_12, e_13, hf⟩ := bo hf
    refine cM_steps B e_13 ⟨Nat.le_of_ble_eq_true rfl, Nat.le_of_ble_eq_true rfl⟩ ⟨Nat.zero_le _, Nat.zero_le _⟩ hl.1 (Nat.le_of_ble_eq_true rfl) dX4_keenArm_48 ?_
    refine lv_icmp_ge (tgt := 56) hx hb dX4_keenArm_51 (by decide) (fun c_14 => ?_) (fun c_14 => ?_)
    · have hf := ifp c_14 hf
      obtain ⟨x_15, e_16, hf⟩ := bo hf
      refine w_iinc (k := 3) (lv' := [(3, .int x_15), (0, .ref (a 0)), (1, .int x1), (2, .int x2)]) e_16 hx hb dX4_keenArm_56 hl rfl (by decide) rfl (fun ls hl => ?_)
      refine lv_goto (tgt := 13) hx hb dX4_keenArm_59 (by decide) ?_
      exact kc _ _ (Option.some.inj hf).symm _ (lv_sub hl [1, 2, 3, 0] rfl)
    · have hf := ifn c_14 hf
      refine lv_iload_n hx hb dX4_keenArm_54 rfl (lv_at hl 3 rfl) ?_
      refine lv_istore_n (lv' := [(2, .int x3), (0, .ref (a 0)), (1, .int x1), (3, .int x3)]) hx hb dX4_keenArm_55 rfl hl (by decide) rfl (fun ls hl => ?_)
      obtain ⟨x_17, e_18, hf⟩ := bo hf
      refine w_iinc (k := 3) (lv' := [(3, .int x_17), (2, .int x3), (0, .ref (a 0)), (1, .int x1)]) e_18 hx hb dX4_keenArm_56 hl rfl (by decide) rfl (fun ls hl => ?_)
      refine lv_goto (tgt := 13) hx hb dX4_keenArm_59 (by decide) ?_
      exact kc _ _ (Option.some.inj hf).symm _ (lv_sub hl [2, 3, 1, 0] rfl)

set_option maxHeartbeats 4000000 in
theorem vM_keenArm_L13 (B : CallFix p m c cX4_keenArm 4 s args lw_all RX4) (hK : KK X s) {w : MW} (hP : va_P X.2.2.1 vwCl (MP X a w ++ rest) s.heap) {x1 : Int32} {x2 : Int32} {x3 : Int32} {res : Int32} (hf : lp (fun q : Int32 × Int32 => fM_keenArm_L13 w x1 q.1 q.2) (x2, x3) = some res) (ke62 : ∀ (y2 : Int32), res = y2 → ∀ (ls : Array Slot), lv_has ls 4 [(0, .ref (a 0)), (1, .int x1), (2, .int y2)] → W p l e (RM 3 65) s m args below meth c s.heap [] 0 0 Q (F0 m 62 ls [])) {ls : Array Slot} (hl : lv_has ls 4 [(0, .ref (a 0)), (1, .int x1), (2, .int x2), (3, .int x3)]) : W p l e (RM 3 65) s m args below meth c s.heap [] 0 0 Q (F0 m 13 ls []) := by
  refine lp_ind (r := res) (P := fun q : Int32 × Int32 => ∀ (ls : Array Slot), lv_has ls 4 [(0, .ref (a 0)), (1, .int x1), (2, .int q.1), (3, .int q.2)] → W p l e (RM 3 65) s m args below meth c s.heap [] 0 0 Q (F0 m 13 ls [])) ?_ ?_ _ hf _ hl
  · intro q hb ls hl
    exact wM_keenArm_L13 B hK hP hb (fun _ _ h => by cases h) (fun z0 h => ke62 z0 (Sum.inr.inj h)) hl
  · intro q q2 hb ih ls hl
    exact wM_keenArm_L13 B hK hP hb (fun z0 z1 h => by cases h; exact fun ls hl => ih ls hl) (fun _ h => by cases h) hl

noncomputable def fM_keenArm (w : MW) (x1 : Int32) : Option (Int32) :=
  if (w.1 24) = 0 then
    some (-1)
  else
    (lp (fun q : Int32 × Int32 => fM_keenArm_L13 w x1 q.1 q.2) (0, 1)).bind (
      fun q_9 => (fun (y_2 : Int32) =>
        (rd (w.2.1 6) 9 x1).bind fun v_3 =>
        (rd (w.2.1 25) 4 y_2).bind fun v_5 =>
        (fM_wayTo v_3 v_5).bind fun r_7 =>
        some r_7
      ) q_9
    )

set_option maxHeartbeats 4000000 in
theorem wM_keenArm (B : CallFix p m c cX4_keenArm 4 s args lw_all RX4) (hK : KK X s) {w : MW} (hP : va_P X.2.2.1 vwCl (MP X a w ++ rest) s.heap) {x1 : Int32} {res : Int32} (hf : fM_keenArm w x1 = some res) (kr : ∀ (r : Int32), res = r → ∀ (pc : Nat) (ls : Array Slot), decode cX4_keenArm pc = .ok (.ireturn, 1) → W p l e (RM 3 65) s m args below meth c s.heap [] 0 0 Q (F0 m pc ls [.int r])) {ls : Array Slot} (hl : lv_has ls 4 [(0, .ref (a 0)), (1, .int x1)]) : W p l e (RM 3 65) s m args below meth c s.heap [] 0 0 Q (F0 m 0 ls []) := by
  have hx := B.1
  have hb := B.2.1
  unfold fM_keenArm at hf
  refine lv_aload_n hx hb dX4_keenArm_0 rfl (lv_at hl 0 rfl) ?_
  refine mo_g24 B hK hP dX4_keenArm_1 ?_
  refine lv_if_ne (tgt := 9) hx hb dX4_keenArm_4 (by decide) (fun c_1 => ?_) (fun c_1 => ?_)
  · have hf := ifn c_1 hf
    refine lv_iconst (v := 0) hx hb dX4_keenArm_9 (by decide) ?_
    refine lv_istore_n (lv' := [(2, .int 0), (0, .ref (a 0)), (1, .int x1)]) hx hb dX4_keenArm_10 rfl hl (by decide) rfl (fun ls hl => ?_)
    refine lv_iconst (v := 1) hx hb dX4_keenArm_11 (by decide) ?_
    refine lv_istore_n (lv' := [(3, .int 1), (2, .int 0), (0, .ref (a 0)), (1, .int x1)]) hx hb dX4_keenArm_12 rfl hl (by decide) rfl (fun ls hl => ?_)
    obtain ⟨y_2, e_10, hf⟩ := bo hf
    try dsimp only at hf
    refine vM_keenArm_L13 B hK hP e_10 ?_ (lv_sub hl [2, 3, 1, 0] rfl)
    intro z0 hz
    cases hz
    intro ls hl
    refine lv_aload_n hx hb dX4_keenArm_62 rfl (lv_at hl 0 rfl) ?_
    refine mo_g6 B hK hP dX4_keenArm_63 ?_
    refine lv_iload_n hx hb dX4_keenArm_66 rfl (lv_at hl 1 rfl) ?_
    obtain ⟨v_3, e_4, hf⟩ := bo hf
    refine mo_ld6 B hK hP e_4 dX4_keenArm_67 ?_
    refine lv_aload_n hx hb dX4_keenArm_68 rfl (lv_at hl 0 rfl) ?_
    refine mo_g25 B hK hP dX4_keenArm_69 ?_
    refine lv_iload_n hx hb dX4_keenArm_72 rfl (lv_at hl 2 rfl) ?_
    obtain ⟨v_5, e_6, hf⟩ := bo hf
    refine mo_ld25 B hK hP e_6 dX4_keenArm_73 ?_
    obtain ⟨r_7, e_8, hf⟩ := bo hf
    refine cM_wayTo B e_8 ⟨Nat.le_of_ble_eq_true rfl, Nat.le_of_ble_eq_true rfl⟩ ⟨Nat.zero_le _, Nat.zero_le _⟩ hl.1 (Nat.le_of_ble_eq_true rfl) dX4_keenArm_74 ?_
    exact kr _ (Option.some.inj hf).symm _ _ dX4_keenArm_77
  · have hf := ifp c_1 hf
    refine lv_iconst (v := (-1)) hx hb dX4_keenArm_7 (by decide) ?_
    exact kr _ (Option.some.inj hf).symm _ _ dX4_keenArm_8

theorem tM_keenArm (l : Launch) (X : CX) (a : Nat → Nat) (rest : va_W) (w : MW) (x1 : Int32) (r : Int32) (hf : fM_keenArm w x1 = some r) : RO l yX4_keenArm cX4_keenArm 4 (some .int) 3 65 [.ref (a 0), .int x1] X (MP X a w ++ rest) (some (.int r)) := by
  refine RO.mk (by decide) (Nat.le_of_ble_eq_true rfl) ?_
  intro p e s m below meth c B hr hlk hK hP ls hl
  exact wM_keenArm B hK hP hf (fun r h pc ls hd => by cases h; exact w_iretR B hr hlk rfl hd) hl
theorem cM_keenArm (B : CallFix p m c cc nL s args lw_all RX4) (hK : KK X s) (hS : va_S (Az X) s.heap H locs) (hP : va_P X.2.2.1 vwCl (MP X a w ++ rest) H) {x1 : Int32} {r : Int32} (hf : fM_keenArm w x1 = some r) (hR : 3 + 1 ≤ R.frames ∧ 88 ≤ R.locals) (hcs : cells ≤ R.cells ∧ slots ≤ R.slots) (hl : ls.size = nL) (hcat : (st.map fun v => v.category).sum ≤ 8) (hdg : decode cc pc = .ok (.invokevirtual 219, 3)) (kk : W p l e R s m args below meth c H locs cells slots Q (F0 m (pc + 3) ls (.int r :: st))) : W p l e R s m args below meth c H locs cells slots Q (F0 m pc ls (.int x1 :: .ref (a 0) :: st)) :=
  w_afterR (w_rV_RO (As := [.int x1]) B hK hS hP (tM_keenArm l X a rest w x1 r hf) (lw_V q1543 q1545 qs42 q91 q1546) 0 rfl rfl (n := 1) (by decide +kernel) hR hcs rfl hl rfl hcat hdg) kk
end S_keenArm
