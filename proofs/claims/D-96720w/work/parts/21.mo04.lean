set_option maxRecDepth 100000
section S_apart
variable {p : Program} {l : Launch} {e : Env} {R : Room} {s : State} {m : MethodId} {args : Array Value} {below : List Frame} {meth : Method} {c : Code} {H : Heap} {locs : List Loc} {cells slots : Nat} {Q : State → Prop} {cc : ByteArray} {nL pc : Nat} {ls : Array Slot} {st : List Value} {X : CX} {a : Nat → Nat} {w : MW} {rest : va_W}
noncomputable def fM_apart_L40 (w : MW) (x1 : Int32) (x2 : Int32) (x3 : Int32) (x4 : Int32) : Option ((Int32 × Int32) ⊕ (Int32)) :=
  if x2 ≤ x4 then
    some (.inr x3)
  else
    (fM_sizeOf w x4).bind fun r_2 =>
    (some (imax x3 r_2)).bind fun x_4 =>
    (some (x4 + 1)).bind fun x_6 =>
    some (.inl (x_4, x_6))

set_option maxHeartbeats 4000000 in
theorem wM_apart_L40 (B : CallFix p m c cX4_apart 5 s args lw_all RX4) (hK : KK X s) {w : MW} {x1 : Int32} {x2 : Int32} {x3 : Int32} {x4 : Int32} {res : (Int32 × Int32) ⊕ (Int32)} (hf : fM_apart_L40 w x1 x2 x3 x4 = some res) (kc : ∀ (y3 : Int32) (y4 : Int32), res = .inl (y3, y4) → ∀ (H : Heap) (locs : List Loc), GG X (MP X a w ++ rest) s.heap H locs → ∀ (ls : Array Slot), lv_has ls 5 [(0, .ref (a 0)), (1, .int x1), (2, .int x2), (3, .int y3), (4, .int y4)] → W p l e (RMw 9 0 0 198) s m args below meth c H locs 0 0 Q (F0 m 40 ls [])) (ke63 : ∀ (y3 : Int32), res = .inr y3 → ∀ (H : Heap) (locs : List Loc), GG X (MP X a w ++ rest) s.heap H locs → ∀ (ls : Array Slot), lv_has ls 5 [(1, .int x1), (2, .int x2), (3, .int y3)] → W p l e (RMw 9 0 0 198) s m args below meth c H locs 0 0 Q (F0 m 63 ls [])) {H : Heap} {locs : List Loc} (hG : GG X (MP X a w ++ rest) s.heap H locs) {ls : Array Slot} (hl : lv_has ls 5 [(0, .ref (a 0)), (1, .int x1), (2, .int x2), (3, .int x3), (4, .int x4)]) : W p l e (RMw 9 0 0 198) s m args below meth c H locs 0 0 Q (F0 m 40 ls []) := by
  have hx := B.1
  have hb := B.2.1
  unfold fM_apart_L40 at hf
  refine lv_iload hx hb dX4_apart_40 (lv_at hl 4 rfl) ?_
  refine lv_iload_n hx hb dX4_apart_42 rfl (lv_at hl 2 rfl) ?_
  refine lv_icmp_ge (tgt := 63) hx hb dX4_apart_43 (by decide) (fun c_1 => ?_) (fun c_1 => ?_)
  · have hf := ifp c_1 hf
    exact ke63 _ (Option.some.inj hf).symm _ _ hG _ (lv_sub hl [1, 2, 3] rfl)
  · have hf := ifn c_1 hf
    refine lv_iload_n hx hb dX4_apart_46 rfl (lv_at hl 3 rfl) ?_
    refine lv_aload_n hx hb dX4_apart_47 rfl (lv_at hl 0 rfl) ?_
    refine lv_iload hx hb dX4_apart_48 (lv_at hl 4 rfl) ?_
    obtain ⟨r_2, e_3, hf⟩ := bo hf
    refine cM_sizeOf B hK hG.2.2 hG.1 e_3 ⟨Nat.le_of_ble_eq_true rfl, Nat.le_of_ble_eq_true rfl⟩ ⟨Nat.zero_le _, Nat.zero_le _⟩ hl.1 (Nat.le_of_ble_eq_true rfl) dX4_apart_50 ?_
    refine w_max B hl.1 q1774 q813 q104 q814 (Nat.le_of_ble_eq_true rfl) (Nat.le_of_ble_eq_true rfl) (Nat.le_of_ble_eq_true rfl) (Nat.zero_le _) (Nat.zero_le _) dX4_apart_53 ?_
    obtain ⟨x_4, e_5, hf⟩ := bo hf
    refine w_istore_n (lv' := [(3, .int x_4), (0, .ref (a 0)), (1, .int x1), (2, .int x2), (4, .int x4)]) e_5 hx hb dX4_apart_56 rfl hl (by decide) rfl (fun ls hl => ?_)
    obtain ⟨x_6, e_7, hf⟩ := bo hf
    refine w_iinc (k := 4) (lv' := [(4, .int x_6), (3, .int x_4), (0, .ref (a 0)), (1, .int x1), (2, .int x2)]) e_7 hx hb dX4_apart_57 hl rfl (by decide) rfl (fun ls hl => ?_)
    refine lv_goto (tgt := 40) hx hb dX4_apart_60 (by decide) ?_
    exact kc _ _ (Option.some.inj hf).symm _ _ hG _ (lv_sub hl [2, 3, 4, 1, 0] rfl)

set_option maxHeartbeats 4000000 in
theorem vM_apart_L40 (B : CallFix p m c cX4_apart 5 s args lw_all RX4) (hK : KK X s) {w : MW} {x1 : Int32} {x2 : Int32} {x3 : Int32} {x4 : Int32} {res : Int32} (hf : lp (fun q : Int32 × Int32 => fM_apart_L40 w x1 x2 q.1 q.2) (x3, x4) = some res) (ke63 : ∀ (y3 : Int32), res = y3 → ∀ (H : Heap) (locs : List Loc), GG X (MP X a w ++ rest) s.heap H locs → ∀ (ls : Array Slot), lv_has ls 5 [(1, .int x1), (2, .int x2), (3, .int y3)] → W p l e (RMw 9 0 0 198) s m args below meth c H locs 0 0 Q (F0 m 63 ls [])) {H : Heap} {locs : List Loc} (hG : GG X (MP X a w ++ rest) s.heap H locs) {ls : Array Slot} (hl : lv_has ls 5 [(0, .ref (a 0)), (1, .int x1), (2, .int x2), (3, .int x3), (4, .int x4)]) : W p l e (RMw 9 0 0 198) s m args below meth c H locs 0 0 Q (F0 m 40 ls []) := by
  refine lp_ind (r := res) (P := fun q : Int32 × Int32 => ∀ (H : Heap) (locs : List Loc) (ls : Array Slot), GG X (MP X a w ++ rest) s.heap H locs → lv_has ls 5 [(0, .ref (a 0)), (1, .int x1), (2, .int x2), (3, .int q.1), (4, .int q.2)] → W p l e (RMw 9 0 0 198) s m args below meth c H locs 0 0 Q (F0 m 40 ls [])) ?_ ?_ _ hf _ _ _ hG hl
  · intro q hb H locs ls hG hl
    exact wM_apart_L40 B hK hb (fun _ _ h => by cases h) (fun z0 h => ke63 z0 (Sum.inr.inj h)) hG hl
  · intro q q2 hb ih H locs ls hG hl
    exact wM_apart_L40 B hK hb (fun z0 z1 h => by cases h; exact fun H locs hG ls hl => ih H locs ls hG hl) (fun _ h => by cases h) hG hl

noncomputable def fM_apart (w : MW) (x1 : Int32) : Option (Int32 × MW) :=
  (fM_within x1 0 2).bind fun r_1 =>
  if r_1 = 0 then
    b2 (fM_no w (-2)) fun r_17 w_18 =>
    some (r_17, w_18)
  else
    if x1 = 2 then
      b2 (fM_blind w ) fun r_14 w_15 =>
      some (r_14, w_15)
    else
      (fM_allPosts w ).bind fun r_5 =>
      b2 (fM_groups w r_5) fun r_7 w_8 =>
      (lp (fun q : Int32 × Int32 => fM_apart_L40 w_8 x1 r_7 q.1 q.2) (0, 0)).bind (
        fun q_12 => (fun (y_10 : Int32) =>
          if x1 = 0 then
            some (r_7, w_8)
          else
            some (y_10, w_8)
        ) q_12
      )

set_option maxHeartbeats 4000000 in
theorem wM_apart (B : CallFix p m c cX4_apart 5 s args lw_all RX4) (hK : KK X s) {w : MW} {x1 : Int32} {res : Int32 × MW} (hf : fM_apart w x1 = some res) (kr : ∀ (r : Int32) (w1 : MW), res = (r, w1) → ∀ (H : Heap) (locs : List Loc), GG X (MP X a w1 ++ rest) s.heap H locs → ∀ (pc : Nat) (ls : Array Slot), decode cX4_apart pc = .ok (.ireturn, 1) → W p l e (RMw 9 0 0 198) s m args below meth c H locs 0 0 Q (F0 m pc ls [.int r])) {H : Heap} {locs : List Loc} (hG : GG X (MP X a w ++ rest) s.heap H locs) {ls : Array Slot} (hl : lv_has ls 5 [(0, .ref (a 0)), (1, .int x1)]) : W p l e (RMw 9 0 0 198) s m args below meth c H locs 0 0 Q (F0 m 0 ls []) := by
  have hx := B.1
  have hb := B.2.1
  unfold fM_apart at hf
  refine lv_iload_n hx hb dX4_apart_0 rfl (lv_at hl 1 rfl) ?_
  refine lv_iconst (v := 0) hx hb dX4_apart_1 (by decide) ?_
  refine lv_iconst (v := 2) hx hb dX4_apart_2 (by decide) ?_
  obtain ⟨r_1, e_2, hf⟩ := bo hf
  refine cM_within B e_2 ⟨Nat.le_of_ble_eq_true rfl, Nat.le_of_ble_eq_true rfl⟩ ⟨Nat.zero_le _, Nat.zero_le _⟩ hl.1 (Nat.le_of_ble_eq_true rfl) dX4_apart_3 ?_
  refine lv_if_ne (tgt := 16) hx hb dX4_apart_6 (by decide) (fun c_3 => ?_) (fun c_3 => ?_)
  · have hf := ifn c_3 hf
    refine lv_iload_n hx hb dX4_apart_16 rfl (lv_at hl 1 rfl) ?_
    refine lv_iconst (v := 2) hx hb dX4_apart_17 (by decide) ?_
    refine lv_icmp_ne (tgt := 26) hx hb dX4_apart_18 (by decide) (fun c_4 => ?_) (fun c_4 => ?_)
    · have hf := ifn c_4 hf
      refine lv_aload_n hx hb dX4_apart_26 rfl (lv_at hl 0 rfl) ?_
      refine lv_aload_n hx hb dX4_apart_27 rfl (lv_at hl 0 rfl) ?_
      obtain ⟨r_5, e_6, hf⟩ := bo hf
      refine cM_allPosts B hK hG.2.2 hG.1 e_6 ⟨Nat.le_of_ble_eq_true rfl, Nat.le_of_ble_eq_true rfl⟩ ⟨Nat.zero_le _, Nat.zero_le _⟩ hl.1 (Nat.le_of_ble_eq_true rfl) dX4_apart_28 ?_
      obtain ⟨r_7, w_8, e_9, hf⟩ := b2s hf
      refine cM_groups B hK hG e_9 ⟨Nat.le_of_ble_eq_true rfl, Nat.le_of_ble_eq_true rfl⟩ ⟨Nat.zero_le _, Nat.zero_le _⟩ hl.1 (Nat.le_of_ble_eq_true rfl) dX4_apart_31 (fun H locs hG => ?_)
      refine lv_istore_n (lv' := [(2, .int r_7), (0, .ref (a 0)), (1, .int x1)]) hx hb dX4_apart_34 rfl hl (by decide) rfl (fun ls hl => ?_)
      refine lv_iconst (v := 0) hx hb dX4_apart_35 (by decide) ?_
      refine lv_istore_n (lv' := [(3, .int 0), (2, .int r_7), (0, .ref (a 0)), (1, .int x1)]) hx hb dX4_apart_36 rfl hl (by decide) rfl (fun ls hl => ?_)
      refine lv_iconst (v := 0) hx hb dX4_apart_37 (by decide) ?_
      refine lv_istore (lv' := [(4, .int 0), (3, .int 0), (2, .int r_7), (0, .ref (a 0)), (1, .int x1)]) hx hb dX4_apart_38 hl (by decide) rfl (fun ls hl => ?_)
      obtain ⟨y_10, e_13, hf⟩ := bo hf
      try dsimp only at hf
      refine vM_apart_L40 B hK e_13 ?_ hG (lv_sub hl [3, 4, 2, 1, 0] rfl)
      intro z0 hz
      cases hz
      intro H locs hG ls hl
      refine lv_iload_n hx hb dX4_apart_63 rfl (lv_at hl 0 rfl) ?_
      refine lv_if_ne (tgt := 71) hx hb dX4_apart_64 (by decide) (fun c_11 => ?_) (fun c_11 => ?_)
      · have hf := ifn c_11 hf
        refine lv_iload_n hx hb dX4_apart_71 rfl (lv_at hl 2 rfl) ?_
        exact kr _ _ (Option.some.inj hf).symm _ _ hG _ _ dX4_apart_72
      · have hf := ifp c_11 hf
        refine lv_iload_n hx hb dX4_apart_67 rfl (lv_at hl 1 rfl) ?_
        refine lv_goto (tgt := 72) hx hb dX4_apart_68 (by decide) ?_
        exact kr _ _ (Option.some.inj hf).symm _ _ hG _ _ dX4_apart_72
    · have hf := ifp c_4 hf
      refine lv_aload_n hx hb dX4_apart_21 rfl (lv_at hl 0 rfl) ?_
      obtain ⟨r_14, w_15, e_16, hf⟩ := b2s hf
      refine cM_blind B hK hG e_16 ⟨Nat.le_of_ble_eq_true rfl, Nat.le_of_ble_eq_true rfl⟩ ⟨Nat.zero_le _, Nat.zero_le _⟩ hl.1 (Nat.le_of_ble_eq_true rfl) dX4_apart_22 (fun H locs hG => ?_)
      exact kr _ _ (Option.some.inj hf).symm _ _ hG _ _ dX4_apart_25
  · have hf := ifp c_3 hf
    refine lv_aload_n hx hb dX4_apart_9 rfl (lv_at hl 0 rfl) ?_
    refine lv_bipush (v := (-2)) hx hb dX4_apart_10 (by decide) ?_
    obtain ⟨r_17, w_18, e_19, hf⟩ := b2s hf
    refine cM_no B hK hG e_19 ⟨Nat.le_of_ble_eq_true rfl, Nat.le_of_ble_eq_true rfl⟩ ⟨Nat.zero_le _, Nat.zero_le _⟩ hl.1 (Nat.le_of_ble_eq_true rfl) dX4_apart_12 (fun H locs hG => ?_)
    exact kr _ _ (Option.some.inj hf).symm _ _ hG _ _ dX4_apart_15

theorem tM_apart (l : Launch) (X : CX) (a : Nat → Nat) (rest : va_W) (w w' : MW) (x1 : Int32) (r : Int32) (hf : fM_apart w x1 = some (r, w')) : RW l yX4_apart cX4_apart 5 (some .int) 9 0 0 198 [.ref (a 0), .int x1] X (MP X a w ++ rest) (MP X a w' ++ rest) (some (.int r)) := by
  refine RW.mk (by decide) (Nat.le_of_ble_eq_true rfl) ?_
  intro p e s m below meth c B hr hlk hK hG ls hl
  exact wM_apart B hK hf (fun r w h H locs hG pc ls hd => by cases h; exact w_iretW B hr hlk hG hd) hG hl
end S_apart

section S_bitCount
variable {p : Program} {l : Launch} {e : Env} {R : Room} {s : State} {m : MethodId} {args : Array Value} {below : List Frame} {meth : Method} {c : Code} {H : Heap} {locs : List Loc} {cells slots : Nat} {Q : State → Prop} {cc : ByteArray} {nL pc : Nat} {ls : Array Slot} {st : List Value} {X : CX} {a : Nat → Nat} {w : MW} {rest : va_W}
noncomputable def fM_bitCount (x0 : Int32) : Option (Int32) :=
  (some (x0 - ((iushr x0 1) &&& 1431655765))).bind fun x_1 =>
  (some ((x_1 &&& 858993459) + ((iushr x_1 2) &&& 858993459))).bind fun x_3 =>
  (some ((x_3 + (iushr x_3 4)) &&& 252645135)).bind fun x_5 =>
  (some (x_5 + (iushr x_5 8))).bind fun x_7 =>
  (some (x_7 + (iushr x_7 16))).bind fun x_9 =>
  some (x_9 &&& 63)

set_option maxHeartbeats 4000000 in
theorem wM_bitCount (B : CallFix p m c cJ18_bitCount 1 s args lw_all RJ18) {x0 : Int32} {res : Int32} (hf : fM_bitCount x0 = some res) (kr : ∀ (r : Int32), res = r → ∀ (pc : Nat) (ls : Array Slot), decode cJ18_bitCount pc = .ok (.ireturn, 1) → W p l e (RM 0 0) s m args below meth c s.heap [] 0 0 Q (F0 m pc ls [.int r])) {ls : Array Slot} (hl : lv_has ls 1 [(0, .int x0)]) : W p l e (RM 0 0) s m args below meth c s.heap [] 0 0 Q (F0 m 0 ls []) := by
  have hx := B.1
  have hb := B.2.1
  unfold fM_bitCount at hf
  refine lv_iload_n hx hb dJ18_bitCount_0 rfl (lv_at hl 0 rfl) ?_
  refine lv_iload_n hx hb dJ18_bitCount_1 rfl (lv_at hl 0 rfl) ?_
  refine lv_iconst (v := 1) hx hb dJ18_bitCount_2 (by decide) ?_
  refine w_iushr hx hb dJ18_bitCount_3 ?_
  refine lv_ldcw (v := 1431655765) hx hb B.2.2.2.1 (B.2.2.2.2 _ q1262) dJ18_bitCount_4 ?_
  refine lv_iand hx hb dJ18_bitCount_7 ?_
  refine lv_isub hx hb dJ18_bitCount_8 ?_
  obtain ⟨x_1, e_2, hf⟩ := bo hf
  refine w_istore_n (lv' := [(0, .int x_1)]) e_2 hx hb dJ18_bitCount_9 rfl hl (by decide) rfl (fun ls hl => ?_)
  refine lv_iload_n hx hb dJ18_bitCount_10 rfl (lv_at hl 0 rfl) ?_
  refine lv_ldcw (v := 858993459) hx hb B.2.2.2.1 (B.2.2.2.2 _ q1263) dJ18_bitCount_11 ?_
  refine lv_iand hx hb dJ18_bitCount_14 ?_
  refine lv_iload_n hx hb dJ18_bitCount_15 rfl (lv_at hl 0 rfl) ?_
  refine lv_iconst (v := 2) hx hb dJ18_bitCount_16 (by decide) ?_
  refine w_iushr hx hb dJ18_bitCount_17 ?_
  refine lv_ldcw (v := 858993459) hx hb B.2.2.2.1 (B.2.2.2.2 _ q1263) dJ18_bitCount_18 ?_
  refine lv_iand hx hb dJ18_bitCount_21 ?_
  refine lv_iadd hx hb dJ18_bitCount_22 ?_
  obtain ⟨x_3, e_4, hf⟩ := bo hf
  refine w_istore_n (lv' := [(0, .int x_3)]) e_4 hx hb dJ18_bitCount_23 rfl hl (by decide) rfl (fun ls hl => ?_)
  refine lv_iload_n hx hb dJ18_bitCount_24 rfl (lv_at hl 0 rfl) ?_
  refine lv_iload_n hx hb dJ18_bitCount_25 rfl (lv_at hl 0 rfl) ?_
  refine lv_iconst (v := 4) hx hb dJ18_bitCount_26 (by decide) ?_
  refine w_iushr hx hb dJ18_bitCount_27 ?_
  refine lv_iadd hx hb dJ18_bitCount_28 ?_
  refine lv_ldcw (v := 252645135) hx hb B.2.2.2.1 (B.2.2.2.2 _ q1264) dJ18_bitCount_29 ?_
  refine lv_iand hx hb dJ18_bitCount_32 ?_
  obtain ⟨x_5, e_6, hf⟩ := bo hf
  refine w_istore_n (lv' := [(0, .int x_5)]) e_6 hx hb dJ18_bitCount_33 rfl hl (by decide) rfl (fun ls hl => ?_)
  refine lv_iload_n hx hb dJ18_bitCount_34 rfl (lv_at hl 0 rfl) ?_
  refine lv_iload_n hx hb dJ18_bitCount_35 rfl (lv_at hl 0 rfl) ?_
  refine lv_bipush (v := 8) hx hb dJ18_bitCount_36 (by decide) ?_
  refine w_iushr hx hb dJ18_bitCount_38 ?_
  refine lv_iadd hx hb dJ18_bitCount_39 ?_
  obtain ⟨x_7, e_8, hf⟩ := bo hf
  refine w_istore_n (lv' := [(0, .int x_7)]) e_8 hx hb dJ18_bitCount_40 rfl hl (by decide) rfl (fun ls hl => ?_)
  refine lv_iload_n hx hb dJ18_bitCount_41 rfl (lv_at hl 0 rfl) ?_
  refine lv_iload_n hx hb dJ18_bitCount_42 rfl (lv_at hl 0 rfl) ?_
  refine lv_bipush (v := 16) hx hb dJ18_bitCount_43 (by decide) ?_
  refine w_iushr hx hb dJ18_bitCount_45 ?_
  refine lv_iadd hx hb dJ18_bitCount_46 ?_
  obtain ⟨x_9, e_10, hf⟩ := bo hf
  refine w_istore_n (lv' := [(0, .int x_9)]) e_10 hx hb dJ18_bitCount_47 rfl hl (by decide) rfl (fun ls hl => ?_)
  refine lv_iload_n hx hb dJ18_bitCount_48 rfl (lv_at hl 0 rfl) ?_
  refine lv_bipush (v := 63) hx hb dJ18_bitCount_49 (by decide) ?_
  refine lv_iand hx hb dJ18_bitCount_51 ?_
  exact kr _ (Option.some.inj hf).symm _ _ dJ18_bitCount_52

theorem tM_bitCount (l : Launch) (x0 : Int32) (r : Int32) (hf : fM_bitCount x0 = some r) : ST l yJ18_bitCount cJ18_bitCount 1 (some .int) 0 0 [.int x0] (.int r) := by
  refine ST.mk (by decide) (Nat.le_of_ble_eq_true rfl) ?_
  intro p e s m below meth c B hr hlk ls hl
  exact wM_bitCount B hf (fun r h pc ls hd => by cases h; exact w_iretR B hr hlk rfl hd) hl
theorem cM_bitCount (B : CallFix p m c cc nL s args lw_all RX4) {x0 : Int32} {r : Int32} (hf : fM_bitCount x0 = some r) (hR : 0 + 1 ≤ R.frames ∧ 20 ≤ R.locals) (hcs : cells ≤ R.cells ∧ slots ≤ R.slots) (hl : ls.size = nL) (hcat : (st.map fun v => v.category).sum ≤ 8) (hdg : decode cc pc = .ok (.invokestatic 292, 3)) (kk : W p l e R s m args below meth c H locs cells slots Q (F0 m (pc + 3) ls (.int r :: st))) : W p l e R s m args below meth c H locs cells slots Q (F0 m pc ls (.int x0 :: st)) :=
  w_afterR (w_rS_ST (As := [.int x0]) B (tM_bitCount l x0 r hf) (lw_S q1811 q1260 q120 q1261) (n := 1) (by decide +kernel) hR hcs rfl hl rfl hcat hdg) kk
end S_bitCount

section S_fewest
variable {p : Program} {l : Launch} {e : Env} {R : Room} {s : State} {m : MethodId} {args : Array Value} {below : List Frame} {meth : Method} {c : Code} {H : Heap} {locs : List Loc} {cells slots : Nat} {Q : State → Prop} {cc : ByteArray} {nL pc : Nat} {ls : Array Slot} {st : List Value} {X : CX} {a : Nat → Nat} {w : MW} {rest : va_W}
noncomputable def fM_fewest_J72_L30 (w : MW) (x1 : Int32) (x2 : Int32) (x3 : Int32) (x4 : Int32) : Option ((Int32 × Int32 × MW) ⊕ (Int32 × MW)) :=
  b2 (fM_groups w x4) fun r_1 w_2 =>
  if x3 ≤ r_1 then
    (some (x4 + 1)).bind fun x_5 =>
    some (.inl (x4, x_5, w_2))
  else
    (some (x4 + 1)).bind fun x_7 =>
    some (.inl (x2, x_7, w_2))

set_option maxHeartbeats 4000000 in
theorem wM_fewest_J72_L30 (B : CallFix p m c cX4_fewest 7 s args lw_all RX4) (hK : KK X s) {w : MW} {x1 : Int32} {x2 : Int32} {x3 : Int32} {x4 : Int32} {res : (Int32 × Int32 × MW) ⊕ (Int32 × MW)} (hf : fM_fewest_J72_L30 w x1 x2 x3 x4 = some res) (kc : ∀ (y2 : Int32) (y4 : Int32) (w1 : MW), res = .inl (y2, y4, w1) → ∀ (H : Heap) (locs : List Loc), GG X (MP X a w1 ++ rest) s.heap H locs → ∀ (ls : Array Slot), lv_has ls 7 [(0, .ref (a 0)), (1, .int x1), (2, .int y2), (3, .int x3), (4, .int y4)] → W p l e (RMw 9 0 0 198) s m args below meth c H locs 0 0 Q (F0 m 30 ls [])) (ke94 : ∀ (y2 : Int32) (w1 : MW), res = .inr (y2, w1) → ∀ (H : Heap) (locs : List Loc), GG X (MP X a w1 ++ rest) s.heap H locs → ∀ (ls : Array Slot), lv_has ls 7 [(1, .int x1), (2, .int y2)] → W p l e (RMw 9 0 0 198) s m args below meth c H locs 0 0 Q (F0 m 94 ls [])) {H : Heap} {locs : List Loc} (hG : GG X (MP X a w ++ rest) s.heap H locs) {ls : Array Slot} (hl : lv_has ls 7 [(0, .ref (a 0)), (1, .int x1), (2, .int x2), (3, .int x3), (4, .int x4)]) : W p l e (RMw 9 0 0 198) s m args below meth c H locs 0 0 Q (F0 m 72 ls []) := by
  have hx := B.1
  have hb := B.2.1
  unfold fM_fewest_J72_L30 at hf
  refine lv_aload_n hx hb dX4_fewest_72 rfl (lv_at hl 0 rfl) ?_
  refine lv_iload hx hb dX4_fewest_73 (lv_at hl 4 rfl) ?_
  obtain ⟨r_1, w_2, e_3, hf⟩ := b2s hf
  refine cM_groups B hK hG e_3 ⟨Nat.le_of_ble_eq_true rfl, Nat.le_of_ble_eq_true rfl⟩ ⟨Nat.zero_le _, Nat.zero_le _⟩ hl.1 (Nat.le_of_ble_eq_true rfl) dX4_fewest_75 (fun H locs hG => ?_)
  refine lv_iload_n hx hb dX4_fewest_78 rfl (lv_at hl 3 rfl) ?_
  refine lv_icmp_ge (tgt := 85) hx hb dX4_fewest_79 (by decide) (fun c_4 => ?_) (fun c_4 => ?_)
  · have hf := ifp c_4 hf
    refine lv_iload hx hb dX4_fewest_85 (lv_at hl 4 rfl) ?_
    refine lv_istore_n (lv' := [(2, .int x4), (0, .ref (a 0)), (1, .int x1), (3, .int x3), (4, .int x4)]) hx hb dX4_fewest_87 rfl hl (by decide) rfl (fun ls hl => ?_)
    obtain ⟨x_5, e_6, hf⟩ := bo hf
    refine w_iinc (k := 4) (lv' := [(4, .int x_5), (2, .int x4), (0, .ref (a 0)), (1, .int x1), (3, .int x3)]) e_6 hx hb dX4_fewest_88 hl rfl (by decide) rfl (fun ls hl => ?_)
    refine lv_goto (tgt := 30) hx hb dX4_fewest_91 (by decide) ?_
    exact kc _ _ _ (Option.some.inj hf).symm _ _ hG _ (lv_sub hl [2, 3, 1, 4, 0] rfl)
  · have hf := ifn c_4 hf
    refine lv_goto (tgt := 88) hx hb dX4_fewest_82 (by decide) ?_
    obtain ⟨x_7, e_8, hf⟩ := bo hf
    refine w_iinc (k := 4) (lv' := [(4, .int x_7), (0, .ref (a 0)), (1, .int x1), (2, .int x2), (3, .int x3)]) e_8 hx hb dX4_fewest_88 hl rfl (by decide) rfl (fun ls hl => ?_)
    refine lv_goto (tgt := 30) hx hb dX4_fewest_91 (by decide) ?_
    exact kc _ _ _ (Option.some.inj hf).symm _ _ hG _ (lv_sub hl [1, 2, 3, 4, 0] rfl)

noncomputable def fM_fewest_L30 (w : MW) (x1 : Int32) (x2 : Int32) (x3 : Int32) (x4 : Int32) : Option ((Int32 × Int32 × MW) ⊕ (Int32 × MW)) :=
  (fM_allPosts w ).bind fun r_1 =>
  if r_1 < x4 then
    some (.inr (x2, w))
  else
    (fM_bitCount x4).bind fun r_4 =>
    (fM_bitCount x2).bind fun r_6 =>
    if r_6 < r_4 then
      (some (x4 + 1)).bind fun x_9 =>
      some (.inl (x2, x_9, w))
    else
      if r_4 = r_6 then
        if x2 ≤ x4 then
          (some (x4 + 1)).bind fun x_13 =>
          some (.inl (x2, x_13, w))
        else
          fM_fewest_J72_L30 w x1 x2 x3 x4
      else
        fM_fewest_J72_L30 w x1 x2 x3 x4

set_option maxHeartbeats 4000000 in
theorem wM_fewest_L30 (B : CallFix p m c cX4_fewest 7 s args lw_all RX4) (hK : KK X s) {w : MW} {x1 : Int32} {x2 : Int32} {x3 : Int32} {x4 : Int32} {res : (Int32 × Int32 × MW) ⊕ (Int32 × MW)} (hf : fM_fewest_L30 w x1 x2 x3 x4 = some res) (kc : ∀ (y2 : Int32) (y4 : Int32) (w1 : MW), res = .inl (y2, y4, w1) → ∀ (H : Heap) (locs : List Loc), GG X (MP X a w1 ++ rest) s.heap H locs → ∀ (ls : Array Slot), lv_has ls 7 [(0, .ref (a 0)), (1, .int x1), (2, .int y2), (3, .int x3), (4, .int y4)] → W p l e (RMw 9 0 0 198) s m args below meth c H locs 0 0 Q (F0 m 30 ls [])) (ke94 : ∀ (y2 : Int32) (w1 : MW), res = .inr (y2, w1) → ∀ (H : Heap) (locs : List Loc), GG X (MP X a w1 ++ rest) s.heap H locs → ∀ (ls : Array Slot), lv_has ls 7 [(1, .int x1), (2, .int y2)] → W p l e (RMw 9 0 0 198) s m args below meth c H locs 0 0 Q (F0 m 94 ls [])) {H : Heap} {locs : List Loc} (hG : GG X (MP X a w ++ rest) s.heap H locs) {ls : Array Slot} (hl : lv_has ls 7 [(0, .ref (a 0)), (1, .int x1), (2, .int x2), (3, .int x3), (4, .int x4)]) : W p l e (RMw 9 0 0 198) s m args below meth c H locs 0 0 Q (F0 m 30 ls []) := by
  have hx := B.1
  have hb := B.2.1
  unfold fM_fewest_L30 at hf
  refine lv_iload hx hb dX4_fewest_30 (lv_at hl 4 rfl) ?_
  refine lv_aload_n hx hb dX4_fewest_32 rfl (lv_at hl 0 rfl) ?_
  obtain ⟨r_1, e_2, hf⟩ := bo hf
  refine cM_allPosts B hK hG.2.2 hG.1 e_2 ⟨Nat.le_of_ble_eq_true rfl, Nat.le_of_ble_eq_true rfl⟩ ⟨Nat.zero_le _, Nat.zero_le _⟩ hl.1 (Nat.le_of_ble_eq_true rfl) dX4_fewest_33 ?_
  refine lv_icmp_gt (tgt := 94) hx hb dX4_fewest_36 (by decide) (fun c_3 => ?_) (fun c_3 => ?_)
  · have hf := ifp c_3 hf
    exact ke94 _ _ (Option.some.inj hf).symm _ _ hG _ (lv_sub hl [1, 2] rfl)
  · have hf := ifn c_3 hf
    refine lv_iload hx hb dX4_fewest_39 (lv_at hl 4 rfl) ?_
    obtain ⟨r_4, e_5, hf⟩ := bo hf
    refine cM_bitCount B e_5 ⟨Nat.le_of_ble_eq_true rfl, Nat.le_of_ble_eq_true rfl⟩ ⟨Nat.zero_le _, Nat.zero_le _⟩ hl.1 (Nat.le_of_ble_eq_true rfl) dX4_fewest_41 ?_
    refine lv_istore (lv' := [(5, .int r_4), (0, .ref (a 0)), (1, .int x1), (2, .int x2), (3, .int x3), (4, .int x4)]) hx hb dX4_fewest_44 hl (by decide) rfl (fun ls hl => ?_)
    refine lv_iload_n hx hb dX4_fewest_46 rfl (lv_at hl 3 rfl) ?_
    obtain ⟨r_6, e_7, hf⟩ := bo hf
    refine cM_bitCount B e_7 ⟨Nat.le_of_ble_eq_true rfl, Nat.le_of_ble_eq_true rfl⟩ ⟨Nat.zero_le _, Nat.zero_le _⟩ hl.1 (Nat.le_of_ble_eq_true rfl) dX4_fewest_47 ?_
    refine lv_istore (lv' := [(6, .int r_6), (5, .int r_4), (0, .ref (a 0)), (1, .int x1), (2, .int x2), (3, .int x3), (4, .int x4)]) hx hb dX4_fewest_50 hl (by decide) rfl (fun ls hl => ?_)
    refine lv_iload hx hb dX4_fewest_52 (lv_at hl 1 rfl) ?_
    refine lv_iload hx hb dX4_fewest_54 (lv_at hl 0 rfl) ?_
    refine lv_icmp_gt (tgt := 88) hx hb dX4_fewest_56 (by decide) (fun c_8 => ?_) (fun c_8 => ?_)
    · have hf := ifp c_8 hf
      obtain ⟨x_9, e_10, hf⟩ := bo hf
      refine w_iinc (k := 6) (lv' := [(4, .int x_9), (6, .int r_6), (5, .int r_4), (0, .ref (a 0)), (1, .int x1), (2, .int x2), (3, .int x3)]) e_10 hx hb dX4_fewest_88 hl rfl (by decide) rfl (fun ls hl => ?_)
      refine lv_goto (tgt := 30) hx hb dX4_fewest_91 (by decide) ?_
      exact kc _ _ _ (Option.some.inj hf).symm _ _ hG _ (lv_sub hl [3, 4, 5, 6, 0] rfl)
    · have hf := ifn c_8 hf
      refine lv_iload hx hb dX4_fewest_59 (lv_at hl 1 rfl) ?_
      refine lv_iload hx hb dX4_fewest_61 (lv_at hl 0 rfl) ?_
      refine lv_icmp_ne (tgt := 72) hx hb dX4_fewest_63 (by decide) (fun c_11 => ?_) (fun c_11 => ?_)
      · have hf := ifn c_11 hf
        exact wM_fewest_J72_L30 B hK hf kc ke94 hG (lv_sub hl [2, 3, 4, 5, 6] rfl)
      · have hf := ifp c_11 hf
        refine lv_iload hx hb dX4_fewest_66 (lv_at hl 6 rfl) ?_
        refine lv_iload_n hx hb dX4_fewest_68 rfl (lv_at hl 4 rfl) ?_
        refine lv_icmp_ge (tgt := 88) hx hb dX4_fewest_69 (by decide) (fun c_12 => ?_) (fun c_12 => ?_)
        · have hf := ifp c_12 hf
          obtain ⟨x_13, e_14, hf⟩ := bo hf
          refine w_iinc (k := 6) (lv' := [(4, .int x_13), (6, .int r_6), (5, .int r_4), (0, .ref (a 0)), (1, .int x1), (2, .int x2), (3, .int x3)]) e_14 hx hb dX4_fewest_88 hl rfl (by decide) rfl (fun ls hl => ?_)
          refine lv_goto (tgt := 30) hx hb dX4_fewest_91 (by decide) ?_
          exact kc _ _ _ (Option.some.inj hf).symm _ _ hG _ (lv_sub hl [3, 4, 5, 6, 0] rfl)
        · have hf := ifn c_12 hf
          exact wM_fewest_J72_L30 B hK hf kc ke94 hG (lv_sub hl [2, 3, 4, 5, 6] rfl)

set_option maxHeartbeats 4000000 in
theorem vM_fewest_L30 (B : CallFix p m c cX4_fewest 7 s args lw_all RX4) (hK : KK X s) {w : MW} {x1 : Int32} {x2 : Int32} {x3 : Int32} {x4 : Int32} {res : Int32 × MW} (hf : lp (fun q : Int32 × Int32 × MW => fM_fewest_L30 q.2.2 x1 q.1 x3 q.2.1) (x2, x4, w) = some res) (ke94 : ∀ (y2 : Int32) (w1 : MW), res = (y2, w1) → ∀ (H : Heap) (locs : List Loc), GG X (MP X a w1 ++ rest) s.heap H locs → ∀ (ls : Array Slot), lv_has ls 7 [(1, .int x1), (2, .int y2)] → W p l e (RMw 9 0 0 198) s m args below meth c H locs 0 0 Q (F0 m 94 ls [])) {H : Heap} {locs : List Loc} (hG : GG X (MP X a w ++ rest) s.heap H locs) {ls : Array Slot} (hl : lv_has ls 7 [(0, .ref (a 0)), (1, .int x1), (2, .int x2), (3, .int x3), (4, .int x4)]) : W p l e (RMw 9 0 0 198) s m args below meth c H locs 0 0 Q (F0 m 30 ls []) := by
  refine lp_ind (r := res) (P := fun q : Int32 × Int32 × MW => ∀ (H : Heap) (locs : List Loc) (ls : Array Slot), GG X (MP X a q.2.2 ++ rest) s.heap H locs → lv_has ls 7 [(0, .ref (a 0)), (1, .int x1), (2, .int q.1), (3, .int x3), (4, .int q.2.1)] → W p l e (RMw 9 0 0 198) s m args below meth c H locs 0 0 Q (F0 m 30 ls [])) ?_ ?_ _ hf _ _ _ hG hl
  · intro q hb H locs ls hG hl
    exact wM_fewest_L30 B hK hb (fun _ _ _ h => by cases h) (fun z0 z1 h => ke94 z0 z1 (Sum.inr.inj h)) hG hl
  · intro q q2 hb ih H locs ls hG hl
    exact wM_fewest_L30 B hK hb (fun z0 z1 z2 h => by cases h; exact fun H locs hG ls hl => ih H locs ls hG hl) (fun _ _ h => by cases h) hG hl

noncomputable def fM_fewest (w : MW) (x1 : Int32) : Option (Int32 × MW) :=
  (fM_within x1 0 1).bind fun r_1 =>
  if r_1 = 0 then
    b2 (fM_no w (-2)) fun r_16 w_17 =>
    some (r_16, w_17)
  else
    (fM_allPosts w ).bind fun r_4 =>
    b2 (fM_groups w r_4) fun r_6 w_7 =>
    (lp (fun q : Int32 × Int32 × MW => fM_fewest_L30 q.2.2 x1 q.1 r_6 q.2.1) (r_4, 0, w_7)).bind (
      fun q_14 => (fun (y_9 : Int32) (w_10 : MW) =>
        if x1 = 0 then
          (fM_bitCount y_9).bind fun r_12 =>
          some (r_12, w_10)
        else
          some (y_9, w_10)
      ) q_14.1 q_14.2
    )

set_option maxHeartbeats 4000000 in
theorem wM_fewest (B : CallFix p m c cX4_fewest 7 s args lw_all RX4) (hK : KK X s) {w : MW} {x1 : Int32} {res : Int32 × MW} (hf : fM_fewest w x1 = some res) (kr : ∀ (r : Int32) (w1 : MW), res = (r, w1) → ∀ (H : Heap) (locs : List Loc), GG X (MP X a w1 ++ rest) s.heap H locs → ∀ (pc : Nat) (ls : Array Slot), decode cX4_fewest pc = .ok (.ireturn, 1) → W p l e (RMw 9 0 0 198) s m args below meth c H locs 0 0 Q (F0 m pc ls [.int r])) {H : Heap} {locs : List Loc} (hG : GG X (MP X a w ++ rest) s.heap H locs) {ls : Array Slot} (hl : lv_has ls 7 [(0, .ref (a 0)), (1, .int x1)]) : W p l e (RMw 9 0 0 198) s m args below meth c H locs 0 0 Q (F0 m 0 ls []) := by
  have hx := B.1
  have hb := B.2.1
  unfold fM_fewest at hf
  refine lv_iload_n hx hb dX4_fewest_0 rfl (lv_at hl 1 rfl) ?_
  refine lv_iconst (v := 0) hx hb dX4_fewest_1 (by decide) ?_
  refine lv_iconst (v := 1) hx hb dX4_fewest_2 (by decide) ?_
  obtain ⟨r_1, e_2, hf⟩ := bo hf
  refine cM_within B e_2 ⟨Nat.le_of_ble_eq_true rfl, Nat.le_of_ble_eq_true rfl⟩ ⟨Nat.zero_le _, Nat.zero_le _⟩ hl.1 (Nat.le_of_ble_eq_true rfl) dX4_fewest_3 ?_
  refine lv_if_ne (tgt := 16) hx hb dX4_fewest_6 (by decide) (fun c_3 => ?_) (fun c_3 => ?_)
  · have hf := ifn c_3 hf
    refine lv_aload_n hx hb dX4_fewest_16 rfl (lv_at hl 0 rfl) ?_
    obtain ⟨r_4, e_5, hf⟩ := bo hf
    refine cM_allPosts B hK hG.2.2 hG.1 e_5 ⟨Nat.le_of_ble_eq_true rfl, Nat.le_of_ble_eq_true rfl⟩ ⟨Nat.zero_le _, Nat.zero_le _⟩ hl.1 (Nat.le_of_ble_eq_true rfl) dX4_fewest_17 ?_
    refine lv_istore_n (lv' := [(2, .int r_4), (0, .ref (a 0)), (1, .int x1)]) hx hb dX4_fewest_20 rfl hl (by decide) rfl (fun ls hl => ?_)
    refine lv_aload_n hx hb dX4_fewest_21 rfl (lv_at hl 1 rfl) ?_
    refine lv_iload_n hx hb dX4_fewest_22 rfl (lv_at hl 0 rfl) ?_
    obtain ⟨r_6, w_7, e_8, hf⟩ := b2s hf
    refine cM_groups B hK hG e_8 ⟨Nat.le_of_ble_eq_true rfl, Nat.le_of_ble_eq_true rfl⟩ ⟨Nat.zero_le _, Nat.zero_le _⟩ hl.1 (Nat.le_of_ble_eq_true rfl) dX4_fewest_23 (fun H locs hG => ?_)
    refine lv_istore_n (lv' := [(3, .int r_6), (2, .int r_4), (0, .ref (a 0)), (1, .int x1)]) hx hb dX4_fewest_26 rfl hl (by decide) rfl (fun ls hl => ?_)
    refine lv_iconst (v := 0) hx hb dX4_fewest_27 (by decide) ?_
    refine lv_istore (lv' := [(4, .int 0), (3, .int r_6), (2, .int r_4), (0, .ref (a 0)), (1, .int x1)]) hx hb dX4_fewest_28 hl (by decide) rfl (fun ls hl => ?_)
    obtain ⟨⟨y_9, w_10⟩, e_15, hf⟩ := bo hf
    try dsimp only at hf
    refine vM_fewest_L30 B hK e_15 ?_ hG (lv_sub hl [3, 4, 2, 1, 0] rfl)
    intro z0 z1 hz
    cases hz
    intro H locs hG ls hl
    refine lv_iload_n hx hb dX4_fewest_94 rfl (lv_at hl 0 rfl) ?_
    refine lv_if_ne (tgt := 105) hx hb dX4_fewest_95 (by decide) (fun c_11 => ?_) (fun c_11 => ?_)
    · have hf := ifn c_11 hf
      refine lv_iload_n hx hb dX4_fewest_105 rfl (lv_at hl 1 rfl) ?_
      exact kr _ _ (Option.some.inj hf).symm _ _ hG _ _ dX4_fewest_106
    · have hf := ifp c_11 hf
      refine lv_iload_n hx hb dX4_fewest_98 rfl (lv_at hl 1 rfl) ?_
      obtain ⟨r_12, e_13, hf⟩ := bo hf
      refine cM_bitCount B e_13 ⟨Nat.le_of_ble_eq_true rfl, Nat.le_of_ble_eq_true rfl⟩ ⟨Nat.zero_le _, Nat.zero_le _⟩ hl.1 (Nat.le_of_ble_eq_true rfl) dX4_fewest_99 ?_
      refine lv_goto (tgt := 106) hx hb dX4_fewest_102 (by decide) ?_
      exact kr _ _ (Option.some.inj hf).symm _ _ hG _ _ dX4_fewest_106
  · have hf := ifp c_3 hf
    refine lv_aload_n hx hb dX4_fewest_9 rfl (lv_at hl 0 rfl) ?_
    refine lv_bipush (v := (-2)) hx hb dX4_fewest_10 (by decide) ?_
    obtain ⟨r_16, w_17, e_18, hf⟩ := b2s hf
    refine cM_no B hK hG e_18 ⟨Nat.le_of_ble_eq_true rfl, Nat.le_of_ble_eq_true rfl⟩ ⟨Nat.zero_le _, Nat.zero_le _⟩ hl.1 (Nat.le_of_ble_eq_true rfl) dX4_fewest_12 (fun H locs hG => ?_)
    exact kr _ _ (Option.some.inj hf).symm _ _ hG _ _ dX4_fewest_15

theorem tM_fewest (l : Launch) (X : CX) (a : Nat → Nat) (rest : va_W) (w w' : MW) (x1 : Int32) (r : Int32) (hf : fM_fewest w x1 = some (r, w')) : RW l yX4_fewest cX4_fewest 7 (some .int) 9 0 0 198 [.ref (a 0), .int x1] X (MP X a w ++ rest) (MP X a w' ++ rest) (some (.int r)) := by
  refine RW.mk (by decide) (Nat.le_of_ble_eq_true rfl) ?_
  intro p e s m below meth c B hr hlk hK hG ls hl
  exact wM_fewest B hK hf (fun r w h H locs hG pc ls hd => by cases h; exact w_iretW B hr hlk hG hd) hG hl
end S_fewest

section S_more
variable {p : Program} {l : Launch} {e : Env} {R : Room} {s : State} {m : MethodId} {args : Array Value} {below : List Frame} {meth : Method} {c : Code} {H : Heap} {locs : List Loc} {cells slots : Nat} {Q : State → Prop} {cc : ByteArray} {nL pc : Nat} {ls : Array Slot} {st : List Value} {X : CX} {a : Nat → Nat} {w : MW} {rest : va_W}
noncomputable def fM_more_L6 (w : MW) (x1 : Int32) (x2 : Int32) (x3 : Int32) : Option ((Int32 × Int32 × Int32 × MW) ⊕ (Int32 × MW)) :=
  if 67 ≤ x3 then
    some (.inr (x1, w))
  else
    (fM_isCell w (x3.toInt64)).bind fun r_2 =>
    if r_2 = 0 then
      (some (x3 + 1)).bind fun x_20 =>
      some (.inl (x1, x2, x_20, w))
    else
      b2 (fM_newPost w 0 0 x3) fun r_5 w_6 =>
      (fM_allPosts w_6 ).bind fun r_8 =>
      b2 (fM_groups w_6 r_8) fun r_10 w_11 =>
      (some (mpt w_11 3 ((w_11.1 3) - 1))).bind fun w_13 =>
      if x2 < r_10 then
        (some (x3 + 1)).bind fun x_16 =>
        some (.inl (x3, r_10, x_16, w_13))
      else
        (some (x3 + 1)).bind fun x_18 =>
        some (.inl (x1, x2, x_18, w_13))

set_option maxHeartbeats 4000000 in
theorem wM_more_L6 (B : CallFix p m c cX4_more 5 s args lw_all RX4) (hK : KK X s) {w : MW} {x1 : Int32} {x2 : Int32} {x3 : Int32} {res : (Int32 × Int32 × Int32 × MW) ⊕ (Int32 × MW)} (hf : fM_more_L6 w x1 x2 x3 = some res) (kc : ∀ (y1 : Int32) (y2 : Int32) (y3 : Int32) (w1 : MW), res = .inl (y1, y2, y3, w1) → ∀ (H : Heap) (locs : List Loc), GG X (MP X a w1 ++ rest) s.heap H locs → ∀ (ls : Array Slot), lv_has ls 5 [(0, .ref (a 0)), (1, .int y1), (2, .int y2), (3, .int y3)] → W p l e (RMw 9 0 0 198) s m args below meth c H locs 0 0 Q (F0 m 6 ls [])) (ke72 : ∀ (y1 : Int32) (w1 : MW), res = .inr (y1, w1) → ∀ (H : Heap) (locs : List Loc), GG X (MP X a w1 ++ rest) s.heap H locs → ∀ (ls : Array Slot), lv_has ls 5 [(1, .int y1)] → W p l e (RMw 9 0 0 198) s m args below meth c H locs 0 0 Q (F0 m 72 ls [])) {H : Heap} {locs : List Loc} (hG : GG X (MP X a w ++ rest) s.heap H locs) {ls : Array Slot} (hl : lv_has ls 5 [(0, .ref (a 0)), (1, .int x1), (2, .int x2), (3, .int x3)]) : W p l e (RMw 9 0 0 198) s m args below meth c H locs 0 0 Q (F0 m 6 ls []) := by
  have hx := B.1
  have hb := B.2.1
  unfold fM_more_L6 at hf
  refine lv_iload_n hx hb dX4_more_6 rfl (lv_at hl 3 rfl) ?_
  refine lv_bipush (v := 67) hx hb dX4_more_7 (by decide) ?_
  refine lv_icmp_ge (tgt := 72) hx hb dX4_more_9 (by decide) (fun c_1 => ?_) (fun c_1 => ?_)
  · have hf := ifp c_1 hf
    exact ke72 _ _ (Option.some.inj hf).symm _ _ hG _ (lv_sub hl [1] rfl)
  · have hf := ifn c_1 hf
    refine lv_aload_n hx hb dX4_more_12 rfl (lv_at hl 0 rfl) ?_
    refine lv_iload_n hx hb dX4_more_13 rfl (lv_at hl 3 rfl) ?_
    refine lv_i2l hx hb dX4_more_14 rfl ?_
    obtain ⟨r_2, e_3, hf⟩ := bo hf
    refine cM_isCell B hK hG.2.2 hG.1 e_3 ⟨Nat.le_of_ble_eq_true rfl, Nat.le_of_ble_eq_true rfl⟩ ⟨Nat.zero_le _, Nat.zero_le _⟩ hl.1 (Nat.le_of_ble_eq_true rfl) dX4_more_15 ?_
    refine lv_if_ne (tgt := 24) hx hb dX4_more_18 (by decide) (fun c_4 => ?_) (fun c_4 => ?_)
    · have hf := ifn c_4 hf
      refine lv_aload_n hx hb dX4_more_24 rfl (lv_at hl 0 rfl) ?_
      refine lv_iconst (v := 0) hx hb dX4_more_25 (by decide) ?_
      refine lv_iconst (v := 0) hx hb dX4_more_26 (by decide) ?_
      refine lv_iload_n hx hb dX4_more_27 rfl (lv_at hl 3 rfl) ?_
      obtain ⟨r_5, w_6, e_7, hf⟩ := b2s hf
      refine cM_newPost B hK hG e_7 ⟨Nat.le_of_ble_eq_true rfl, Nat.le_of_ble_eq_true rfl⟩ ⟨Nat.zero_le _, Nat.zero_le _⟩ hl.1 (Nat.le_of_ble_eq_true rfl) dX4_more_28 (fun H locs hG => ?_)
      refine lv_pop hx hb dX4_more_31 rfl ?_
      refine lv_aload_n hx hb dX4_more_32 rfl (lv_at hl 0 rfl) ?_
      refine lv_aload_n hx hb dX4_more_33 rfl (lv_at hl 0 rfl) ?_
      obtain ⟨r_8, e_9, hf⟩ := bo hf
      refine cM_allPosts B hK hG.2.2 hG.1 e_9 ⟨Nat.le_of_ble_eq_true rfl, Nat.le_of_ble_eq_true rfl⟩ ⟨Nat.zero_le _, Nat.zero_le _⟩ hl.1 (Nat.le_of_ble_eq_true rfl) dX4_more_34 ?_
      obtain ⟨r_10, w_11, e_12, hf⟩ := b2s hf
      refine cM_groups B hK hG e_12 ⟨Nat.le_of_ble_eq_true rfl, Nat.le_of_ble_eq_true rfl⟩ ⟨Nat.zero_le _, Nat.zero_le _⟩ hl.1 (Nat.le_of_ble_eq_true rfl) dX4_more_37 (fun H locs hG => ?_)
      refine lv_istore (lv' := [(4, .int r_10), (0, .ref (a 0)), (1, .int x1), (2, .int x2), (3, .int x3)]) hx hb dX4_more_40 hl (by decide) rfl (fun ls hl => ?_)
      refine lv_aload_n hx hb dX4_more_42 rfl (lv_at hl 1 rfl) ?_
      refine lv_dup hx hb dX4_more_43 rfl ?_
      refine mo_g3 B hK hG.1 dX4_more_44 ?_
      refine lv_iconst (v := 1) hx hb dX4_more_47 (by decide) ?_
      refine lv_isub hx hb dX4_more_48 ?_
      obtain ⟨w_13, e_14, hf⟩ := bo hf
      refine mo_p3 B hK hG e_14 dX4_more_49 (fun H locs hG => ?_)
      refine lv_iload hx hb dX4_more_52 (lv_at hl 0 rfl) ?_
      refine lv_iload_n hx hb dX4_more_54 rfl (lv_at hl 3 rfl) ?_
      refine lv_icmp_gt (tgt := 61) hx hb dX4_more_55 (by decide) (fun c_15 => ?_) (fun c_15 => ?_)
      · have hf := ifp c_15 hf
        refine lv_iload hx hb dX4_more_61 (lv_at hl 0 rfl) ?_
        refine lv_istore_n (lv' := [(2, .int r_10), (4, .int r_10), (0, .ref (a 0)), (1, .int x1), (3, .int x3)]) hx hb dX4_more_63 rfl hl (by decide) rfl (fun ls hl => ?_)
        refine lv_iload_n hx hb dX4_more_64 rfl (lv_at hl 4 rfl) ?_
        refine lv_istore_n (lv' := [(1, .int x3), (2, .int r_10), (4, .int r_10), (0, .ref (a 0)), (3, .int x3)]) hx hb dX4_more_65 rfl hl (by decide) rfl (fun ls hl => ?_)
        obtain ⟨x_16, e_17, hf⟩ := bo hf
        refine w_iinc (k := 4) (lv' := [(3, .int x_16), (1, .int x3), (2, .int r_10), (4, .int r_10), (0, .ref (a 0))]) e_17 hx hb dX4_more_66 hl rfl (by decide) rfl (fun ls hl => ?_)
        refine lv_goto (tgt := 6) hx hb dX4_more_69 (by decide) ?_
        exact kc _ _ _ _ (Option.some.inj hf).symm _ _ hG _ (lv_sub hl [4, 1, 2, 0] rfl)
      · have hf := ifn c_15 hf
        refine lv_goto (tgt := 66) hx hb dX4_more_58 (by decide) ?_
        obtain ⟨x_18, e_19, hf⟩ := bo hf
        refine w_iinc (k := 4) (lv' := [(3, .int x_18), (4, .int r_10), (0, .ref (a 0)), (1, .int x1), (2, .int x2)]) e_19 hx hb dX4_more_66 hl rfl (by decide) rfl (fun ls hl => ?_)
        refine lv_goto (tgt := 6) hx hb dX4_more_69 (by decide) ?_
        exact kc _ _ _ _ (Option.some.inj hf).symm _ _ hG _ (lv_sub hl [2, 3, 4, 0] rfl)
    · have hf := ifp c_4 hf
      refine lv_goto (tgt := 66) hx hb dX4_more_21 (by decide) ?_
      obtain ⟨x_20, e_21, hf⟩ := bo hf
      refine w_iinc (k := 3) (lv' := [(3, .int x_20), (0, .ref (a 0)), (1, .int x1), (2, .int x2)]) e_21 hx hb dX4_more_66 hl rfl (by decide) rfl (fun ls hl => ?_)
      refine lv_goto (tgt := 6) hx hb dX4_more_69 (by decide) ?_
      exact kc _ _ _ _ (Option.some.inj hf).symm _ _ hG _ (lv_sub hl [1, 2, 3, 0] rfl)

set_option maxHeartbeats 4000000 in
theorem vM_more_L6 (B : CallFix p m c cX4_more 5 s args lw_all RX4) (hK : KK X s) {w : MW} {x1 : Int32} {x2 : Int32} {x3 : Int32} {res : Int32 × MW} (hf : lp (fun q : Int32 × Int32 × Int32 × MW => fM_more_L6 q.2.2.2 q.1 q.2.1 q.2.2.1) (x1, x2, x3, w) = some res) (ke72 : ∀ (y1 : Int32) (w1 : MW), res = (y1, w1) → ∀ (H : Heap) (locs : List Loc), GG X (MP X a w1 ++ rest) s.heap H locs → ∀ (ls : Array Slot), lv_has ls 5 [(1, .int y1)] → W p l e (RMw 9 0 0 198) s m args below meth c H locs 0 0 Q (F0 m 72 ls [])) {H : Heap} {locs : List Loc} (hG : GG X (MP X a w ++ rest) s.heap H locs) {ls : Array Slot} (hl : lv_has ls 5 [(0, .ref (a 0)), (1, .int x1), (2, .int x2), (3, .int x3)]) : W p l e (RMw 9 0 0 198) s m args below meth c H locs 0 0 Q (F0 m 6 ls []) := by
  refine lp_ind (r := res) (P := fun q : Int32 × Int32 × Int32 × MW => ∀ (H : Heap) (locs : List Loc) (ls : Array Slot), GG X (MP X a q.2.2.2 ++ rest) s.heap H locs → lv_has ls 5 [(0, .ref (a 0)), (1, .int q.1), (2, .int q.2.1), (3, .int q.2.2.1)] → W p l e (RMw 9 0 0 198) s m args below meth c H locs 0 0 Q (F0 m 6 ls [])) ?_ ?_ _ hf _ _ _ hG hl
  · intro q hb H locs ls hG hl
    exact wM_more_L6 B hK hb (fun _ _ _ _ h => by cases h) (fun z0 z1 h => ke72 z0 z1 (Sum.inr.inj h)) hG hl
  · intro q q2 hb ih H locs ls hG hl
    exact wM_more_L6 B hK hb (fun z0 z1 z2 z3 h => by cases h; exact fun H locs hG ls hl => ih H locs ls hG hl) (fun _ _ h => by cases h) hG hl

noncomputable def fM_more (w : MW)  : Option (Int32 × MW) :=
  (lp (fun q : Int32 × Int32 × Int32 × MW => fM_more_L6 q.2.2.2 q.1 q.2.1 q.2.2.1) (0, (-1), 0, w)).bind (
    fun q_3 => (fun (y_1 : Int32) (w_2 : MW) =>
      some (y_1, w_2)
    ) q_3.1 q_3.2
  )

set_option maxHeartbeats 4000000 in
theorem wM_more (B : CallFix p m c cX4_more 5 s args lw_all RX4) (hK : KK X s) {w : MW}  {res : Int32 × MW} (hf : fM_more w  = some res) (kr : ∀ (r : Int32) (w1 : MW), res = (r, w1) → ∀ (H : Heap) (locs : List Loc), GG X (MP X a w1 ++ rest) s.heap H locs → ∀ (pc : Nat) (ls : Array Slot), decode cX4_more pc = .ok (.ireturn, 1) → W p l e (RMw 9 0 0 198) s m args below meth c H locs 0 0 Q (F0 m pc ls [.int r])) {H : Heap} {locs : List Loc} (hG : GG X (MP X a w ++ rest) s.heap H locs) {ls : Array Slot} (hl : lv_has ls 5 [(0, .ref (a 0))]) : W p l e (RMw 9 0 0 198) s m args below meth c H locs 0 0 Q (F0 m 0 ls []) := by
  have hx := B.1
  have hb := B.2.1
  unfold fM_more at hf
  refine lv_iconst (v := 0) hx hb dX4_more_0 (by decide) ?_
  refine lv_istore_n (lv' := [(1, .int 0), (0, .ref (a 0))]) hx hb dX4_more_1 rfl hl (by decide) rfl (fun ls hl => ?_)
  refine lv_iconst (v := (-1)) hx hb dX4_more_2 (by decide) ?_
  refine lv_istore_n (lv' := [(2, .int (-1)), (1, .int 0), (0, .ref (a 0))]) hx hb dX4_more_3 rfl hl (by decide) rfl (fun ls hl => ?_)
  refine lv_iconst (v := 0) hx hb dX4_more_4 (by decide) ?_
  refine lv_istore_n (lv' := [(3, .int 0), (2, .int (-1)), (1, .int 0), (0, .ref (a 0))]) hx hb dX4_more_5 rfl hl (by decide) rfl (fun ls hl => ?_)
  obtain ⟨⟨y_1, w_2⟩, e_4, hf⟩ := bo hf
  try dsimp only at hf
  refine vM_more_L6 B hK e_4 ?_ hG (lv_sub hl [3, 2, 1, 0] rfl)
  intro z0 z1 hz
  cases hz
  intro H locs hG ls hl
  refine lv_iload_n hx hb dX4_more_72 rfl (lv_at hl 0 rfl) ?_
  exact kr _ _ (Option.some.inj hf).symm _ _ hG _ _ dX4_more_73

theorem tM_more (l : Launch) (X : CX) (a : Nat → Nat) (rest : va_W) (w w' : MW)  (r : Int32) (hf : fM_more w  = some (r, w')) : RW l yX4_more cX4_more 5 (some .int) 9 0 0 198 [.ref (a 0)] X (MP X a w ++ rest) (MP X a w' ++ rest) (some (.int r)) := by
  refine RW.mk (by decide) (Nat.le_of_ble_eq_true rfl) ?_
  intro p e s m below meth c B hr hlk hK hG ls hl
  exact wM_more B hK hf (fun r w h H locs hG pc ls hd => by cases h; exact w_iretW B hr hlk hG hd) hG hl
end S_more

section S_armed
variable {p : Program} {l : Launch} {e : Env} {R : Room} {s : State} {m : MethodId} {args : Array Value} {below : List Frame} {meth : Method} {c : Code} {H : Heap} {locs : List Loc} {cells slots : Nat} {Q : State → Prop} {cc : ByteArray} {nL pc : Nat} {ls : Array Slot} {st : List Value} {X : CX} {a : Nat → Nat} {w : MW} {rest : va_W}
noncomputable def fM_armed_J19 (w : MW)  : Option (Int32 × MW) :=
  b2 (fM_no w (-2)) fun r_1 w_2 =>
  some (r_1, w_2)

set_option maxHeartbeats 4000000 in
theorem wM_armed_J19 (B : CallFix p m c cX4_armed 5 s args lw_all RX4) (hK : KK X s) {w : MW}  {res : Int32 × MW} (hf : fM_armed_J19 w  = some res) (kr : ∀ (r : Int32) (w1 : MW), res = (r, w1) → ∀ (H : Heap) (locs : List Loc), GG X (MP X a w1 ++ rest) s.heap H locs → ∀ (pc : Nat) (ls : Array Slot), decode cX4_armed pc = .ok (.ireturn, 1) → W p l e (RMw 7 0 0 150) s m args below meth c H locs 0 0 Q (F0 m pc ls [.int r])) {H : Heap} {locs : List Loc} (hG : GG X (MP X a w ++ rest) s.heap H locs) {ls : Array Slot} (hl : lv_has ls 5 [(0, .ref (a 0))]) : W p l e (RMw 7 0 0 150) s m args below meth c H locs 0 0 Q (F0 m 19 ls []) := by
  have hx := B.1
  have hb := B.2.1
  unfold fM_armed_J19 at hf
  refine lv_aload_n hx hb dX4_armed_19 rfl (lv_at hl 0 rfl) ?_
  refine lv_bipush (v := (-2)) hx hb dX4_armed_20 (by decide) ?_
  obtain ⟨r_1, w_2, e_3, hf⟩ := b2s hf
  refine cM_no B hK hG e_3 ⟨Nat.le_of_ble_eq_true rfl, Nat.le_of_ble_eq_true rfl⟩ ⟨Nat.zero_le _, Nat.zero_le _⟩ hl.1 (Nat.le_of_ble_eq_true rfl) dX4_armed_22 (fun H locs hG => ?_)
  exact kr _ _ (Option.some.inj hf).symm _ _ hG _ _ dX4_armed_25

noncomputable def fM_armed_L31 (w : MW) (x1 : Int32) (x2 : Int32) (x3 : Int32) (x4 : Int32) : Option ((Int32 × Int32 × MW) ⊕ (Int32 × MW)) :=
  if (w.1 3) ≤ x4 then
    some (.inr (x3, w))
  else
    b2 (fM_armFor w x4 x1) fun r_2 w_3 =>
    if r_2 = x2 then
      (some (x3 ||| (ishl 1 x4))).bind fun x_8 =>
      (some (x4 + 1)).bind fun x_10 =>
      some (.inl (x_8, x_10, w_3))
    else
      (some (x4 + 1)).bind fun x_6 =>
      some (.inl (x3, x_6, w_3))

set_option maxHeartbeats 4000000 in
theorem wM_armed_L31 (B : CallFix p m c cX4_armed 5 s args lw_all RX4) (hK : KK X s) {w : MW} {x1 : Int32} {x2 : Int32} {x3 : Int32} {x4 : Int32} {res : (Int32 × Int32 × MW) ⊕ (Int32 × MW)} (hf : fM_armed_L31 w x1 x2 x3 x4 = some res) (kc : ∀ (y3 : Int32) (y4 : Int32) (w1 : MW), res = .inl (y3, y4, w1) → ∀ (H : Heap) (locs : List Loc), GG X (MP X a w1 ++ rest) s.heap H locs → ∀ (ls : Array Slot), lv_has ls 5 [(0, .ref (a 0)), (1, .int x1), (2, .int x2), (3, .int y3), (4, .int y4)] → W p l e (RMw 7 0 0 150) s m args below meth c H locs 0 0 Q (F0 m 31 ls [])) (ke64 : ∀ (y3 : Int32) (w1 : MW), res = .inr (y3, w1) → ∀ (H : Heap) (locs : List Loc), GG X (MP X a w1 ++ rest) s.heap H locs → ∀ (ls : Array Slot), lv_has ls 5 [(3, .int y3)] → W p l e (RMw 7 0 0 150) s m args below meth c H locs 0 0 Q (F0 m 64 ls [])) {H : Heap} {locs : List Loc} (hG : GG X (MP X a w ++ rest) s.heap H locs) {ls : Array Slot} (hl : lv_has ls 5 [(0, .ref (a 0)), (1, .int x1), (2, .int x2), (3, .int x3), (4, .int x4)]) : W p l e (RMw 7 0 0 150) s m args below meth c H locs 0 0 Q (F0 m 31 ls []) := by
  have hx := B.1
  have hb := B.2.1
  unfold fM_armed_L31 at hf
  refine lv_iload hx hb dX4_armed_31 (lv_at hl 4 rfl) ?_
  refine lv_aload_n hx hb dX4_armed_33 rfl (lv_at hl 0 rfl) ?_
  refine mo_g3 B hK hG.1 dX4_armed_34 ?_
  refine lv_icmp_ge (tgt := 64) hx hb dX4_armed_37 (by decide) (fun c_1 => ?_) (fun c_1 => ?_)
  · have hf := ifp c_1 hf
    exact ke64 _ _ (Option.some.inj hf).symm _ _ hG _ (lv_sub hl [3] rfl)
  · have hf := ifn c_1 hf
    refine lv_aload_n hx hb dX4_armed_40 rfl (lv_at hl 0 rfl) ?_
    refine lv_iload hx hb dX4_armed_41 (lv_at hl 4 rfl) ?_
    refine lv_iload_n hx hb dX4_armed_43 rfl (lv_at hl 1 rfl) ?_
    obtain ⟨r_2, w_3, e_4, hf⟩ := b2s hf
    refine cM_armFor B hK hG e_4 ⟨Nat.le_of_ble_eq_true rfl, Nat.le_of_ble_eq_true rfl⟩ ⟨Nat.zero_le _, Nat.zero_le _⟩ hl.1 (Nat.le_of_ble_eq_true rfl) dX4_armed_44 (fun H locs hG => ?_)
    refine lv_iload_n hx hb dX4_armed_47 rfl (lv_at hl 2 rfl) ?_
    refine lv_icmp_ne (tgt := 58) hx hb dX4_armed_48 (by decide) (fun c_5 => ?_) (fun c_5 => ?_)
    · have hf := ifn c_5 hf
      obtain ⟨x_6, e_7, hf⟩ := bo hf
      refine w_iinc (k := 4) (lv' := [(4, .int x_6), (0, .ref (a 0)), (1, .int x1), (2, .int x2), (3, .int x3)]) e_7 hx hb dX4_armed_58 hl rfl (by decide) rfl (fun ls hl => ?_)
      refine lv_goto (tgt := 31) hx hb dX4_armed_61 (by decide) ?_
      exact kc _ _ _ (Option.some.inj hf).symm _ _ hG _ (lv_sub hl [1, 2, 3, 4, 0] rfl)
    · have hf := ifp c_5 hf
      refine lv_iload_n hx hb dX4_armed_51 rfl (lv_at hl 3 rfl) ?_
      refine lv_iconst (v := 1) hx hb dX4_armed_52 (by decide) ?_
      refine lv_iload hx hb dX4_armed_53 (lv_at hl 4 rfl) ?_
      refine w_ishl hx hb dX4_armed_55 ?_
      refine lv_ior hx hb dX4_armed_56 ?_
      obtain ⟨x_8, e_9, hf⟩ := bo hf
      refine w_istore_n (lv' := [(3, .int x_8), (0, .ref (a 0)), (1, .int x1), (2, .int x2), (4, .int x4)]) e_9 hx hb dX4_armed_57 rfl hl (by decide) rfl (fun ls hl => ?_)
      obtain ⟨x_10, e_11, hf⟩ := bo hf
      refine w_iinc (k := 4) (lv' := [(4, .int x_10), (3, .int x_8), (0, .ref (a 0)), (1, .int x1), (2, .int x2)]) e_11 hx hb dX4_armed_58 hl rfl (by decide) rfl (fun ls hl => ?_)
      refine lv_goto (tgt := 31) hx hb dX4_armed_61 (by decide) ?_
      exact kc _ _ _ (Option.some.inj hf).symm _ _ hG _ (lv_sub hl [2, 3, 4, 1, 0] rfl)

set_option maxHeartbeats 4000000 in
theorem vM_armed_L31 (B : CallFix p m c cX4_armed 5 s args lw_all RX4) (hK : KK X s) {w : MW} {x1 : Int32} {x2 : Int32} {x3 : Int32} {x4 : Int32} {res : Int32 × MW} (hf : lp (fun q : Int32 × Int32 × MW => fM_armed_L31 q.2.2 x1 x2 q.1 q.2.1) (x3, x4, w) = some res) (ke64 : ∀ (y3 : Int32) (w1 : MW), res = (y3, w1) → ∀ (H : Heap) (locs : List Loc), GG X (MP X a w1 ++ rest) s.heap H locs → ∀ (ls : Array Slot), lv_has ls 5 [(3, .int y3)] → W p l e (RMw 7 0 0 150) s m args below meth c H locs 0 0 Q (F0 m 64 ls [])) {H : Heap} {locs : List Loc} (hG : GG X (MP X a w ++ rest) s.heap H locs) {ls : Array Slot} (hl : lv_has ls 5 [(0, .ref (a 0)), (1, .int x1), (2, .int x2), (3, .int x3), (4, .int x4)]) : W p l e (RMw 7 0 0 150) s m args below meth c H locs 0 0 Q (F0 m 31 ls []) := by
  refine lp_ind (r := res) (P := fun q : Int32 × Int32 × MW => ∀ (H : Heap) (locs : List Loc) (ls : Array Slot), GG X (MP X a q.2.2 ++ rest) s.heap H locs → lv_has ls 5 [(0, .ref (a 0)), (1, .int x1), (2, .int x2), (3, .int q.1), (4, .int q.2.1)] → W p l e (RMw 7 0 0 150) s m args below meth c H locs 0 0 Q (F0 m 31 ls [])) ?_ ?_ _ hf _ _ _ hG hl
  · intro q hb H locs ls hG hl
    exact wM_armed_L31 B hK hb (fun _ _ _ h => by cases h) (fun z0 z1 h => ke64 z0 z1 (Sum.inr.inj h)) hG hl
  · intro q q2 hb ih H locs ls hG hl
    exact wM_armed_L31 B hK hb (fun z0 z1 z2 h => by cases h; exact fun H locs hG ls hl => ih H locs ls hG hl) (fun _ _ h => by cases h) hG hl

noncomputable def fM_armed (w : MW) (x1 : Int32) (x2 : Int32) : Option (Int32 × MW) :=
  (fM_isCell w (x1.toInt64)).bind fun r_1 =>
  if r_1 = 0 then
    fM_armed_J19 w 
  else
    (fM_within x2 (-1) 8).bind fun r_4 =>
    if r_4 = 0 then
      fM_armed_J19 w 
    else
      (lp (fun q : Int32 × Int32 × MW => fM_armed_L31 q.2.2 x1 x2 q.1 q.2.1) (0, 0, w)).bind (
        fun q_9 => (fun (y_7 : Int32) (w_8 : MW) =>
          some (y_7, w_8)
        ) q_9.1 q_9.2
      )

set_option maxHeartbeats 4000000 in
theorem wM_armed (B : CallFix p m c cX4_armed 5 s args lw_all RX4) (hK : KK X s) {w : MW} {x1 : Int32} {x2 : Int32} {res : Int32 × MW} (hf : fM_armed w x1 x2 = some res) (kr : ∀ (r : Int32) (w1 : MW), res = (r, w1) → ∀ (H : Heap) (locs : List Loc), GG X (MP X a w1 ++ rest) s.heap H locs → ∀ (pc : Nat) (ls : Array Slot), decode cX4_armed pc = .ok (.ireturn, 1) → W p l e (RMw 7 0 0 150) s m args below meth c H locs 0 0 Q (F0 m pc ls [.int r])) {H : Heap} {locs : List Loc} (hG : GG X (MP X a w ++ rest) s.heap H locs) {ls : Array Slot} (hl : lv_has ls 5 [(0, .ref (a 0)), (1, .int x1), (2, .int x2)]) : W p l e (RMw 7 0 0 150) s m args below meth c H locs 0 0 Q (F0 m 0 ls []) := by
  have hx := B.1
  have hb := B.2.1
  unfold fM_armed at hf
  refine lv_aload_n hx hb dX4_armed_0 rfl (lv_at hl 0 rfl) ?_
  refine lv_iload_n hx hb dX4_armed_1 rfl (lv_at hl 1 rfl) ?_
  refine lv_i2l hx hb dX4_armed_2 rfl ?_
  obtain ⟨r_1, e_2, hf⟩ := bo hf
  refine cM_isCell B hK hG.2.2 hG.1 e_2 ⟨Nat.le_of_ble_eq_true rfl, Nat.le_of_ble_eq_true rfl⟩ ⟨Nat.zero_le _, Nat.zero_le _⟩ hl.1 (Nat.le_of_ble_eq_true rfl) dX4_armed_3 ?_
  refine lv_if_eq (tgt := 19) hx hb dX4_armed_6 (by decide) (fun c_3 => ?_) (fun c_3 => ?_)
  · have hf := ifp c_3 hf
    exact wM_armed_J19 B hK hf kr hG (lv_sub hl [0] rfl)
  · have hf := ifn c_3 hf
    refine lv_iload_n hx hb dX4_armed_9 rfl (lv_at hl 2 rfl) ?_
    refine lv_iconst (v := (-1)) hx hb dX4_armed_10 (by decide) ?_
    refine lv_bipush (v := 8) hx hb dX4_armed_11 (by decide) ?_
    obtain ⟨r_4, e_5, hf⟩ := bo hf
    refine cM_within B e_5 ⟨Nat.le_of_ble_eq_true rfl, Nat.le_of_ble_eq_true rfl⟩ ⟨Nat.zero_le _, Nat.zero_le _⟩ hl.1 (Nat.le_of_ble_eq_true rfl) dX4_armed_13 ?_
    refine lv_if_ne (tgt := 26) hx hb dX4_armed_16 (by decide) (fun c_6 => ?_) (fun c_6 => ?_)
    · have hf := ifn c_6 hf
      refine lv_iconst (v := 0) hx hb dX4_armed_26 (by decide) ?_
      refine lv_istore_n (lv' := [(3, .int 0), (0, .ref (a 0)), (1, .int x1), (2, .int x2)]) hx hb dX4_armed_27 rfl hl (by decide) rfl (fun ls hl => ?_)
      refine lv_iconst (v := 0) hx hb dX4_armed_28 (by decide) ?_
      refine lv_istore (lv' := [(4, .int 0), (3, .int 0), (0, .ref (a 0)), (1, .int x1), (2, .int x2)]) hx hb dX4_armed_29 hl (by decide) rfl (fun ls hl => ?_)
      obtain ⟨⟨y_7, w_8⟩, e_10, hf⟩ := bo hf
      try dsimp only at hf
      refine vM_armed_L31 B hK e_10 ?_ hG (lv_sub hl [2, 3, 4, 1, 0] rfl)
      intro z0 z1 hz
      cases hz
      intro H locs hG ls hl
      refine lv_iload_n hx hb dX4_armed_64 rfl (lv_at hl 0 rfl) ?_
      exact kr _ _ (Option.some.inj hf).symm _ _ hG _ _ dX4_armed_65
    · have hf := ifp c_6 hf
      exact wM_armed_J19 B hK hf kr hG (lv_sub hl [0] rfl)

theorem tM_armed (l : Launch) (X : CX) (a : Nat → Nat) (rest : va_W) (w w' : MW) (x1 : Int32) (x2 : Int32) (r : Int32) (hf : fM_armed w x1 x2 = some (r, w')) : RW l yX4_armed cX4_armed 5 (some .int) 7 0 0 150 [.ref (a 0), .int x1, .int x2] X (MP X a w ++ rest) (MP X a w' ++ rest) (some (.int r)) := by
  refine RW.mk (by decide) (Nat.le_of_ble_eq_true rfl) ?_
  intro p e s m below meth c B hr hlk hK hG ls hl
  exact wM_armed B hK hf (fun r w h H locs hG pc ls hd => by cases h; exact w_iretW B hr hlk hG hd) hG hl
end S_armed

section S_alike
variable {p : Program} {l : Launch} {e : Env} {R : Room} {s : State} {m : MethodId} {args : Array Value} {below : List Frame} {meth : Method} {c : Code} {H : Heap} {locs : List Loc} {cells slots : Nat} {Q : State → Prop} {cc : ByteArray} {nL pc : Nat} {ls : Array Slot} {st : List Value} {X : CX} {a : Nat → Nat} {w : MW} {rest : va_W}
noncomputable def fM_alike (w : MW) (x1 : Int32) : Option (Int32 × MW) :=
  (fM_isDry w x1).bind fun r_1 =>
  if r_1 = 0 then
    b2 (fM_no w (-2)) fun r_13 w_14 =>
    some (r_13, w_14)
  else
    (fM_allPosts w ).bind fun r_4 =>
    b2 (fM_groups w r_4) fun r_6 w_7 =>
    (rd (w_7.2.1 27) 67 x1).bind fun v_9 =>
    (fM_sizeOf w_7 v_9).bind fun r_11 =>
    some (r_11, w_7)

set_option maxHeartbeats 4000000 in
theorem wM_alike (B : CallFix p m c cX4_alike 2 s args lw_all RX4) (hK : KK X s) {w : MW} {x1 : Int32} {res : Int32 × MW} (hf : fM_alike w x1 = some res) (kr : ∀ (r : Int32) (w1 : MW), res = (r, w1) → ∀ (H : Heap) (locs : List Loc), GG X (MP X a w1 ++ rest) s.heap H locs → ∀ (pc : Nat) (ls : Array Slot), decode cX4_alike pc = .ok (.ireturn, 1) → W p l e (RMw 9 0 0 198) s m args below meth c H locs 0 0 Q (F0 m pc ls [.int r])) {H : Heap} {locs : List Loc} (hG : GG X (MP X a w ++ rest) s.heap H locs) {ls : Array Slot} (hl : lv_has ls 2 [(0, .ref (a 0)), (1, .int x1)]) : W p l e (RMw 9 0 0 198) s m args below meth c H locs 0 0 Q (F0 m 0 ls []) := by
  have hx := B.1
  have hb := B.2.1
  unfold fM_alike at hf
  refine lv_aload_n hx hb dX4_alike_0 rfl (lv_at hl 0 rfl) ?_
  refine lv_iload_n hx hb dX4_alike_1 rfl (lv_at hl 1 rfl) ?_
  obtain ⟨r_1, e_2, hf⟩ := bo hf
  refine cM_isDry B hK hG.2.2 hG.1 e_2 ⟨Nat.le_of_ble_eq_true rfl, Nat.le_of_ble_eq_true rfl⟩ ⟨Nat.zero_le _, Nat.zero_le _⟩ hl.1 (Nat.le_of_ble_eq_true rfl) dX4_alike_2 ?_
  refine lv_if_ne (tgt := 15) hx hb dX4_alike_5 (by decide) (fun c_3 => ?_) (fun c_3 => ?_)
  · have hf := ifn c_3 hf
    refine lv_aload_n hx hb dX4_alike_15 rfl (lv_at hl 0 rfl) ?_
    refine lv_aload_n hx hb dX4_alike_16 rfl (lv_at hl 0 rfl) ?_
    obtain ⟨r_4, e_5, hf⟩ := bo hf
    refine cM_allPosts B hK hG.2.2 hG.1 e_5 ⟨Nat.le_of_ble_eq_true rfl, Nat.le_of_ble_eq_true rfl⟩ ⟨Nat.zero_le _, Nat.zero_le _⟩ hl.1 (Nat.le_of_ble_eq_true rfl) dX4_alike_17 ?_
    obtain ⟨r_6, w_7, e_8, hf⟩ := b2s hf
    refine cM_groups B hK hG e_8 ⟨Nat.le_of_ble_eq_true rfl, Nat.le_of_ble_eq_true rfl⟩ ⟨Nat.zero_le _, Nat.zero_le _⟩ hl.1 (Nat.le_of_ble_eq_true rfl) dX4_alike_20 (fun H locs hG => ?_)
    refine lv_pop hx hb dX4_alike_23 rfl ?_
    refine lv_aload_n hx hb dX4_alike_24 rfl (lv_at hl 0 rfl) ?_
    refine lv_aload_n hx hb dX4_alike_25 rfl (lv_at hl 0 rfl) ?_
    refine mo_g27 B hK hG.1 dX4_alike_26 ?_
    refine lv_iload_n hx hb dX4_alike_29 rfl (lv_at hl 1 rfl) ?_
    obtain ⟨v_9, e_10, hf⟩ := bo hf
    refine mo_ld27 B hK hG.1 e_10 dX4_alike_30 ?_
    obtain ⟨r_11, e_12, hf⟩ := bo hf
    refine cM_sizeOf B hK hG.2.2 hG.1 e_12 ⟨Nat.le_of_ble_eq_true rfl, Nat.le_of_ble_eq_true rfl⟩ ⟨Nat.zero_le _, Nat.zero_le _⟩ hl.1 (Nat.le_of_ble_eq_true rfl) dX4_alike_31 ?_
    exact kr _ _ (Option.some.inj hf).symm _ _ hG _ _ dX4_alike_34
  · have hf := ifp c_3 hf
    refine lv_aload_n hx hb dX4_alike_8 rfl (lv_at hl 0 rfl) ?_
    refine lv_bipush (v := (-2)) hx hb dX4_alike_9 (by decide) ?_
    obtain ⟨r_13, w_14, e_15, hf⟩ := b2s hf
    refine cM_no B hK hG e_15 ⟨Nat.le_of_ble_eq_true rfl, Nat.le_of_ble_eq_true rfl⟩ ⟨Nat.zero_le _, Nat.zero_le _⟩ hl.1 (Nat.le_of_ble_eq_true rfl) dX4_alike_11 (fun H locs hG => ?_)
    exact kr _ _ (Option.some.inj hf).symm _ _ hG _ _ dX4_alike_14

theorem tM_alike (l : Launch) (X : CX) (a : Nat → Nat) (rest : va_W) (w w' : MW) (x1 : Int32) (r : Int32) (hf : fM_alike w x1 = some (r, w')) : RW l yX4_alike cX4_alike 2 (some .int) 9 0 0 198 [.ref (a 0), .int x1] X (MP X a w ++ rest) (MP X a w' ++ rest) (some (.int r)) := by
  refine RW.mk (by decide) (Nat.le_of_ble_eq_true rfl) ?_
  intro p e s m below meth c B hr hlk hK hG ls hl
  exact wM_alike B hK hf (fun r w h H locs hG pc ls hd => by cases h; exact w_iretW B hr hlk hG hd) hG hl
end S_alike

section S_right
variable {p : Program} {l : Launch} {e : Env} {R : Room} {s : State} {m : MethodId} {args : Array Value} {below : List Frame} {meth : Method} {c : Code} {H : Heap} {locs : List Loc} {cells slots : Nat} {Q : State → Prop} {cc : ByteArray} {nL pc : Nat} {ls : Array Slot} {st : List Value} {X : CX} {a : Nat → Nat} {w : MW} {rest : va_W}
noncomputable def fM_right_L20 (w : MW) (x1 : Int32) (x2 : Int32) (x3 : Int32) : Option ((Int32 × Int32 × MW) ⊕ (Int32 × MW)) :=
  if 67 ≤ x3 then
    some (.inr (x2, w))
  else
    (fM_isDry w x3).bind fun r_2 =>
    if r_2 = 0 then
      (some (x3 + 1)).bind fun x_5 =>
      some (.inl (x2, x_5, w))
    else
      b2 (fM_armFor w x1 x3) fun r_7 w_8 =>
      (rd (w_8.2.1 6) 9 x1).bind fun v_10 =>
      (fM_wayTo v_10 x3).bind fun r_12 =>
      if r_7 = r_12 then
        (some (x2 + 1)).bind fun x_17 =>
        (some (x3 + 1)).bind fun x_19 =>
        some (.inl (x_17, x_19, w_8))
      else
        (some (x3 + 1)).bind fun x_15 =>
        some (.inl (x2, x_15, w_8))

set_option maxHeartbeats 4000000 in
theorem wM_right_L20 (B : CallFix p m c cX4_right 4 s args lw_all RX4) (hK : KK X s) {w : MW} {x1 : Int32} {x2 : Int32} {x3 : Int32} {res : (Int32 × Int32 × MW) ⊕ (Int32 × MW)} (hf : fM_right_L20 w x1 x2 x3 = some res) (kc : ∀ (y2 : Int32) (y3 : Int32) (w1 : MW), res = .inl (y2, y3, w1) → ∀ (H : Heap) (locs : List Loc), GG X (MP X a w1 ++ rest) s.heap H locs → ∀ (ls : Array Slot), lv_has ls 4 [(0, .ref (a 0)), (1, .int x1), (2, .int y2), (3, .int y3)] → W p l e (RMw 7 0 0 150) s m args below meth c H locs 0 0 Q (F0 m 20 ls [])) (ke62 : ∀ (y2 : Int32) (w1 : MW), res = .inr (y2, w1) → ∀ (H : Heap) (locs : List Loc), GG X (MP X a w1 ++ rest) s.heap H locs → ∀ (ls : Array Slot), lv_has ls 4 [(2, .int y2)] → W p l e (RMw 7 0 0 150) s m args below meth c H locs 0 0 Q (F0 m 62 ls [])) {H : Heap} {locs : List Loc} (hG : GG X (MP X a w ++ rest) s.heap H locs) {ls : Array Slot} (hl : lv_has ls 4 [(0, .ref (a 0)), (1, .int x1), (2, .int x2), (3, .int x3)]) : W p l e (RMw 7 0 0 150) s m args below meth c H locs 0 0 Q (F0 m 20 ls []) := by
  have hx := B.1
  have hb := B.2.1
  unfold fM_right_L20 at hf
  refine lv_iload_n hx hb dX4_right_20 rfl (lv_at hl 3 rfl) ?_
  refine lv_bipush (v := 67) hx hb dX4_right_21 (by decide) ?_
  refine lv_icmp_ge (tgt := 62) hx hb dX4_right_23 (by decide) (fun c_1 => ?_) (fun c_1 => ?_)
  · have hf := ifp c_1 hf
    exact ke62 _ _ (Option.some.inj hf).symm _ _ hG _ (lv_sub hl [2] rfl)
  · have hf := ifn c_1 hf
    refine lv_aload_n hx hb dX4_right_26 rfl (lv_at hl 0 rfl) ?_
    refine lv_iload_n hx hb dX4_right_27 rfl (lv_at hl 3 rfl) ?_
    obtain ⟨r_2, e_3, hf⟩ := bo hf
    refine cM_isDry B hK hG.2.2 hG.1 e_3 ⟨Nat.le_of_ble_eq_true rfl, Nat.le_of_ble_eq_true rfl⟩ ⟨Nat.zero_le _, Nat.zero_le _⟩ hl.1 (Nat.le_of_ble_eq_true rfl) dX4_right_28 ?_
    refine lv_if_eq (tgt := 56) hx hb dX4_right_31 (by decide) (fun c_4 => ?_) (fun c_4 => ?_)
    · have hf := ifp c_4 hf
      obtain ⟨x_5, e_6, hf⟩ := bo hf
      refine w_iinc (k := 3) (lv' := [(3, .int x_5), (0, .ref (a 0)), (1, .int x1), (2, .int x2)]) e_6 hx hb dX4_right_56 hl rfl (by decide) rfl (fun ls hl => ?_)
      refine lv_goto (tgt := 20) hx hb dX4_right_59 (by decide) ?_
      exact kc _ _ _ (Option.some.inj hf).symm _ _ hG _ (lv_sub hl [1, 2, 3, 0] rfl)
    · have hf := ifn c_4 hf
      refine lv_aload_n hx hb dX4_right_34 rfl (lv_at hl 0 rfl) ?_
      refine lv_iload_n hx hb dX4_right_35 rfl (lv_at hl 1 rfl) ?_
      refine lv_iload_n hx hb dX4_right_36 rfl (lv_at hl 3 rfl) ?_
      obtain ⟨r_7, w_8, e_9, hf⟩ := b2s hf
      refine cM_armFor B hK hG e_9 ⟨Nat.le_of_ble_eq_true rfl, Nat.le_of_ble_eq_true rfl⟩ ⟨Nat.zero_le _, Nat.zero_le _⟩ hl.1 (Nat.le_of_ble_eq_true rfl) dX4_right_37 (fun H locs hG => ?_)
      refine lv_aload_n hx hb dX4_right_40 rfl (lv_at hl 0 rfl) ?_
      refine mo_g6 B hK hG.1 dX4_right_41 ?_
      refine lv_iload_n hx hb dX4_right_44 rfl (lv_at hl 1 rfl) ?_
      obtain ⟨v_10, e_11, hf⟩ := bo hf
      refine mo_ld6 B hK hG.1 e_11 dX4_right_45 ?_
      refine lv_iload_n hx hb dX4_right_46 rfl (lv_at hl 3 rfl) ?_
      obtain ⟨r_12, e_13, hf⟩ := bo hf
      refine cM_wayTo B e_13 ⟨Nat.le_of_ble_eq_true rfl, Nat.le_of_ble_eq_true rfl⟩ ⟨Nat.zero_le _, Nat.zero_le _⟩ hl.1 (Nat.le_of_ble_eq_true rfl) dX4_right_47 ?_
      refine lv_icmp_ne (tgt := 56) hx hb dX4_right_50 (by decide) (fun c_14 => ?_) (fun c_14 => ?_)
      · have hf := ifn c_14 hf
        obtain ⟨x_15, e_16, hf⟩ := bo hf
        refine w_iinc (k := 3) (lv' := [(3, .int x_15), (0, .ref (a 0)), (1, .int x1), (2, .int x2)]) e_16 hx hb dX4_right_56 hl rfl (by decide) rfl (fun ls hl => ?_)
        refine lv_goto (tgt := 20) hx hb dX4_right_59 (by decide) ?_
        exact kc _ _ _ (Option.some.inj hf).symm _ _ hG _ (lv_sub hl [1, 2, 3, 0] rfl)
      · have hf := ifp c_14 hf
        obtain ⟨x_17, e_18, hf⟩ := bo hf
        refine w_iinc (k := 2) (lv' := [(2, .int x_17), (0, .ref (a 0)), (1, .int x1), (3, .int x3)]) e_18 hx hb dX4_right_53 hl rfl (by decide) rfl (fun ls hl => ?_)
        obtain ⟨x_19, e_20, hf⟩ := bo hf
        refine w_iinc (k := 3) (lv' := [(3, .int x_19), (2, .int x_17), (0, .ref (a 0)), (1, .int x1)]) e_20 hx hb dX4_right_56 hl rfl (by decide) rfl (fun ls hl => ?_)
        refine lv_goto (tgt := 20) hx hb dX4_right_59 (by decide) ?_
        exact kc _ _ _ (Option.some.inj hf).symm _ _ hG _ (lv_sub hl [2, 3, 1, 0] rfl)

set_option maxHeartbeats 4000000 in
theorem vM_right_L20 (B : CallFix p m c cX4_right 4 s args lw_all RX4) (hK : KK X s) {w : MW} {x1 : Int32} {x2 : Int32} {x3 : Int32} {res : Int32 × MW} (hf : lp (fun q : Int32 × Int32 × MW => fM_right_L20 q.2.2 x1 q.1 q.2.1) (x2, x3, w) = some res) (ke62 : ∀ (y2 : Int32) (w1 : MW), res = (y2, w1) → ∀ (H : Heap) (locs : List Loc), GG X (MP X a w1 ++ rest) s.heap H locs → ∀ (ls : Array Slot), lv_has ls 4 [(2, .int y2)] → W p l e (RMw 7 0 0 150) s m args below meth c H locs 0 0 Q (F0 m 62 ls [])) {H : Heap} {locs : List Loc} (hG : GG X (MP X a w ++ rest) s.heap H locs) {ls : Array Slot} (hl : lv_has ls 4 [(0, .ref (a 0)), (1, .int x1), (2, .int x2), (3, .int x3)]) : W p l e (RMw 7 0 0 150) s m args below meth c H locs 0 0 Q (F0 m 20 ls []) := by
  refine lp_ind (r := res) (P := fun q : Int32 × Int32 × MW => ∀ (H : Heap) (locs : List Loc) (ls : Array Slot), GG X (MP X a q.2.2 ++ rest) s.heap H locs → lv_has ls 4 [(0, .ref (a 0)), (1, .int x1), (2, .int q.1), (3, .int q.2.1)] → W p l e (RMw 7 0 0 150) s m args below meth c H locs 0 0 Q (F0 m 20 ls [])) ?_ ?_ _ hf _ _ _ hG hl
  · intro q hb H locs ls hG hl
    exact wM_right_L20 B hK hb (fun _ _ _ h => by cases h) (fun z0 z1 h => ke62 z0 z1 (Sum.inr.inj h)) hG hl
  · intro q q2 hb ih H locs ls hG hl
    exact wM_right_L20 B hK hb (fun z0 z1 z2 h => by cases h; exact fun H locs hG ls hl => ih H locs ls hG hl) (fun _ _ h => by cases h) hG hl

noncomputable def fM_right (w : MW) (x1 : Int32) : Option (Int32 × MW) :=
  (fM_isPost w (x1.toInt64)).bind fun r_1 =>
  if r_1 = 0 then
    b2 (fM_no w (-2)) fun r_8 w_9 =>
    some (r_8, w_9)
  else
    (lp (fun q : Int32 × Int32 × MW => fM_right_L20 q.2.2 x1 q.1 q.2.1) (0, 0, w)).bind (
      fun q_6 => (fun (y_4 : Int32) (w_5 : MW) =>
        some (y_4, w_5)
      ) q_6.1 q_6.2
    )

set_option maxHeartbeats 4000000 in
theorem wM_right (B : CallFix p m c cX4_right 4 s args lw_all RX4) (hK : KK X s) {w : MW} {x1 : Int32} {res : Int32 × MW} (hf : fM_right w x1 = some res) (kr : ∀ (r : Int32) (w1 : MW), res = (r, w1) → ∀ (H : Heap) (locs : List Loc), GG X (MP X a w1 ++ rest) s.heap H locs → ∀ (pc : Nat) (ls : Array Slot), decode cX4_right pc = .ok (.ireturn, 1) → W p l e (RMw 7 0 0 150) s m args below meth c H locs 0 0 Q (F0 m pc ls [.int r])) {H : Heap} {locs : List Loc} (hG : GG X (MP X a w ++ rest) s.heap H locs) {ls : Array Slot} (hl : lv_has ls 4 [(0, .ref (a 0)), (1, .int x1)]) : W p l e (RMw 7 0 0 150) s m args below meth c H locs 0 0 Q (F0 m 0 ls []) := by
  have hx := B.1
  have hb := B.2.1
  unfold fM_right at hf
  refine lv_aload_n hx hb dX4_right_0 rfl (lv_at hl 0 rfl) ?_
  refine lv_iload_n hx hb dX4_right_1 rfl (lv_at hl 1 rfl) ?_
  refine lv_i2l hx hb dX4_right_2 rfl ?_
  obtain ⟨r_1, e_2, hf⟩ := bo hf
  refine cM_isPost B hK hG.2.2 hG.1 e_2 ⟨Nat.le_of_ble_eq_true rfl, Nat.le_of_ble_eq_true rfl⟩ ⟨Nat.zero_le _, Nat.zero_le _⟩ hl.1 (Nat.le_of_ble_eq_true rfl) dX4_right_3 ?_
  refine lv_if_ne (tgt := 16) hx hb dX4_right_6 (by decide) (fun c_3 => ?_) (fun c_3 => ?_)
  · have hf := ifn c_3 hf
    refine lv_iconst (v := 0) hx hb dX4_right_16 (by decide) ?_
    refine lv_istore_n (lv' := [(2, .int 0), (0, .ref (a 0)), (1, .int x1)]) hx hb dX4_right_17 rfl hl (by decide) rfl (fun ls hl => ?_)
    refine lv_iconst (v := 0) hx hb dX4_right_18 (by decide) ?_
    refine lv_istore_n (lv' := [(3, .int 0), (2, .int 0), (0, .ref (a 0)), (1, .int x1)]) hx hb dX4_right_19 rfl hl (by decide) rfl (fun ls hl => ?_)
    obtain ⟨⟨y_4, w_5⟩, e_7, hf⟩ := bo hf
    try dsimp only at hf
    refine vM_right_L20 B hK e_7 ?_ hG (lv_sub hl [2, 3, 1, 0] rfl)
    intro z0 z1 hz
    cases hz
    intro H locs hG ls hl
    refine lv_iload_n hx hb dX4_right_62 rfl (lv_at hl 0 rfl) ?_
    exact kr _ _ (Option.some.inj hf).symm _ _ hG _ _ dX4_right_63
  · have hf := ifp c_3 hf
    refine lv_aload_n hx hb dX4_right_9 rfl (lv_at hl 0 rfl) ?_
    refine lv_bipush (v := (-2)) hx hb dX4_right_10 (by decide) ?_
    obtain ⟨r_8, w_9, e_10, hf⟩ := b2s hf
    refine cM_no B hK hG e_10 ⟨Nat.le_of_ble_eq_true rfl, Nat.le_of_ble_eq_true rfl⟩ ⟨Nat.zero_le _, Nat.zero_le _⟩ hl.1 (Nat.le_of_ble_eq_true rfl) dX4_right_12 (fun H locs hG => ?_)
    exact kr _ _ (Option.some.inj hf).symm _ _ hG _ _ dX4_right_15

theorem tM_right (l : Launch) (X : CX) (a : Nat → Nat) (rest : va_W) (w w' : MW) (x1 : Int32) (r : Int32) (hf : fM_right w x1 = some (r, w')) : RW l yX4_right cX4_right 4 (some .int) 7 0 0 150 [.ref (a 0), .int x1] X (MP X a w ++ rest) (MP X a w' ++ rest) (some (.int r)) := by
  refine RW.mk (by decide) (Nat.le_of_ble_eq_true rfl) ?_
  intro p e s m below meth c B hr hlk hK hG ls hl
  exact wM_right B hK hf (fun r w h H locs hG pc ls hd => by cases h; exact w_iretW B hr hlk hG hd) hG hl
end S_right

section S_pointing
variable {p : Program} {l : Launch} {e : Env} {R : Room} {s : State} {m : MethodId} {args : Array Value} {below : List Frame} {meth : Method} {c : Code} {H : Heap} {locs : List Loc} {cells slots : Nat} {Q : State → Prop} {cc : ByteArray} {nL pc : Nat} {ls : Array Slot} {st : List Value} {X : CX} {a : Nat → Nat} {w : MW} {rest : va_W}
noncomputable def fM_pointing_L23 (w : MW) (x1 : Int32) (x2 : Int32) (x3 : Int32) : Option ((Int32 × Int32) ⊕ (Int32)) :=
  if (w.1 3) ≤ x3 then
    some (.inr x2)
  else
    (fM_armOf w x3).bind fun r_2 =>
    (rd (w.2.1 6) 9 x3).bind fun v_4 =>
    (rd (w.2.1 8) 4 x1).bind fun v_6 =>
    (fM_wayTo v_4 v_6).bind fun r_8 =>
    if r_2 = r_8 then
      (some (x2 ||| (ishl 1 x3))).bind fun x_13 =>
      (some (x3 + 1)).bind fun x_15 =>
      some (.inl (x_13, x_15))
    else
      (some (x3 + 1)).bind fun x_11 =>
      some (.inl (x2, x_11))

set_option maxHeartbeats 4000000 in
theorem wM_pointing_L23 (B : CallFix p m c cX4_pointing 4 s args lw_all RX4) (hK : KK X s) {w : MW} {x1 : Int32} {x2 : Int32} {x3 : Int32} {res : (Int32 × Int32) ⊕ (Int32)} (hf : fM_pointing_L23 w x1 x2 x3 = some res) (kc : ∀ (y2 : Int32) (y3 : Int32), res = .inl (y2, y3) → ∀ (H : Heap) (locs : List Loc), GG X (MP X a w ++ rest) s.heap H locs → ∀ (ls : Array Slot), lv_has ls 4 [(0, .ref (a 0)), (1, .int x1), (2, .int y2), (3, .int y3)] → W p l e (RMw 6 0 0 128) s m args below meth c H locs 0 0 Q (F0 m 23 ls [])) (ke66 : ∀ (y2 : Int32), res = .inr y2 → ∀ (H : Heap) (locs : List Loc), GG X (MP X a w ++ rest) s.heap H locs → ∀ (ls : Array Slot), lv_has ls 4 [(2, .int y2)] → W p l e (RMw 6 0 0 128) s m args below meth c H locs 0 0 Q (F0 m 66 ls [])) {H : Heap} {locs : List Loc} (hG : GG X (MP X a w ++ rest) s.heap H locs) {ls : Array Slot} (hl : lv_has ls 4 [(0, .ref (a 0)), (1, .int x1), (2, .int x2), (3, .int x3)]) : W p l e (RMw 6 0 0 128) s m args below meth c H locs 0 0 Q (F0 m 23 ls []) := by
  have hx := B.1
  have hb := B.2.1
  unfold fM_pointing_L23 at hf
  refine lv_iload_n hx hb dX4_pointing_23 rfl (lv_at hl 3 rfl) ?_
  refine lv_aload_n hx hb dX4_pointing_24 rfl (lv_at hl 0 rfl) ?_
  refine mo_g3 B hK hG.1 dX4_pointing_25 ?_
  refine lv_icmp_ge (tgt := 66) hx hb dX4_pointing_28 (by decide) (fun c_1 => ?_) (fun c_1 => ?_)
  · have hf := ifp c_1 hf
    exact ke66 _ (Option.some.inj hf).symm _ _ hG _ (lv_sub hl [2] rfl)
  · have hf := ifn c_1 hf
    refine lv_aload_n hx hb dX4_pointing_31 rfl (lv_at hl 0 rfl) ?_
    refine lv_iload_n hx hb dX4_pointing_32 rfl (lv_at hl 3 rfl) ?_
    obtain ⟨r_2, e_3, hf⟩ := bo hf
    refine cM_armOf B hK hG.2.2 hG.1 e_3 ⟨Nat.le_of_ble_eq_true rfl, Nat.le_of_ble_eq_true rfl⟩ ⟨Nat.zero_le _, Nat.zero_le _⟩ hl.1 (Nat.le_of_ble_eq_true rfl) dX4_pointing_33 ?_
    refine lv_aload_n hx hb dX4_pointing_36 rfl (lv_at hl 0 rfl) ?_
    refine mo_g6 B hK hG.1 dX4_pointing_37 ?_
    refine lv_iload_n hx hb dX4_pointing_40 rfl (lv_at hl 3 rfl) ?_
    obtain ⟨v_4, e_5, hf⟩ := bo hf
    refine mo_ld6 B hK hG.1 e_5 dX4_pointing_41 ?_
    refine lv_aload_n hx hb dX4_pointing_42 rfl (lv_at hl 0 rfl) ?_
    refine mo_g8 B hK hG.1 dX4_pointing_43 ?_
    refine lv_iload_n hx hb dX4_pointing_46 rfl (lv_at hl 1 rfl) ?_
    obtain ⟨v_6, e_7, hf⟩ := bo hf
    refine mo_ld8 B hK hG.1 e_7 dX4_pointing_47 ?_
    obtain ⟨r_8, e_9, hf⟩ := bo hf
    refine cM_wayTo B e_9 ⟨Nat.le_of_ble_eq_true rfl, Nat.le_of_ble_eq_true rfl⟩ ⟨Nat.zero_le _, Nat.zero_le _⟩ hl.1 (Nat.le_of_ble_eq_true rfl) dX4_pointing_48 ?_
    refine lv_icmp_ne (tgt := 60) hx hb dX4_pointing_51 (by decide) (fun c_10 => ?_) (fun c_10 => ?_)
    · have hf := ifn c_10 hf
      obtain ⟨x_11, e_12, hf⟩ := bo hf
      refine w_iinc (k := 3) (lv' := [(3, .int x_11), (0, .ref (a 0)), (1, .int x1), (2, .int x2)]) e_12 hx hb dX4_pointing_60 hl rfl (by decide) rfl (fun ls hl => ?_)
      refine lv_goto (tgt := 23) hx hb dX4_pointing_63 (by decide) ?_
      exact kc _ _ (Option.some.inj hf).symm _ _ hG _ (lv_sub hl [1, 2, 3, 0] rfl)
    · have hf := ifp c_10 hf
      refine lv_iload_n hx hb dX4_pointing_54 rfl (lv_at hl 2 rfl) ?_
      refine lv_iconst (v := 1) hx hb dX4_pointing_55 (by decide) ?_
      refine lv_iload_n hx hb dX4_pointing_56 rfl (lv_at hl 3 rfl) ?_
      refine w_ishl hx hb dX4_pointing_57 ?_
      refine lv_ior hx hb dX4_pointing_58 ?_
      obtain ⟨x_13, e_14, hf⟩ := bo hf
      refine w_istore_n (lv' := [(2, .int x_13), (0, .ref (a 0)), (1, .int x1), (3, .int x3)]) e_14 hx hb dX4_pointing_59 rfl hl (by decide) rfl (fun ls hl => ?_)
      obtain ⟨x_15, e_16, hf⟩ := bo hf
      refine w_iinc (k := 3) (lv' := [(3, .int x_15), (2, .int x_13), (0, .ref (a 0)), (1, .int x1)]) e_16 hx hb dX4_pointing_60 hl rfl (by decide) rfl (fun ls hl => ?_)
      refine lv_goto (tgt := 23) hx hb dX4_pointing_63 (by decide) ?_
      exact kc _ _ (Option.some.inj hf).symm _ _ hG _ (lv_sub hl [2, 3, 1, 0] rfl)

set_option maxHeartbeats 4000000 in
theorem vM_pointing_L23 (B : CallFix p m c cX4_pointing 4 s args lw_all RX4) (hK : KK X s) {w : MW} {x1 : Int32} {x2 : Int32} {x3 : Int32} {res : Int32} (hf : lp (fun q : Int32 × Int32 => fM_pointing_L23 w x1 q.1 q.2) (x2, x3) = some res) (ke66 : ∀ (y2 : Int32), res = y2 → ∀ (H : Heap) (locs : List Loc), GG X (MP X a w ++ rest) s.heap H locs → ∀ (ls : Array Slot), lv_has ls 4 [(2, .int y2)] → W p l e (RMw 6 0 0 128) s m args below meth c H locs 0 0 Q (F0 m 66 ls [])) {H : Heap} {locs : List Loc} (hG : GG X (MP X a w ++ rest) s.heap H locs) {ls : Array Slot} (hl : lv_has ls 4 [(0, .ref (a 0)), (1, .int x1), (2, .int x2), (3, .int x3)]) : W p l e (RMw 6 0 0 128) s m args below meth c H locs 0 0 Q (F0 m 23 ls []) := by
  refine lp_ind (r := res) (P := fun q : Int32 × Int32 => ∀ (H : Heap) (locs : List Loc) (ls : Array Slot), GG X (MP X a w ++ rest) s.heap H locs → lv_has ls 4 [(0, .ref (a 0)), (1, .int x1), (2, .int q.1), (3, .int q.2)] → W p l e (RMw 6 0 0 128) s m args below meth c H locs 0 0 Q (F0 m 23 ls [])) ?_ ?_ _ hf _ _ _ hG hl
  · intro q hb H locs ls hG hl
    exact wM_pointing_L23 B hK hb (fun _ _ h => by cases h) (fun z0 h => ke66 z0 (Sum.inr.inj h)) hG hl
  · intro q q2 hb ih H locs ls hG hl
    exact wM_pointing_L23 B hK hb (fun z0 z1 h => by cases h; exact fun H locs hG ls hl => ih H locs ls hG hl) (fun _ h => by cases h) hG hl

noncomputable def fM_pointing (w : MW) (x1 : Int32) : Option (Int32 × MW) :=
  (fM_isWalker w x1).bind fun r_1 =>
  if r_1 = 0 then
    b2 (fM_no w (-2)) fun r_9 w_10 =>
    some (r_9, w_10)
  else
    (fM_asThingsAre w ).bind fun w_4 =>
    (lp (fun q : Int32 × Int32 => fM_pointing_L23 w_4 x1 q.1 q.2) (0, 0)).bind (
      fun q_7 => (fun (y_6 : Int32) =>
        some (y_6, w_4)
      ) q_7
    )

set_option maxHeartbeats 4000000 in
theorem wM_pointing (B : CallFix p m c cX4_pointing 4 s args lw_all RX4) (hK : KK X s) {w : MW} {x1 : Int32} {res : Int32 × MW} (hf : fM_pointing w x1 = some res) (kr : ∀ (r : Int32) (w1 : MW), res = (r, w1) → ∀ (H : Heap) (locs : List Loc), GG X (MP X a w1 ++ rest) s.heap H locs → ∀ (pc : Nat) (ls : Array Slot), decode cX4_pointing pc = .ok (.ireturn, 1) → W p l e (RMw 6 0 0 128) s m args below meth c H locs 0 0 Q (F0 m pc ls [.int r])) {H : Heap} {locs : List Loc} (hG : GG X (MP X a w ++ rest) s.heap H locs) {ls : Array Slot} (hl : lv_has ls 4 [(0, .ref (a 0)), (1, .int x1)]) : W p l e (RMw 6 0 0 128) s m args below meth c H locs 0 0 Q (F0 m 0 ls []) := by
  have hx := B.1
  have hb := B.2.1
  unfold fM_pointing at hf
  refine lv_aload_n hx hb dX4_pointing_0 rfl (lv_at hl 0 rfl) ?_
  refine lv_iload_n hx hb dX4_pointing_1 rfl (lv_at hl 1 rfl) ?_
  obtain ⟨r_1, e_2, hf⟩ := bo hf
  refine cM_isWalker B hK hG.2.2 hG.1 e_2 ⟨Nat.le_of_ble_eq_true rfl, Nat.le_of_ble_eq_true rfl⟩ ⟨Nat.zero_le _, Nat.zero_le _⟩ hl.1 (Nat.le_of_ble_eq_true rfl) dX4_pointing_2 ?_
  refine lv_if_ne (tgt := 15) hx hb dX4_pointing_5 (by decide) (fun c_3 => ?_) (fun c_3 => ?_)
  · have hf := ifn c_3 hf
    refine lv_aload_n hx hb dX4_pointing_15 rfl (lv_at hl 0 rfl) ?_
    obtain ⟨w_4, e_5, hf⟩ := bo hf
    refine cM_asThingsAre B hK hG e_5 ⟨Nat.le_of_ble_eq_true rfl, Nat.le_of_ble_eq_true rfl⟩ ⟨Nat.zero_le _, Nat.zero_le _⟩ hl.1 (Nat.le_of_ble_eq_true rfl) dX4_pointing_16 (fun H locs hG => ?_)
    refine lv_iconst (v := 0) hx hb dX4_pointing_19 (by decide) ?_
    refine lv_istore_n (lv' := [(2, .int 0), (0, .ref (a 0)), (1, .int x1)]) hx hb dX4_pointing_20 rfl hl (by decide) rfl (fun ls hl => ?_)
    refine lv_iconst (v := 0) hx hb dX4_pointing_21 (by decide) ?_
    refine lv_istore_n (lv' := [(3, .int 0), (2, .int 0), (0, .ref (a 0)), (1, .int x1)]) hx hb dX4_pointing_22 rfl hl (by decide) rfl (fun ls hl => ?_)
    obtain ⟨y_6, e_8, hf⟩ := bo hf
    try dsimp only at hf
    refine vM_pointing_L23 B hK e_8 ?_ hG (lv_sub hl [2, 3, 1, 0] rfl)
    intro z0 hz
    cases hz
    intro H locs hG ls hl
    refine lv_iload_n hx hb dX4_pointing_66 rfl (lv_at hl 0 rfl) ?_
    exact kr _ _ (Option.some.inj hf).symm _ _ hG _ _ dX4_pointing_67
  · have hf := ifp c_3 hf
    refine lv_aload_n hx hb dX4_pointing_8 rfl (lv_at hl 0 rfl) ?_
    refine lv_bipush (v := (-2)) hx hb dX4_pointing_9 (by decide) ?_
    obtain ⟨r_9, w_10, e_11, hf⟩ := b2s hf
    refine cM_no B hK hG e_11 ⟨Nat.le_of_ble_eq_true rfl, Nat.le_of_ble_eq_true rfl⟩ ⟨Nat.zero_le _, Nat.zero_le _⟩ hl.1 (Nat.le_of_ble_eq_true rfl) dX4_pointing_11 (fun H locs hG => ?_)
    exact kr _ _ (Option.some.inj hf).symm _ _ hG _ _ dX4_pointing_14

theorem tM_pointing (l : Launch) (X : CX) (a : Nat → Nat) (rest : va_W) (w w' : MW) (x1 : Int32) (r : Int32) (hf : fM_pointing w x1 = some (r, w')) : RW l yX4_pointing cX4_pointing 4 (some .int) 6 0 0 128 [.ref (a 0), .int x1] X (MP X a w ++ rest) (MP X a w' ++ rest) (some (.int r)) := by
  refine RW.mk (by decide) (Nat.le_of_ble_eq_true rfl) ?_
  intro p e s m below meth c B hr hlk hK hG ls hl
  exact wM_pointing B hK hf (fun r w h H locs hG pc ls hd => by cases h; exact w_iretW B hr hlk hG hd) hG hl
end S_pointing

section S_trembling
variable {p : Program} {l : Launch} {e : Env} {R : Room} {s : State} {m : MethodId} {args : Array Value} {below : List Frame} {meth : Method} {c : Code} {H : Heap} {locs : List Loc} {cells slots : Nat} {Q : State → Prop} {cc : ByteArray} {nL pc : Nat} {ls : Array Slot} {st : List Value} {X : CX} {a : Nat → Nat} {w : MW} {rest : va_W}
noncomputable def fM_trembling_L8 (w : MW) (x1 : Int32) (x2 : Int32) : Option ((Int32 × Int32) ⊕ (Int32)) :=
  if (w.1 3) ≤ x2 then
    some (.inr x1)
  else
    (fM_armOf w x2).bind fun r_2 =>
    if r_2 = (-1) then
      (some (x1 ||| (ishl 1 x2))).bind fun x_7 =>
      (some (x2 + 1)).bind fun x_9 =>
      some (.inl (x_7, x_9))
    else
      (some (x2 + 1)).bind fun x_5 =>
      some (.inl (x1, x_5))

set_option maxHeartbeats 4000000 in
theorem wM_trembling_L8 (B : CallFix p m c cX4_trembling 3 s args lw_all RX4) (hK : KK X s) {w : MW} {x1 : Int32} {x2 : Int32} {res : (Int32 × Int32) ⊕ (Int32)} (hf : fM_trembling_L8 w x1 x2 = some res) (kc : ∀ (y1 : Int32) (y2 : Int32), res = .inl (y1, y2) → ∀ (H : Heap) (locs : List Loc), GG X (MP X a w ++ rest) s.heap H locs → ∀ (ls : Array Slot), lv_has ls 3 [(0, .ref (a 0)), (1, .int y1), (2, .int y2)] → W p l e (RMw 6 0 0 128) s m args below meth c H locs 0 0 Q (F0 m 8 ls [])) (ke37 : ∀ (y1 : Int32), res = .inr y1 → ∀ (H : Heap) (locs : List Loc), GG X (MP X a w ++ rest) s.heap H locs → ∀ (ls : Array Slot), lv_has ls 3 [(1, .int y1)] → W p l e (RMw 6 0 0 128) s m args below meth c H locs 0 0 Q (F0 m 37 ls [])) {H : Heap} {locs : List Loc} (hG : GG X (MP X a w ++ rest) s.heap H locs) {ls : Array Slot} (hl : lv_has ls 3 [(0, .ref (a 0)), (1, .int x1), (2, .int x2)]) : W p l e (RMw 6 0 0 128) s m args below meth c H locs 0 0 Q (F0 m 8 ls []) := by
  have hx := B.1
  have hb := B.2.1
  unfold fM_trembling_L8 at hf
  refine lv_iload_n hx hb dX4_trembling_8 rfl (lv_at hl 2 rfl) ?_
  refine lv_aload_n hx hb dX4_trembling_9 rfl (lv_at hl 0 rfl) ?_
  refine mo_g3 B hK hG.1 dX4_trembling_10 ?_
  refine lv_icmp_ge (tgt := 37) hx hb dX4_trembling_13 (by decide) (fun c_1 => ?_) (fun c_1 => ?_)
  · have hf := ifp c_1 hf
    exact ke37 _ (Option.some.inj hf).symm _ _ hG _ (lv_sub hl [1] rfl)
  · have hf := ifn c_1 hf
    refine lv_aload_n hx hb dX4_trembling_16 rfl (lv_at hl 0 rfl) ?_
    refine lv_iload_n hx hb dX4_trembling_17 rfl (lv_at hl 2 rfl) ?_
    obtain ⟨r_2, e_3, hf⟩ := bo hf
    refine cM_armOf B hK hG.2.2 hG.1 e_3 ⟨Nat.le_of_ble_eq_true rfl, Nat.le_of_ble_eq_true rfl⟩ ⟨Nat.zero_le _, Nat.zero_le _⟩ hl.1 (Nat.le_of_ble_eq_true rfl) dX4_trembling_18 ?_
    refine lv_iconst (v := (-1)) hx hb dX4_trembling_21 (by decide) ?_
    refine lv_icmp_ne (tgt := 31) hx hb dX4_trembling_22 (by decide) (fun c_4 => ?_) (fun c_4 => ?_)
    · have hf := ifn c_4 hf
      obtain ⟨x_5, e_6, hf⟩ := bo hf
      refine w_iinc (k := 2) (lv' := [(2, .int x_5), (0, .ref (a 0)), (1, .int x1)]) e_6 hx hb dX4_trembling_31 hl rfl (by decide) rfl (fun ls hl => ?_)
      refine lv_goto (tgt := 8) hx hb dX4_trembling_34 (by decide) ?_
      exact kc _ _ (Option.some.inj hf).symm _ _ hG _ (lv_sub hl [1, 2, 0] rfl)
    · have hf := ifp c_4 hf
      refine lv_iload_n hx hb dX4_trembling_25 rfl (lv_at hl 1 rfl) ?_
      refine lv_iconst (v := 1) hx hb dX4_trembling_26 (by decide) ?_
      refine lv_iload_n hx hb dX4_trembling_27 rfl (lv_at hl 2 rfl) ?_
      refine w_ishl hx hb dX4_trembling_28 ?_
      refine lv_ior hx hb dX4_trembling_29 ?_
      obtain ⟨x_7, e_8, hf⟩ := bo hf
      refine w_istore_n (lv' := [(1, .int x_7), (0, .ref (a 0)), (2, .int x2)]) e_8 hx hb dX4_trembling_30 rfl hl (by decide) rfl (fun ls hl => ?_)
      obtain ⟨x_9, e_10, hf⟩ := bo hf
      refine w_iinc (k := 2) (lv' := [(2, .int x_9), (1, .int x_7), (0, .ref (a 0))]) e_10 hx hb dX4_trembling_31 hl rfl (by decide) rfl (fun ls hl => ?_)
      refine lv_goto (tgt := 8) hx hb dX4_trembling_34 (by decide) ?_
      exact kc _ _ (Option.some.inj hf).symm _ _ hG _ (lv_sub hl [2, 1, 0] rfl)

set_option maxHeartbeats 4000000 in
theorem vM_trembling_L8 (B : CallFix p m c cX4_trembling 3 s args lw_all RX4) (hK : KK X s) {w : MW} {x1 : Int32} {x2 : Int32} {res : Int32} (hf : lp (fun q : Int32 × Int32 => fM_trembling_L8 w q.1 q.2) (x1, x2) = some res) (ke37 : ∀ (y1 : Int32), res = y1 → ∀ (H : Heap) (locs : List Loc), GG X (MP X a w ++ rest) s.heap H locs → ∀ (ls : Array Slot), lv_has ls 3 [(1, .int y1)] → W p l e (RMw 6 0 0 128) s m args below meth c H locs 0 0 Q (F0 m 37 ls [])) {H : Heap} {locs : List Loc} (hG : GG X (MP X a w ++ rest) s.heap H locs) {ls : Array Slot} (hl : lv_has ls 3 [(0, .ref (a 0)), (1, .int x1), (2, .int x2)]) : W p l e (RMw 6 0 0 128) s m args below meth c H locs 0 0 Q (F0 m 8 ls []) := by
  refine lp_ind (r := res) (P := fun q : Int32 × Int32 => ∀ (H : Heap) (locs : List Loc) (ls : Array Slot), GG X (MP X a w ++ rest) s.heap H locs → lv_has ls 3 [(0, .ref (a 0)), (1, .int q.1), (2, .int q.2)] → W p l e (RMw 6 0 0 128) s m args below meth c H locs 0 0 Q (F0 m 8 ls [])) ?_ ?_ _ hf _ _ _ hG hl
  · intro q hb H locs ls hG hl
    exact wM_trembling_L8 B hK hb (fun _ _ h => by cases h) (fun z0 h => ke37 z0 (Sum.inr.inj h)) hG hl
  · intro q q2 hb ih H locs ls hG hl
    exact wM_trembling_L8 B hK hb (fun z0 z1 h => by cases h; exact fun H locs hG ls hl => ih H locs ls hG hl) (fun _ h => by cases h) hG hl

noncomputable def fM_trembling (w : MW)  : Option (Int32 × MW) :=
  (fM_asThingsAre w ).bind fun w_1 =>
  (lp (fun q : Int32 × Int32 => fM_trembling_L8 w_1 q.1 q.2) (0, 0)).bind (
    fun q_4 => (fun (y_3 : Int32) =>
      some (y_3, w_1)
    ) q_4
  )

set_option maxHeartbeats 4000000 in
theorem wM_trembling (B : CallFix p m c cX4_trembling 3 s args lw_all RX4) (hK : KK X s) {w : MW}  {res : Int32 × MW} (hf : fM_trembling w  = some res) (kr : ∀ (r : Int32) (w1 : MW), res = (r, w1) → ∀ (H : Heap) (locs : List Loc), GG X (MP X a w1 ++ rest) s.heap H locs → ∀ (pc : Nat) (ls : Array Slot), decode cX4_trembling pc = .ok (.ireturn, 1) → W p l e (RMw 6 0 0 128) s m args below meth c H locs 0 0 Q (F0 m pc ls [.int r])) {H : Heap} {locs : List Loc} (hG : GG X (MP X a w ++ rest) s.heap H locs) {ls : Array Slot} (hl : lv_has ls 3 [(0, .ref (a 0))]) : W p l e (RMw 6 0 0 128) s m args below meth c H locs 0 0 Q (F0 m 0 ls []) := by
  have hx := B.1
  have hb := B.2.1
  unfold fM_trembling at hf
  refine lv_aload_n hx hb dX4_trembling_0 rfl (lv_at hl 0 rfl) ?_
  obtain ⟨w_1, e_2, hf⟩ := bo hf
  refine cM_asThingsAre B hK hG e_2 ⟨Nat.le_of_ble_eq_true rfl, Nat.le_of_ble_eq_true rfl⟩ ⟨Nat.zero_le _, Nat.zero_le _⟩ hl.1 (Nat.le_of_ble_eq_true rfl) dX4_trembling_1 (fun H locs hG => ?_)
  refine lv_iconst (v := 0) hx hb dX4_trembling_4 (by decide) ?_
  refine lv_istore_n (lv' := [(1, .int 0), (0, .ref (a 0))]) hx hb dX4_trembling_5 rfl hl (by decide) rfl (fun ls hl => ?_)
  refine lv_iconst (v := 0) hx hb dX4_trembling_6 (by decide) ?_
  refine lv_istore_n (lv' := [(2, .int 0), (1, .int 0), (0, .ref (a 0))]) hx hb dX4_trembling_7 rfl hl (by decide) rfl (fun ls hl => ?_)
  obtain ⟨y_3, e_5, hf⟩ := bo hf
  try dsimp only at hf
  refine vM_trembling_L8 B hK e_5 ?_ hG (lv_sub hl [2, 1, 0] rfl)
  intro z0 hz
  cases hz
  intro H locs hG ls hl
  refine lv_iload_n hx hb dX4_trembling_37 rfl (lv_at hl 0 rfl) ?_
  exact kr _ _ (Option.some.inj hf).symm _ _ hG _ _ dX4_trembling_38

theorem tM_trembling (l : Launch) (X : CX) (a : Nat → Nat) (rest : va_W) (w w' : MW)  (r : Int32) (hf : fM_trembling w  = some (r, w')) : RW l yX4_trembling cX4_trembling 3 (some .int) 6 0 0 128 [.ref (a 0)] X (MP X a w ++ rest) (MP X a w' ++ rest) (some (.int r)) := by
  refine RW.mk (by decide) (Nat.le_of_ble_eq_true rfl) ?_
  intro p e s m below meth c B hr hlk hK hG ls hl
  exact wM_trembling B hK hf (fun r w h H locs hG pc ls hd => by cases h; exact w_iretW B hr hlk hG hd) hG hl
end S_trembling

section S_bestPair
variable {p : Program} {l : Launch} {e : Env} {R : Room} {s : State} {m : MethodId} {args : Array Value} {below : List Frame} {meth : Method} {c : Code} {H : Heap} {locs : List Loc} {cells slots : Nat} {Q : State → Prop} {cc : ByteArray} {nL pc : Nat} {ls : Array Slot} {st : List Value} {X : CX} {a : Nat → Nat} {w : MW} {rest : va_W}
noncomputable def fM_bestPair_L19 (w : MW) (x1 : Int32) (x2 : Int32) (x3 : Int32) (x4 : Int32) : Option ((Int32 × Int32 × Int32 × MW) ⊕ (Int32 × Int32 × MW)) :=
  if (w.1 3) ≤ x4 then
    some (.inr (x1, x2, w))
  else
    b2 (fM_groups w ((ishl 1 x3) ||| (ishl 1 x4))) fun r_2 w_3 =>
    if x2 < r_2 then
      (some ((10 * x3) + x4)).bind fun x_6 =>
      (some (x4 + 1)).bind fun x_8 =>
      some (.inl (x_6, r_2, x_8, w_3))
    else
      (some (x4 + 1)).bind fun x_10 =>
      some (.inl (x1, x2, x_10, w_3))

set_option maxHeartbeats 4000000 in
theorem wM_bestPair_L19 (B : CallFix p m c cX4_bestPair 6 s args lw_all RX4) (hK : KK X s) {w : MW} {x1 : Int32} {x2 : Int32} {x3 : Int32} {x4 : Int32} {res : (Int32 × Int32 × Int32 × MW) ⊕ (Int32 × Int32 × MW)} (hf : fM_bestPair_L19 w x1 x2 x3 x4 = some res) (kc : ∀ (y1 : Int32) (y2 : Int32) (y4 : Int32) (w1 : MW), res = .inl (y1, y2, y4, w1) → ∀ (H : Heap) (locs : List Loc), GG X (MP X a w1 ++ rest) s.heap H locs → ∀ (ls : Array Slot), lv_has ls 6 [(0, .ref (a 0)), (1, .int y1), (2, .int y2), (3, .int x3), (4, .int y4)] → W p l e (RMw 9 0 0 198) s m args below meth c H locs 0 0 Q (F0 m 19 ls [])) (ke68 : ∀ (y1 : Int32) (y2 : Int32) (w1 : MW), res = .inr (y1, y2, w1) → ∀ (H : Heap) (locs : List Loc), GG X (MP X a w1 ++ rest) s.heap H locs → ∀ (ls : Array Slot), lv_has ls 6 [(0, .ref (a 0)), (1, .int y1), (2, .int y2), (3, .int x3)] → W p l e (RMw 9 0 0 198) s m args below meth c H locs 0 0 Q (F0 m 68 ls [])) {H : Heap} {locs : List Loc} (hG : GG X (MP X a w ++ rest) s.heap H locs) {ls : Array Slot} (hl : lv_has ls 6 [(0, .ref (a 0)), (1, .int x1), (2, .int x2), (3, .int x3), (4, .int x4)]) : W p l e (RMw 9 0 0 198) s m args below meth c H locs 0 0 Q (F0 m 19 ls []) := by
  have hx := B.1
  have hb := B.2.1
  unfold fM_bestPair_L19 at hf
  refine lv_iload hx hb dX4_bestPair_19 (lv_at hl 4 rfl) ?_
  refine lv_aload_n hx hb dX4_bestPair_21 rfl (lv_at hl 0 rfl) ?_
  refine mo_g3 B hK hG.1 dX4_bestPair_22 ?_
  refine lv_icmp_ge (tgt := 68) hx hb dX4_bestPair_25 (by decide) (fun c_1 => ?_) (fun c_1 => ?_)
  · have hf := ifp c_1 hf
    exact ke68 _ _ _ (Option.some.inj hf).symm _ _ hG _ (lv_sub hl [0, 1, 2, 3] rfl)
  · have hf := ifn c_1 hf
    refine lv_aload_n hx hb dX4_bestPair_28 rfl (lv_at hl 0 rfl) ?_
    refine lv_iconst (v := 1) hx hb dX4_bestPair_29 (by decide) ?_
    refine lv_iload_n hx hb dX4_bestPair_30 rfl (lv_at hl 3 rfl) ?_
    refine w_ishl hx hb dX4_bestPair_31 ?_
    refine lv_iconst (v := 1) hx hb dX4_bestPair_32 (by decide) ?_
    refine lv_iload hx hb dX4_bestPair_33 (lv_at hl 4 rfl) ?_
    refine w_ishl hx hb dX4_bestPair_35 ?_
    refine lv_ior hx hb dX4_bestPair_36 ?_
    obtain ⟨r_2, w_3, e_4, hf⟩ := b2s hf
    refine cM_groups B hK hG e_4 ⟨Nat.le_of_ble_eq_true rfl, Nat.le_of_ble_eq_true rfl⟩ ⟨Nat.zero_le _, Nat.zero_le _⟩ hl.1 (Nat.le_of_ble_eq_true rfl) dX4_bestPair_37 (fun H locs hG => ?_)
    refine lv_istore (lv' := [(5, .int r_2), (0, .ref (a 0)), (1, .int x1), (2, .int x2), (3, .int x3), (4, .int x4)]) hx hb dX4_bestPair_40 hl (by decide) rfl (fun ls hl => ?_)
    refine lv_iload hx hb dX4_bestPair_42 (lv_at hl 0 rfl) ?_
    refine lv_iload_n hx hb dX4_bestPair_44 rfl (lv_at hl 3 rfl) ?_
    refine lv_icmp_gt (tgt := 51) hx hb dX4_bestPair_45 (by decide) (fun c_5 => ?_) (fun c_5 => ?_)
    · have hf := ifp c_5 hf
      refine lv_iload hx hb dX4_bestPair_51 (lv_at hl 0 rfl) ?_
      refine lv_istore_n (lv' := [(2, .int r_2), (5, .int r_2), (0, .ref (a 0)), (1, .int x1), (3, .int x3), (4, .int x4)]) hx hb dX4_bestPair_53 rfl hl (by decide) rfl (fun ls hl => ?_)
      refine lv_bipush (v := 10) hx hb dX4_bestPair_54 (by decide) ?_
      refine lv_iload_n hx hb dX4_bestPair_56 rfl (lv_at hl 4 rfl) ?_
      refine lv_imul hx hb dX4_bestPair_57 ?_
      refine lv_iload hx hb dX4_bestPair_58 (lv_at hl 5 rfl) ?_
      refine lv_iadd hx hb dX4_bestPair_60 ?_
      obtain ⟨x_6, e_7, hf⟩ := bo hf
      refine w_istore_n (lv' := [(1, .int x_6), (2, .int r_2), (5, .int r_2), (0, .ref (a 0)), (3, .int x3), (4, .int x4)]) e_7 hx hb dX4_bestPair_61 rfl hl (by decide) rfl (fun ls hl => ?_)
      obtain ⟨x_8, e_9, hf⟩ := bo hf
      refine w_iinc (k := 5) (lv' := [(4, .int x_8), (1, .int x_6), (2, .int r_2), (5, .int r_2), (0, .ref (a 0)), (3, .int x3)]) e_9 hx hb dX4_bestPair_62 hl rfl (by decide) rfl (fun ls hl => ?_)
      refine lv_goto (tgt := 19) hx hb dX4_bestPair_65 (by decide) ?_
      exact kc _ _ _ _ (Option.some.inj hf).symm _ _ hG _ (lv_sub hl [4, 1, 2, 5, 0] rfl)
    · have hf := ifn c_5 hf
      refine lv_goto (tgt := 62) hx hb dX4_bestPair_48 (by decide) ?_
      obtain ⟨x_10, e_11, hf⟩ := bo hf
      refine w_iinc (k := 5) (lv' := [(4, .int x_10), (5, .int r_2), (0, .ref (a 0)), (1, .int x1), (2, .int x2), (3, .int x3)]) e_11 hx hb dX4_bestPair_62 hl rfl (by decide) rfl (fun ls hl => ?_)
      refine lv_goto (tgt := 19) hx hb dX4_bestPair_65 (by decide) ?_
      exact kc _ _ _ _ (Option.some.inj hf).symm _ _ hG _ (lv_sub hl [2, 3, 4, 5, 0] rfl)

set_option maxHeartbeats 4000000 in
theorem vM_bestPair_L19 (B : CallFix p m c cX4_bestPair 6 s args lw_all RX4) (hK : KK X s) {w : MW} {x1 : Int32} {x2 : Int32} {x3 : Int32} {x4 : Int32} {res : Int32 × Int32 × MW} (hf : lp (fun q : Int32 × Int32 × Int32 × MW => fM_bestPair_L19 q.2.2.2 q.1 q.2.1 x3 q.2.2.1) (x1, x2, x4, w) = some res) (ke68 : ∀ (y1 : Int32) (y2 : Int32) (w1 : MW), res = (y1, y2, w1) → ∀ (H : Heap) (locs : List Loc), GG X (MP X a w1 ++ rest) s.heap H locs → ∀ (ls : Array Slot), lv_has ls 6 [(0, .ref (a 0)), (1, .int y1), (2, .int y2), (3, .int x3)] → W p l e (RMw 9 0 0 198) s m args below meth c H locs 0 0 Q (F0 m 68 ls [])) {H : Heap} {locs : List Loc} (hG : GG X (MP X a w ++ rest) s.heap H locs) {ls : Array Slot} (hl : lv_has ls 6 [(0, .ref (a 0)), (1, .int x1), (2, .int x2), (3, .int x3), (4, .int x4)]) : W p l e (RMw 9 0 0 198) s m args below meth c H locs 0 0 Q (F0 m 19 ls []) := by
  refine lp_ind (r := res) (P := fun q : Int32 × Int32 × Int32 × MW => ∀ (H : Heap) (locs : List Loc) (ls : Array Slot), GG X (MP X a q.2.2.2 ++ rest) s.heap H locs → lv_has ls 6 [(0, .ref (a 0)), (1, .int q.1), (2, .int q.2.1), (3, .int x3), (4, .int q.2.2.1)] → W p l e (RMw 9 0 0 198) s m args below meth c H locs 0 0 Q (F0 m 19 ls [])) ?_ ?_ _ hf _ _ _ hG hl
  · intro q hb H locs ls hG hl
    exact wM_bestPair_L19 B hK hb (fun _ _ _ _ h => by cases h) (fun z0 z1 z2 h => ke68 z0 z1 z2 (Sum.inr.inj h)) hG hl
  · intro q q2 hb ih H locs ls hG hl
    exact wM_bestPair_L19 B hK hb (fun z0 z1 z2 z3 h => by cases h; exact fun H locs hG ls hl => ih H locs ls hG hl) (fun _ _ _ h => by cases h) hG hl

noncomputable def fM_bestPair_L6 (w : MW) (x1 : Int32) (x2 : Int32) (x3 : Int32) : Option ((Int32 × Int32 × Int32 × MW) ⊕ (Int32 × MW)) :=
  if (w.1 3) ≤ x3 then
    some (.inr (x1, w))
  else
    (some (x3 + 1)).bind fun x_2 =>
    (lp (fun q : Int32 × Int32 × Int32 × MW => fM_bestPair_L19 q.2.2.2 q.1 q.2.1 x3 q.2.2.1) (x1, x2, x_2, w)).bind (
      fun q_9 => (fun (y_4 : Int32) (y_5 : Int32) (w_6 : MW) =>
        (some (x3 + 1)).bind fun x_7 =>
        some (.inl (y_4, y_5, x_7, w_6))
      ) q_9.1 q_9.2.1 q_9.2.2
    )

set_option maxHeartbeats 4000000 in
theorem wM_bestPair_L6 (B : CallFix p m c cX4_bestPair 6 s args lw_all RX4) (hK : KK X s) {w : MW} {x1 : Int32} {x2 : Int32} {x3 : Int32} {res : (Int32 × Int32 × Int32 × MW) ⊕ (Int32 × MW)} (hf : fM_bestPair_L6 w x1 x2 x3 = some res) (kc : ∀ (y1 : Int32) (y2 : Int32) (y3 : Int32) (w1 : MW), res = .inl (y1, y2, y3, w1) → ∀ (H : Heap) (locs : List Loc), GG X (MP X a w1 ++ rest) s.heap H locs → ∀ (ls : Array Slot), lv_has ls 6 [(0, .ref (a 0)), (1, .int y1), (2, .int y2), (3, .int y3)] → W p l e (RMw 9 0 0 198) s m args below meth c H locs 0 0 Q (F0 m 6 ls [])) (ke74 : ∀ (y1 : Int32) (w1 : MW), res = .inr (y1, w1) → ∀ (H : Heap) (locs : List Loc), GG X (MP X a w1 ++ rest) s.heap H locs → ∀ (ls : Array Slot), lv_has ls 6 [(1, .int y1)] → W p l e (RMw 9 0 0 198) s m args below meth c H locs 0 0 Q (F0 m 74 ls [])) {H : Heap} {locs : List Loc} (hG : GG X (MP X a w ++ rest) s.heap H locs) {ls : Array Slot} (hl : lv_has ls 6 [(0, .ref (a 0)), (1, .int x1), (2, .int x2), (3, .int x3)]) : W p l e (RMw 9 0 0 198) s m args below meth c H locs 0 0 Q (F0 m 6 ls []) := by
  have hx := B.1
  have hb := B.2.1
  unfold fM_bestPair_L6 at hf
  refine lv_iload_n hx hb dX4_bestPair_6 rfl (lv_at hl 3 rfl) ?_
  refine lv_aload_n hx hb dX4_bestPair_7 rfl (lv_at hl 0 rfl) ?_
  refine mo_g3 B hK hG.1 dX4_bestPair_8 ?_
  refine lv_icmp_ge (tgt := 74) hx hb dX4_bestPair_11 (by decide) (fun c_1 => ?_) (fun c_1 => ?_)
  · have hf := ifp c_1 hf
    exact ke74 _ _ (Option.some.inj hf).symm _ _ hG _ (lv_sub hl [1] rfl)
  · have hf := ifn c_1 hf
    refine lv_iload_n hx hb dX4_bestPair_14 rfl (lv_at hl 3 rfl) ?_
    refine lv_iconst (v := 1) hx hb dX4_bestPair_15 (by decide) ?_
    refine lv_iadd hx hb dX4_bestPair_16 ?_
    obtain ⟨x_2, e_3, hf⟩ := bo hf
    refine w_istore (lv' := [(4, .int x_2), (0, .ref (a 0)), (1, .int x1), (2, .int x2), (3, .int x3)]) e_3 hx hb dX4_bestPair_17 hl (by decide) rfl (fun ls hl => ?_)
    obtain ⟨⟨y_4, y_5, w_6⟩, e_10, hf⟩ := bo hf
    try dsimp only at hf
    refine vM_bestPair_L19 B hK e_10 ?_ hG (lv_sub hl [1, 2, 3, 4, 0] rfl)
    intro z0 z1 z2 hz
    cases hz
    intro H locs hG ls hl
    obtain ⟨x_7, e_8, hf⟩ := bo hf
    refine w_iinc (k := 3) (lv' := [(3, .int x_7), (0, .ref (a 0)), (1, .int y_4), (2, .int y_5)]) e_8 hx hb dX4_bestPair_68 hl rfl (by decide) rfl (fun ls hl => ?_)
    refine lv_goto (tgt := 6) hx hb dX4_bestPair_71 (by decide) ?_
    exact kc _ _ _ _ (Option.some.inj hf).symm _ _ hG _ (lv_sub hl [1, 2, 3, 0] rfl)

set_option maxHeartbeats 4000000 in
theorem vM_bestPair_L6 (B : CallFix p m c cX4_bestPair 6 s args lw_all RX4) (hK : KK X s) {w : MW} {x1 : Int32} {x2 : Int32} {x3 : Int32} {res : Int32 × MW} (hf : lp (fun q : Int32 × Int32 × Int32 × MW => fM_bestPair_L6 q.2.2.2 q.1 q.2.1 q.2.2.1) (x1, x2, x3, w) = some res) (ke74 : ∀ (y1 : Int32) (w1 : MW), res = (y1, w1) → ∀ (H : Heap) (locs : List Loc), GG X (MP X a w1 ++ rest) s.heap H locs → ∀ (ls : Array Slot), lv_has ls 6 [(1, .int y1)] → W p l e (RMw 9 0 0 198) s m args below meth c H locs 0 0 Q (F0 m 74 ls [])) {H : Heap} {locs : List Loc} (hG : GG X (MP X a w ++ rest) s.heap H locs) {ls : Array Slot} (hl : lv_has ls 6 [(0, .ref (a 0)), (1, .int x1), (2, .int x2), (3, .int x3)]) : W p l e (RMw 9 0 0 198) s m args below meth c H locs 0 0 Q (F0 m 6 ls []) := by
  refine lp_ind (r := res) (P := fun q : Int32 × Int32 × Int32 × MW => ∀ (H : Heap) (locs : List Loc) (ls : Array Slot), GG X (MP X a q.2.2.2 ++ rest) s.heap H locs → lv_has ls 6 [(0, .ref (a 0)), (1, .int q.1), (2, .int q.2.1), (3, .int q.2.2.1)] → W p l e (RMw 9 0 0 198) s m args below meth c H locs 0 0 Q (F0 m 6 ls [])) ?_ ?_ _ hf _ _ _ hG hl
  · intro q hb H locs ls hG hl
    exact wM_bestPair_L6 B hK hb (fun _ _ _ _ h => by cases h) (fun z0 z1 h => ke74 z0 z1 (Sum.inr.inj h)) hG hl
  · intro q q2 hb ih H locs ls hG hl
    exact wM_bestPair_L6 B hK hb (fun z0 z1 z2 z3 h => by cases h; exact fun H locs hG ls hl => ih H locs ls hG hl) (fun _ _ h => by cases h) hG hl

noncomputable def fM_bestPair (w : MW)  : Option (Int32 × MW) :=
  (lp (fun q : Int32 × Int32 × Int32 × MW => fM_bestPair_L6 q.2.2.2 q.1 q.2.1 q.2.2.1) ((-1), (-1), 0, w)).bind (
    fun q_3 => (fun (y_1 : Int32) (w_2 : MW) =>
      some (y_1, w_2)
    ) q_3.1 q_3.2
  )

set_option maxHeartbeats 4000000 in
theorem wM_bestPair (B : CallFix p m c cX4_bestPair 6 s args lw_all RX4) (hK : KK X s) {w : MW}  {res : Int32 × MW} (hf : fM_bestPair w  = some res) (kr : ∀ (r : Int32) (w1 : MW), res = (r, w1) → ∀ (H : Heap) (locs : List Loc), GG X (MP X a w1 ++ rest) s.heap H locs → ∀ (pc : Nat) (ls : Array Slot), decode cX4_bestPair pc = .ok (.ireturn, 1) → W p l e (RMw 9 0 0 198) s m args below meth c H locs 0 0 Q (F0 m pc ls [.int r])) {H : Heap} {locs : List Loc} (hG : GG X (MP X a w ++ rest) s.heap H locs) {ls : Array Slot} (hl : lv_has ls 6 [(0, .ref (a 0))]) : W p l e (RMw 9 0 0 198) s m args below meth c H locs 0 0 Q (F0 m 0 ls []) := by
  have hx := B.1
  have hb := B.2.1
  unfold fM_bestPair at hf
  refine lv_iconst (v := (-1)) hx hb dX4_bestPair_0 (by decide) ?_
  refine lv_istore_n (lv' := [(1, .int (-1)), (0, .ref (a 0))]) hx hb dX4_bestPair_1 rfl hl (by decide) rfl (fun ls hl => ?_)
  refine lv_iconst (v := (-1)) hx hb dX4_bestPair_2 (by decide) ?_
  refine lv_istore_n (lv' := [(2, .int (-1)), (1, .int (-1)), (0, .ref (a 0))]) hx hb dX4_bestPair_3 rfl hl (by decide) rfl (fun ls hl => ?_)
  refine lv_iconst (v := 0) hx hb dX4_bestPair_4 (by decide) ?_
  refine lv_istore_n (lv' := [(3, .int 0), (2, .int (-1)), (1, .int (-1)), (0, .ref (a 0))]) hx hb dX4_bestPair_5 rfl hl (by decide) rfl (fun ls hl => ?_)
  obtain ⟨⟨y_1, w_2⟩, e_4, hf⟩ := bo hf
  try dsimp only at hf
  refine vM_bestPair_L6 B hK e_4 ?_ hG (lv_sub hl [3, 2, 1, 0] rfl)
  intro z0 z1 hz
  cases hz
  intro H locs hG ls hl
  refine lv_iload_n hx hb dX4_bestPair_74 rfl (lv_at hl 0 rfl) ?_
  exact kr _ _ (Option.some.inj hf).symm _ _ hG _ _ dX4_bestPair_75

theorem tM_bestPair (l : Launch) (X : CX) (a : Nat → Nat) (rest : va_W) (w w' : MW)  (r : Int32) (hf : fM_bestPair w  = some (r, w')) : RW l yX4_bestPair cX4_bestPair 6 (some .int) 9 0 0 198 [.ref (a 0)] X (MP X a w ++ rest) (MP X a w' ++ rest) (some (.int r)) := by
  refine RW.mk (by decide) (Nat.le_of_ble_eq_true rfl) ?_
  intro p e s m below meth c B hr hlk hK hG ls hl
  exact wM_bestPair B hK hf (fun r w h H locs hG pc ls hd => by cases h; exact w_iretW B hr hlk hG hd) hG hl
end S_bestPair

section S_idlest
variable {p : Program} {l : Launch} {e : Env} {R : Room} {s : State} {m : MethodId} {args : Array Value} {below : List Frame} {meth : Method} {c : Code} {H : Heap} {locs : List Loc} {cells slots : Nat} {Q : State → Prop} {cc : ByteArray} {nL pc : Nat} {ls : Array Slot} {st : List Value} {X : CX} {a : Nat → Nat} {w : MW} {rest : va_W}
noncomputable def fM_idlest_L6 (w : MW) (x1 : Int32) (x2 : Int32) (x3 : Int32) : Option ((Int32 × Int32 × Int32 × MW) ⊕ (Int32 × MW)) :=
  if (w.1 3) ≤ x3 then
    some (.inr (x1, w))
  else
    (fM_allPosts w ).bind fun r_2 =>
    b2 (fM_groups w (r_2 &&& ((ishl 1 x3) ^^^ (-1)))) fun r_4 w_5 =>
    if x2 < r_4 then
      (some (x3 + 1)).bind fun x_8 =>
      some (.inl (x3, r_4, x_8, w_5))
    else
      (some (x3 + 1)).bind fun x_10 =>
      some (.inl (x1, x2, x_10, w_5))

set_option maxHeartbeats 4000000 in
theorem wM_idlest_L6 (B : CallFix p m c cX4_idlest 5 s args lw_all RX4) (hK : KK X s) {w : MW} {x1 : Int32} {x2 : Int32} {x3 : Int32} {res : (Int32 × Int32 × Int32 × MW) ⊕ (Int32 × MW)} (hf : fM_idlest_L6 w x1 x2 x3 = some res) (kc : ∀ (y1 : Int32) (y2 : Int32) (y3 : Int32) (w1 : MW), res = .inl (y1, y2, y3, w1) → ∀ (H : Heap) (locs : List Loc), GG X (MP X a w1 ++ rest) s.heap H locs → ∀ (ls : Array Slot), lv_has ls 5 [(0, .ref (a 0)), (1, .int y1), (2, .int y2), (3, .int y3)] → W p l e (RMw 9 0 0 198) s m args below meth c H locs 0 0 Q (F0 m 6 ls [])) (ke50 : ∀ (y1 : Int32) (w1 : MW), res = .inr (y1, w1) → ∀ (H : Heap) (locs : List Loc), GG X (MP X a w1 ++ rest) s.heap H locs → ∀ (ls : Array Slot), lv_has ls 5 [(0, .ref (a 0)), (1, .int y1)] → W p l e (RMw 9 0 0 198) s m args below meth c H locs 0 0 Q (F0 m 50 ls [])) {H : Heap} {locs : List Loc} (hG : GG X (MP X a w ++ rest) s.heap H locs) {ls : Array Slot} (hl : lv_has ls 5 [(0, .ref (a 0)), (1, .int x1), (2, .int x2), (3, .int x3)]) : W p l e (RMw 9 0 0 198) s m args below meth c H locs 0 0 Q (F0 m 6 ls []) := by
  have hx := B.1
  have hb := B.2.1
  unfold fM_idlest_L6 at hf
  refine lv_iload_n hx hb dX4_idlest_6 rfl (lv_at hl 3 rfl) ?_
  refine lv_aload_n hx hb dX4_idlest_7 rfl (lv_at hl 0 rfl) ?_
  refine mo_g3 B hK hG.1 dX4_idlest_8 ?_
  refine lv_icmp_ge (tgt := 50) hx hb dX4_idlest_11 (by decide) (fun c_1 => ?_) (fun c_1 => ?_)
  · have hf := ifp c_1 hf
    exact ke50 _ _ (Option.some.inj hf).symm _ _ hG _ (lv_sub hl [0, 1] rfl)
  · have hf := ifn c_1 hf
    refine lv_aload_n hx hb dX4_idlest_14 rfl (lv_at hl 0 rfl) ?_
    refine lv_aload_n hx hb dX4_idlest_15 rfl (lv_at hl 0 rfl) ?_
    obtain ⟨r_2, e_3, hf⟩ := bo hf
    refine cM_allPosts B hK hG.2.2 hG.1 e_3 ⟨Nat.le_of_ble_eq_true rfl, Nat.le_of_ble_eq_true rfl⟩ ⟨Nat.zero_le _, Nat.zero_le _⟩ hl.1 (Nat.le_of_ble_eq_true rfl) dX4_idlest_16 ?_
    refine lv_iconst (v := 1) hx hb dX4_idlest_19 (by decide) ?_
    refine lv_iload_n hx hb dX4_idlest_20 rfl (lv_at hl 3 rfl) ?_
    refine w_ishl hx hb dX4_idlest_21 ?_
    refine lv_iconst (v := (-1)) hx hb dX4_idlest_22 (by decide) ?_
    refine lv_ixor hx hb dX4_idlest_23 ?_
    refine lv_iand hx hb dX4_idlest_24 ?_
    obtain ⟨r_4, w_5, e_6, hf⟩ := b2s hf
    refine cM_groups B hK hG e_6 ⟨Nat.le_of_ble_eq_true rfl, Nat.le_of_ble_eq_true rfl⟩ ⟨Nat.zero_le _, Nat.zero_le _⟩ hl.1 (Nat.le_of_ble_eq_true rfl) dX4_idlest_25 (fun H locs hG => ?_)
    refine lv_istore (lv' := [(4, .int r_4), (0, .ref (a 0)), (1, .int x1), (2, .int x2), (3, .int x3)]) hx hb dX4_idlest_28 hl (by decide) rfl (fun ls hl => ?_)
    refine lv_iload hx hb dX4_idlest_30 (lv_at hl 0 rfl) ?_
    refine lv_iload_n hx hb dX4_idlest_32 rfl (lv_at hl 3 rfl) ?_
    refine lv_icmp_gt (tgt := 39) hx hb dX4_idlest_33 (by decide) (fun c_7 => ?_) (fun c_7 => ?_)
    · have hf := ifp c_7 hf
      refine lv_iload hx hb dX4_idlest_39 (lv_at hl 0 rfl) ?_
      refine lv_istore_n (lv' := [(2, .int r_4), (4, .int r_4), (0, .ref (a 0)), (1, .int x1), (3, .int x3)]) hx hb dX4_idlest_41 rfl hl (by decide) rfl (fun ls hl => ?_)
      refine lv_iload_n hx hb dX4_idlest_42 rfl (lv_at hl 4 rfl) ?_
      refine lv_istore_n (lv' := [(1, .int x3), (2, .int r_4), (4, .int r_4), (0, .ref (a 0)), (3, .int x3)]) hx hb dX4_idlest_43 rfl hl (by decide) rfl (fun ls hl => ?_)
      obtain ⟨x_8, e_9, hf⟩ := bo hf
      refine w_iinc (k := 4) (lv' := [(3, .int x_8), (1, .int x3), (2, .int r_4), (4, .int r_4), (0, .ref (a 0))]) e_9 hx hb dX4_idlest_44 hl rfl (by decide) rfl (fun ls hl => ?_)
      refine lv_goto (tgt := 6) hx hb dX4_idlest_47 (by decide) ?_
      exact kc _ _ _ _ (Option.some.inj hf).symm _ _ hG _ (lv_sub hl [4, 1, 2, 0] rfl)
    · have hf := ifn c_7 hf
      refine lv_goto (tgt := 44) hx hb dX4_idlest_36 (by decide) ?_
      obtain ⟨x_10, e_11, hf⟩ := bo hf
      refine w_iinc (k := 4) (lv' := [(3, .int x_10), (4, .int r_4), (0, .ref (a 0)), (1, .int x1), (2, .int x2)]) e_11 hx hb dX4_idlest_44 hl rfl (by decide) rfl (fun ls hl => ?_)
      refine lv_goto (tgt := 6) hx hb dX4_idlest_47 (by decide) ?_
      exact kc _ _ _ _ (Option.some.inj hf).symm _ _ hG _ (lv_sub hl [2, 3, 4, 0] rfl)

set_option maxHeartbeats 4000000 in
theorem vM_idlest_L6 (B : CallFix p m c cX4_idlest 5 s args lw_all RX4) (hK : KK X s) {w : MW} {x1 : Int32} {x2 : Int32} {x3 : Int32} {res : Int32 × MW} (hf : lp (fun q : Int32 × Int32 × Int32 × MW => fM_idlest_L6 q.2.2.2 q.1 q.2.1 q.2.2.1) (x1, x2, x3, w) = some res) (ke50 : ∀ (y1 : Int32) (w1 : MW), res = (y1, w1) → ∀ (H : Heap) (locs : List Loc), GG X (MP X a w1 ++ rest) s.heap H locs → ∀ (ls : Array Slot), lv_has ls 5 [(0, .ref (a 0)), (1, .int y1)] → W p l e (RMw 9 0 0 198) s m args below meth c H locs 0 0 Q (F0 m 50 ls [])) {H : Heap} {locs : List Loc} (hG : GG X (MP X a w ++ rest) s.heap H locs) {ls : Array Slot} (hl : lv_has ls 5 [(0, .ref (a 0)), (1, .int x1), (2, .int x2), (3, .int x3)]) : W p l e (RMw 9 0 0 198) s m args below meth c H locs 0 0 Q (F0 m 6 ls []) := by
  refine lp_ind (r := res) (P := fun q : Int32 × Int32 × Int32 × MW => ∀ (H : Heap) (locs : List Loc) (ls : Array Slot), GG X (MP X a q.2.2.2 ++ rest) s.heap H locs → lv_has ls 5 [(0, .ref (a 0)), (1, .int q.1), (2, .int q.2.1), (3, .int q.2.2.1)] → W p l e (RMw 9 0 0 198) s m args below meth c H locs 0 0 Q (F0 m 6 ls [])) ?_ ?_ _ hf _ _ _ hG hl
  · intro q hb H locs ls hG hl
    exact wM_idlest_L6 B hK hb (fun _ _ _ _ h => by cases h) (fun z0 z1 h => ke50 z0 z1 (Sum.inr.inj h)) hG hl
  · intro q q2 hb ih H locs ls hG hl
    exact wM_idlest_L6 B hK hb (fun z0 z1 z2 z3 h => by cases h; exact fun H locs hG ls hl => ih H locs ls hG hl) (fun _ _ h => by cases h) hG hl

noncomputable def fM_idlest (w : MW)  : Option (Int32 × MW) :=
  (lp (fun q : Int32 × Int32 × Int32 × MW => fM_idlest_L6 q.2.2.2 q.1 q.2.1 q.2.2.1) ((-1), (-1), 0, w)).bind (
    fun q_7 => (fun (y_1 : Int32) (w_2 : MW) =>
      if y_1 = (-1) then
        b2 (fM_no w_2 (-5)) fun r_4 w_5 =>
        some (r_4, w_5)
      else
        some (y_1, w_2)
    ) q_7.1 q_7.2
  )

set_option maxHeartbeats 4000000 in
theorem wM_idlest (B : CallFix p m c cX4_idlest 5 s args lw_all RX4) (hK : KK X s) {w : MW}  {res : Int32 × MW} (hf : fM_idlest w  = some res) (kr : ∀ (r : Int32) (w1 : MW), res = (r, w1) → ∀ (H : Heap) (locs : List Loc), GG X (MP X a w1 ++ rest) s.heap H locs → ∀ (pc : Nat) (ls : Array Slot), decode cX4_idlest pc = .ok (.ireturn, 1) → W p l e (RMw 9 0 0 198) s m args below meth c H locs 0 0 Q (F0 m pc ls [.int r])) {H : Heap} {locs : List Loc} (hG : GG X (MP X a w ++ rest) s.heap H locs) {ls : Array Slot} (hl : lv_has ls 5 [(0, .ref (a 0))]) : W p l e (RMw 9 0 0 198) s m args below meth c H locs 0 0 Q (F0 m 0 ls []) := by
  have hx := B.1
  have hb := B.2.1
  unfold fM_idlest at hf
  refine lv_iconst (v := (-1)) hx hb dX4_idlest_0 (by decide) ?_
  refine lv_istore_n (lv' := [(1, .int (-1)), (0, .ref (a 0))]) hx hb dX4_idlest_1 rfl hl (by decide) rfl (fun ls hl => ?_)
  refine lv_iconst (v := (-1)) hx hb dX4_idlest_2 (by decide) ?_
  refine lv_istore_n (lv' := [(2, .int (-1)), (1, .int (-1)), (0, .ref (a 0))]) hx hb dX4_idlest_3 rfl hl (by decide) rfl (fun ls hl => ?_)
  refine lv_iconst (v := 0) hx hb dX4_idlest_4 (by decide) ?_
  refine lv_istore_n (lv' := [(3, .int 0), (2, .int (-1)), (1, .int (-1)), (0, .ref (a 0))]) hx hb dX4_idlest_5 rfl hl (by decide) rfl (fun ls hl => ?_)
  obtain ⟨⟨y_1, w_2⟩, e_8, hf⟩ := bo hf
  try dsimp only at hf
  refine vM_idlest_L6 B hK e_8 ?_ hG (lv_sub hl [3, 2, 1, 0] rfl)
  intro z0 z1 hz
  cases hz
  intro H locs hG ls hl
  refine lv_iload_n hx hb dX4_idlest_50 rfl (lv_at hl 1 rfl) ?_
  refine lv_iconst (v := (-1)) hx hb dX4_idlest_51 (by decide) ?_
  refine lv_icmp_ne (tgt := 64) hx hb dX4_idlest_52 (by decide) (fun c_3 => ?_) (fun c_3 => ?_)
  · have hf := ifn c_3 hf
    refine lv_iload_n hx hb dX4_idlest_64 rfl (lv_at hl 1 rfl) ?_
    exact kr _ _ (Option.some.inj hf).symm _ _ hG _ _ dX4_idlest_65
  · have hf := ifp c_3 hf
    refine lv_aload_n hx hb dX4_idlest_55 rfl (lv_at hl 0 rfl) ?_
    refine lv_bipush (v := (-5)) hx hb dX4_idlest_56 (by decide) ?_
    obtain ⟨r_4, w_5, e_6, hf⟩ := b2s hf
    refine cM_no B hK hG e_6 ⟨Nat.le_of_ble_eq_true rfl, Nat.le_of_ble_eq_true rfl⟩ ⟨Nat.zero_le _, Nat.zero_le _⟩ hl.1 (Nat.le_of_ble_eq_true rfl) dX4_idlest_58 (fun H locs hG => ?_)
    refine lv_goto (tgt := 65) hx hb dX4_idlest_61 (by decide) ?_
    exact kr _ _ (Option.some.inj hf).symm _ _ hG _ _ dX4_idlest_65

theorem tM_idlest (l : Launch) (X : CX) (a : Nat → Nat) (rest : va_W) (w w' : MW)  (r : Int32) (hf : fM_idlest w  = some (r, w')) : RW l yX4_idlest cX4_idlest 5 (some .int) 9 0 0 198 [.ref (a 0)] X (MP X a w ++ rest) (MP X a w' ++ rest) (some (.int r)) := by
  refine RW.mk (by decide) (Nat.le_of_ble_eq_true rfl) ?_
  intro p e s m below meth c B hr hlk hK hG ls hl
  exact wM_idlest B hK hf (fun r w h H locs hG pc ls hd => by cases h; exact w_iretW B hr hlk hG hd) hG hl
end S_idlest

section S_commandTo
variable {p : Program} {l : Launch} {e : Env} {R : Room} {s : State} {m : MethodId} {args : Array Value} {below : List Frame} {meth : Method} {c : Code} {H : Heap} {locs : List Loc} {cells slots : Nat} {Q : State → Prop} {cc : ByteArray} {nL pc : Nat} {ls : Array Slot} {st : List Value} {X : CX} {a : Nat → Nat} {w : MW} {rest : va_W}
noncomputable def fM_commandTo_L17 (w : MW) (x1 : Int32) (x2 : Int32) (x3 : Int32) (x4 : Int32) : Option ((Int32 × MW) ⊕ (((MW) ⊕ Int32 × MW))) :=
  if 5 ≤ x4 then
    some (.inr (.inl w))
  else
    if x3 = (-1) then
      (some (x4 + 1)).bind fun x_3 =>
      some (.inl (x_3, w))
    else
      (fM_can w x1 x4).bind fun r_5 =>
      if r_5 = 0 then
        (some (x4 + 1)).bind fun x_8 =>
        some (.inl (x_8, w))
      else
        (fM_beside w x1 x4).bind fun r_10 =>
        b2 (fM_pathOf w r_10 x2) fun r_12 w_13 =>
        if r_12 = (x3 - 1) then
          some (.inr (.inr (x4, w_13)))
        else
          (some (x4 + 1)).bind fun x_16 =>
          some (.inl (x_16, w_13))

set_option maxHeartbeats 4000000 in
theorem wM_commandTo_L17 (B : CallFix p m c cX4_commandTo 5 s args lw_all RX4) (hK : KK X s) {w : MW} {x1 : Int32} {x2 : Int32} {x3 : Int32} {x4 : Int32} {res : (Int32 × MW) ⊕ (((MW) ⊕ Int32 × MW))} (hf : fM_commandTo_L17 w x1 x2 x3 x4 = some res) (kc : ∀ (y4 : Int32) (w1 : MW), res = .inl (y4, w1) → ∀ (H : Heap) (locs : List Loc), GG X (MP X a w1 ++ rest) s.heap H locs → ∀ (ls : Array Slot), lv_has ls 5 [(0, .ref (a 0)), (1, .int x1), (2, .int x2), (3, .int x3), (4, .int y4)] → W p l e (RMw 5 0 0 115) s m args below meth c H locs 0 0 Q (F0 m 17 ls [])) (ke65 : ∀ (w1 : MW), res = .inr (.inl w1) → ∀ (H : Heap) (locs : List Loc), GG X (MP X a w1 ++ rest) s.heap H locs → ∀ (ls : Array Slot), lv_has ls 5 [] → W p l e (RMw 5 0 0 115) s m args below meth c H locs 0 0 Q (F0 m 65 ls [])) (ke56 : ∀ (y4 : Int32) (w1 : MW), res = .inr (.inr (y4, w1)) → ∀ (H : Heap) (locs : List Loc), GG X (MP X a w1 ++ rest) s.heap H locs → ∀ (ls : Array Slot), lv_has ls 5 [(4, .int y4)] → W p l e (RMw 5 0 0 115) s m args below meth c H locs 0 0 Q (F0 m 56 ls [])) {H : Heap} {locs : List Loc} (hG : GG X (MP X a w ++ rest) s.heap H locs) {ls : Array Slot} (hl : lv_has ls 5 [(0, .ref (a 0)), (1, .int x1), (2, .int x2), (3, .int x3), (4, .int x4)]) : W p l e (RMw 5 0 0 115) s m args below meth c H locs 0 0 Q (F0 m 17 ls []) := by
  have hx := B.1
  have hb := B.2.1
  unfold fM_commandTo_L17 at hf
  refine lv_iload hx hb dX4_commandTo_17 (lv_at hl 4 rfl) ?_
  refine lv_iconst (v := 5) hx hb dX4_commandTo_19 (by decide) ?_
  refine lv_icmp_ge (tgt := 65) hx hb dX4_commandTo_20 (by decide) (fun c_1 => ?_) (fun c_1 => ?_)
  · have hf := ifp c_1 hf
    exact ke65 _ (Option.some.inj hf).symm _ _ hG _ (lv_sub hl [] rfl)
  · have hf := ifn c_1 hf
    refine lv_iload_n hx hb dX4_commandTo_23 rfl (lv_at hl 3 rfl) ?_
    refine lv_iconst (v := (-1)) hx hb dX4_commandTo_24 (by decide) ?_
    refine lv_icmp_eq (tgt := 59) hx hb dX4_commandTo_25 (by decide) (fun c_2 => ?_) (fun c_2 => ?_)
    · have hf := ifp c_2 hf
      obtain ⟨x_3, e_4, hf⟩ := bo hf
      refine w_iinc (k := 4) (lv' := [(4, .int x_3), (0, .ref (a 0)), (1, .int x1), (2, .int x2), (3, .int x3)]) e_4 hx hb dX4_commandTo_59 hl rfl (by decide) rfl (fun ls hl => ?_)
      refine lv_goto (tgt := 17) hx hb dX4_commandTo_62 (by decide) ?_
      exact kc _ _ (Option.some.inj hf).symm _ _ hG _ (lv_sub hl [1, 2, 3, 4, 0] rfl)
    · have hf := ifn c_2 hf
      refine lv_aload_n hx hb dX4_commandTo_28 rfl (lv_at hl 0 rfl) ?_
      refine lv_iload_n hx hb dX4_commandTo_29 rfl (lv_at hl 1 rfl) ?_
      refine lv_iload hx hb dX4_commandTo_30 (lv_at hl 4 rfl) ?_
      obtain ⟨r_5, e_6, hf⟩ := bo hf
      refine cM_can B hK hG.2.2 hG.1 e_6 ⟨Nat.le_of_ble_eq_true rfl, Nat.le_of_ble_eq_true rfl⟩ ⟨Nat.zero_le _, Nat.zero_le _⟩ hl.1 (Nat.le_of_ble_eq_true rfl) dX4_commandTo_32 ?_
      refine lv_if_eq (tgt := 59) hx hb dX4_commandTo_35 (by decide) (fun c_7 => ?_) (fun c_7 => ?_)
      · have hf := ifp c_7 hf
        obtain ⟨x_8, e_9, hf⟩ := bo hf
        refine w_iinc (k := 4) (lv' := [(4, .int x_8), (0, .ref (a 0)), (1, .int x1), (2, .int x2), (3, .int x3)]) e_9 hx hb dX4_commandTo_59 hl rfl (by decide) rfl (fun ls hl => ?_)
        refine lv_goto (tgt := 17) hx hb dX4_commandTo_62 (by decide) ?_
        exact kc _ _ (Option.some.inj hf).symm _ _ hG _ (lv_sub hl [1, 2, 3, 4, 0] rfl)
      · have hf := ifn c_7 hf
        refine lv_aload_n hx hb dX4_commandTo_38 rfl (lv_at hl 0 rfl) ?_
        refine lv_aload_n hx hb dX4_commandTo_39 rfl (lv_at hl 0 rfl) ?_
        refine lv_iload_n hx hb dX4_commandTo_40 rfl (lv_at hl 1 rfl) ?_
        refine lv_iload hx hb dX4_commandTo_41 (lv_at hl 4 rfl) ?_
        obtain ⟨r_10, e_11, hf⟩ := bo hf
        refine cM_beside B hK hG.2.2 hG.1 e_11 ⟨Nat.le_of_ble_eq_true rfl, Nat.le_of_ble_eq_true rfl⟩ ⟨Nat.zero_le _, Nat.zero_le _⟩ hl.1 (Nat.le_of_ble_eq_true rfl) dX4_commandTo_43 ?_
        refine lv_iload_n hx hb dX4_commandTo_46 rfl (lv_at hl 2 rfl) ?_
        obtain ⟨r_12, w_13, e_14, hf⟩ := b2s hf
        refine cM_pathOf B hK hG e_14 ⟨Nat.le_of_ble_eq_true rfl, Nat.le_of_ble_eq_true rfl⟩ ⟨Nat.zero_le _, Nat.zero_le _⟩ hl.1 (Nat.le_of_ble_eq_true rfl) dX4_commandTo_47 (fun H locs hG => ?_)
        refine lv_iload_n hx hb dX4_commandTo_50 rfl (lv_at hl 3 rfl) ?_
        refine lv_iconst (v := 1) hx hb dX4_commandTo_51 (by decide) ?_
        refine lv_isub hx hb dX4_commandTo_52 ?_
        refine lv_icmp_ne (tgt := 59) hx hb dX4_commandTo_53 (by decide) (fun c_15 => ?_) (fun c_15 => ?_)
        · have hf := ifn c_15 hf
          obtain ⟨x_16, e_17, hf⟩ := bo hf
          refine w_iinc (k := 4) (lv' := [(4, .int x_16), (0, .ref (a 0)), (1, .int x1), (2, .int x2), (3, .int x3)]) e_17 hx hb dX4_commandTo_59 hl rfl (by decide) rfl (fun ls hl => ?_)
          refine lv_goto (tgt := 17) hx hb dX4_commandTo_62 (by decide) ?_
          exact kc _ _ (Option.some.inj hf).symm _ _ hG _ (lv_sub hl [1, 2, 3, 4, 0] rfl)
        · have hf := ifp c_15 hf
          exact ke56 _ _ (Option.some.inj hf).symm _ _ hG _ (lv_sub hl [4] rfl)

set_option maxHeartbeats 4000000 in
theorem vM_commandTo_L17 (B : CallFix p m c cX4_commandTo 5 s args lw_all RX4) (hK : KK X s) {w : MW} {x1 : Int32} {x2 : Int32} {x3 : Int32} {x4 : Int32} {res : ((MW) ⊕ Int32 × MW)} (hf : lp (fun q : Int32 × MW => fM_commandTo_L17 q.2 x1 x2 x3 q.1) (x4, w) = some res) (ke65 : ∀ (w1 : MW), res = (.inl w1) → ∀ (H : Heap) (locs : List Loc), GG X (MP X a w1 ++ rest) s.heap H locs → ∀ (ls : Array Slot), lv_has ls 5 [] → W p l e (RMw 5 0 0 115) s m args below meth c H locs 0 0 Q (F0 m 65 ls [])) (ke56 : ∀ (y4 : Int32) (w1 : MW), res = (.inr (y4, w1)) → ∀ (H : Heap) (locs : List Loc), GG X (MP X a w1 ++ rest) s.heap H locs → ∀ (ls : Array Slot), lv_has ls 5 [(4, .int y4)] → W p l e (RMw 5 0 0 115) s m args below meth c H locs 0 0 Q (F0 m 56 ls [])) {H : Heap} {locs : List Loc} (hG : GG X (MP X a w ++ rest) s.heap H locs) {ls : Array Slot} (hl : lv_has ls 5 [(0, .ref (a 0)), (1, .int x1), (2, .int x2), (3, .int x3), (4, .int x4)]) : W p l e (RMw 5 0 0 115) s m args below meth c H locs 0 0 Q (F0 m 17 ls []) := by
  refine lp_ind (r := res) (P := fun q : Int32 × MW => ∀ (H : Heap) (locs : List Loc) (ls : Array Slot), GG X (MP X a q.2 ++ rest) s.heap H locs → lv_has ls 5 [(0, .ref (a 0)), (1, .int x1), (2, .int x2), (3, .int x3), (4, .int q.1)] → W p l e (RMw 5 0 0 115) s m args below meth c H locs 0 0 Q (F0 m 17 ls [])) ?_ ?_ _ hf _ _ _ hG hl
  · intro q hb H locs ls hG hl
    exact wM_commandTo_L17 B hK hb (fun _ _ h => by cases h) (fun z0 h => ke65 z0 (Sum.inr.inj h)) (fun z0 z1 h => ke56 z0 z1 (Sum.inr.inj h)) hG hl
  · intro q q2 hb ih H locs ls hG hl
    exact wM_commandTo_L17 B hK hb (fun z0 z1 h => by cases h; exact fun H locs hG ls hl => ih H locs ls hG hl) (fun _ h => by cases h) (fun _ _ h => by cases h) hG hl

noncomputable def fM_commandTo (w : MW) (x1 : Int32) (x2 : Int32) : Option (Int32 × MW) :=
  if x1 = x2 then
    some (0, w)
  else
    b2 (fM_pathOf w x1 x2) fun r_2 w_3 =>
    (lp (fun q : Int32 × MW => fM_commandTo_L17 q.2 x1 x2 r_2 q.1) (1, w_3)).bind
      (Sum.elim (
        fun q_8 => (fun (w_5 : MW) =>
          some ((-1), w_5)
        ) q_8
      )
        (
          fun q_9 => (fun (y_6 : Int32) (w_7 : MW) =>
            some (y_6, w_7)
          ) q_9.1 q_9.2
        )
      )

set_option maxHeartbeats 4000000 in
theorem wM_commandTo (B : CallFix p m c cX4_commandTo 5 s args lw_all RX4) (hK : KK X s) {w : MW} {x1 : Int32} {x2 : Int32} {res : Int32 × MW} (hf : fM_commandTo w x1 x2 = some res) (kr : ∀ (r : Int32) (w1 : MW), res = (r, w1) → ∀ (H : Heap) (locs : List Loc), GG X (MP X a w1 ++ rest) s.heap H locs → ∀ (pc : Nat) (ls : Array Slot), decode cX4_commandTo pc = .ok (.ireturn, 1) → W p l e (RMw 5 0 0 115) s m args below meth c H locs 0 0 Q (F0 m pc ls [.int r])) {H : Heap} {locs : List Loc} (hG : GG X (MP X a w ++ rest) s.heap H locs) {ls : Array Slot} (hl : lv_has ls 5 [(0, .ref (a 0)), (1, .int x1), (2, .int x2)]) : W p l e (RMw 5 0 0 115) s m args below meth c H locs 0 0 Q (F0 m 0 ls []) := by
  have hx := B.1
  have hb := B.2.1
  unfold fM_commandTo at hf
  refine lv_iload_n hx hb dX4_commandTo_0 rfl (lv_at hl 1 rfl) ?_
  refine lv_iload_n hx hb dX4_commandTo_1 rfl (lv_at hl 2 rfl) ?_
  refine lv_icmp_ne (tgt := 7) hx hb dX4_commandTo_2 (by decide) (fun c_1 => ?_) (fun c_1 => ?_)
  · have hf := ifn c_1 hf
    refine lv_aload_n hx hb dX4_commandTo_7 rfl (lv_at hl 0 rfl) ?_
    refine lv_iload_n hx hb dX4_commandTo_8 rfl (lv_at hl 1 rfl) ?_
    refine lv_iload_n hx hb dX4_commandTo_9 rfl (lv_at hl 2 rfl) ?_
    obtain ⟨r_2, w_3, e_4, hf⟩ := b2s hf
    refine cM_pathOf B hK hG e_4 ⟨Nat.le_of_ble_eq_true rfl, Nat.le_of_ble_eq_true rfl⟩ ⟨Nat.zero_le _, Nat.zero_le _⟩ hl.1 (Nat.le_of_ble_eq_true rfl) dX4_commandTo_10 (fun H locs hG => ?_)
    refine lv_istore_n (lv' := [(3, .int r_2), (0, .ref (a 0)), (1, .int x1), (2, .int x2)]) hx hb dX4_commandTo_13 rfl hl (by decide) rfl (fun ls hl => ?_)
    refine lv_iconst (v := 1) hx hb dX4_commandTo_14 (by decide) ?_
    refine lv_istore (lv' := [(4, .int 1), (3, .int r_2), (0, .ref (a 0)), (1, .int x1), (2, .int x2)]) hx hb dX4_commandTo_15 hl (by decide) rfl (fun ls hl => ?_)
    rcases bs hf with ⟨w_5, e_10, hf⟩ | ⟨⟨y_6, w_7⟩, e_10, hf⟩
    · try dsimp only at hf
      refine vM_commandTo_L17 B hK e_10 ?_ (fun _ _ h => by cases h) hG (lv_sub hl [2, 3, 4, 1, 0] rfl)
      intro z0 hz
      cases hz
      intro H locs hG ls hl
      refine lv_iconst (v := (-1)) hx hb dX4_commandTo_65 (by decide) ?_
      exact kr _ _ (Option.some.inj hf).symm _ _ hG _ _ dX4_commandTo_66
    · try dsimp only at hf
      refine vM_commandTo_L17 B hK e_10 (fun _ h => by cases h) ?_ hG (lv_sub hl [2, 3, 4, 1, 0] rfl)
      intro z0 z1 hz
      cases hz
      intro H locs hG ls hl
      refine lv_iload hx hb dX4_commandTo_56 (lv_at hl 0 rfl) ?_
      exact kr _ _ (Option.some.inj hf).symm _ _ hG _ _ dX4_commandTo_58
  · have hf := ifp c_1 hf
    refine lv_iconst (v := 0) hx hb dX4_commandTo_5 (by decide) ?_
    exact kr _ _ (Option.some.inj hf).symm _ _ hG _ _ dX4_commandTo_6

theorem tM_commandTo (l : Launch) (X : CX) (a : Nat → Nat) (rest : va_W) (w w' : MW) (x1 : Int32) (x2 : Int32) (r : Int32) (hf : fM_commandTo w x1 x2 = some (r, w')) : RW l yX4_commandTo cX4_commandTo 5 (some .int) 5 0 0 115 [.ref (a 0), .int x1, .int x2] X (MP X a w ++ rest) (MP X a w' ++ rest) (some (.int r)) := by
  refine RW.mk (by decide) (Nat.le_of_ble_eq_true rfl) ?_
  intro p e s m below meth c B hr hlk hK hG ls hl
  exact wM_commandTo B hK hf (fun r w h H locs hG pc ls hd => by cases h; exact w_iretW B hr hlk hG hd) hG hl
theorem cM_commandTo (B : CallFix p m c cc nL s args lw_all RX4) (hK : KK X s) (hG : GG X (MP X a w ++ rest) s.heap H locs) {x1 : Int32} {x2 : Int32} {r : Int32} {w' : MW} (hf : fM_commandTo w x1 x2 = some (r, w')) (hR : 5 + 1 ≤ R.frames ∧ 139 ≤ R.locals) (hcs : cells ≤ R.cells ∧ slots ≤ R.slots) (hl : ls.size = nL) (hcat : (st.map fun v => v.category).sum ≤ 8) (hdg : decode cc pc = .ok (.invokevirtual 306, 3)) (kk : ∀ (H1 : Heap) (locs1 : List Loc), GG X (MP X a w' ++ rest) s.heap H1 locs1 → W p l e R s m args below meth c H1 locs1 cells slots Q (F0 m (pc + 3) ls (.int r :: st))) : W p l e R s m args below meth c H locs cells slots Q (F0 m pc ls (.int x2 :: .int x1 :: .ref (a 0) :: st)) :=
  w_afterW (w_rV_RW (As := [.int x1, .int x2]) B hK hG (tM_commandTo l X a rest w w' x1 x2 r hf) (lw_V q1848 q1850 qs78 q91 q1851) 0 rfl rfl (n := 2) (by decide +kernel) hR hcs rfl hl rfl hcat hdg) hG.2.2 kk
end S_commandTo
