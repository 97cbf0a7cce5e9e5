set_option maxRecDepth 100000
section S_nears
variable {p : Program} {l : Launch} {e : Env} {R : Room} {s : State} {m : MethodId} {args : Array Value} {below : List Frame} {meth : Method} {c : Code} {H : Heap} {locs : List Loc} {cells slots : Nat} {Q : State → Prop} {cc : ByteArray} {nL pc : Nat} {ls : Array Slot} {st : List Value} {X : CX} {a : Nat → Nat} {w : MW} {rest : va_W}
noncomputable def fM_nears_J25 (w : MW)  : Option (Int32 × MW) :=
  b2 (fM_no w (-2)) fun r_1 w_2 =>
  some (r_1, w_2)

set_option maxHeartbeats 4000000 in
theorem wM_nears_J25 (B : CallFix p m c cX4_nears 9 s args lw_all RX4) (hK : KK X s) {w : MW}  {res : Int32 × MW} (hf : fM_nears_J25 w  = some res) (kr : ∀ (r : Int32) (w1 : MW), res = (r, w1) → ∀ (H : Heap) (locs : List Loc), GG X (MP X a w1 ++ rest) s.heap H locs → ∀ (pc : Nat) (ls : Array Slot), decode cX4_nears pc = .ok (.ireturn, 1) → W p l e (RMw 4 0 0 93) s m args below meth c H locs 0 0 Q (F0 m pc ls [.int r])) {H : Heap} {locs : List Loc} (hG : GG X (MP X a w ++ rest) s.heap H locs) {ls : Array Slot} (hl : lv_has ls 9 [(0, .ref (a 0))]) : W p l e (RMw 4 0 0 93) s m args below meth c H locs 0 0 Q (F0 m 25 ls []) := by
  have hx := B.1
  have hb := B.2.1
  unfold fM_nears_J25 at hf
  refine lv_aload_n hx hb dX4_nears_25 rfl (lv_at hl 0 rfl) ?_
  refine lv_bipush (v := (-2)) hx hb dX4_nears_26 (by decide) ?_
  obtain ⟨r_1, w_2, e_3, hf⟩ := b2s hf
  refine cM_no B hK hG e_3 ⟨Nat.le_of_ble_eq_true rfl, Nat.le_of_ble_eq_true rfl⟩ ⟨Nat.zero_le _, Nat.zero_le _⟩ hl.1 (Nat.le_of_ble_eq_true rfl) dX4_nears_28 (fun H locs hG => ?_)
  exact kr _ _ (Option.some.inj hf).symm _ _ hG _ _ dX4_nears_31

noncomputable def fM_nears_J111_L75 (w : MW) (x1 : Int32) (x2 : Int32) (x5 : Int32) (x7 : Int32) (x8 : Int32) : Option ((Int32 × Int32 × Int32) ⊕ (Int32)) :=
  (some (x7 + 1)).bind fun x_1 =>
  some (.inl (x5, x8, x_1))

set_option maxHeartbeats 4000000 in
theorem wM_nears_J111_L75 (B : CallFix p m c cX4_nears 9 s args lw_all RX4) (hK : KK X s) {w : MW} {x1 : Int32} {x2 : Int32} {x5 : Int32} {x7 : Int32} {x8 : Int32} {res : (Int32 × Int32 × Int32) ⊕ (Int32)} (hf : fM_nears_J111_L75 w x1 x2 x5 x7 x8 = some res) (kc : ∀ (y5 : Int32) (y6 : Int32) (y7 : Int32), res = .inl (y5, y6, y7) → ∀ (H : Heap) (locs : List Loc), GG X (MP X a w ++ rest) s.heap H locs → ∀ (ls : Array Slot), lv_has ls 9 [(0, .ref (a 0)), (1, .int x1), (2, .int x2), (5, .int y5), (6, .int y6), (7, .int y7)] → W p l e (RMw 4 0 0 93) s m args below meth c H locs 0 0 Q (F0 m 75 ls [])) (ke121 : ∀ (y5 : Int32), res = .inr y5 → ∀ (H : Heap) (locs : List Loc), GG X (MP X a w ++ rest) s.heap H locs → ∀ (ls : Array Slot), lv_has ls 9 [(5, .int y5)] → W p l e (RMw 4 0 0 93) s m args below meth c H locs 0 0 Q (F0 m 121 ls [])) {H : Heap} {locs : List Loc} (hG : GG X (MP X a w ++ rest) s.heap H locs) {ls : Array Slot} (hl : lv_has ls 9 [(0, .ref (a 0)), (1, .int x1), (2, .int x2), (5, .int x5), (7, .int x7), (8, .int x8)]) : W p l e (RMw 4 0 0 93) s m args below meth c H locs 0 0 Q (F0 m 111 ls []) := by
  have hx := B.1
  have hb := B.2.1
  unfold fM_nears_J111_L75 at hf
  refine lv_iload hx hb dX4_nears_111 (lv_at hl 5 rfl) ?_
  refine lv_istore (lv' := [(6, .int x8), (0, .ref (a 0)), (1, .int x1), (2, .int x2), (5, .int x5), (7, .int x7), (8, .int x8)]) hx hb dX4_nears_113 hl (by decide) rfl (fun ls hl => ?_)
  obtain ⟨x_1, e_2, hf⟩ := bo hf
  refine w_iinc (k := 5) (lv' := [(7, .int x_1), (6, .int x8), (0, .ref (a 0)), (1, .int x1), (2, .int x2), (5, .int x5), (8, .int x8)]) e_2 hx hb dX4_nears_115 hl rfl (by decide) rfl (fun ls hl => ?_)
  refine lv_goto (tgt := 75) hx hb dX4_nears_118 (by decide) ?_
  exact kc _ _ _ (Option.some.inj hf).symm _ _ hG _ (lv_sub hl [2, 3, 4, 5, 1, 0] rfl)

noncomputable def fM_nears_L75 (w : MW) (x1 : Int32) (x2 : Int32) (x5 : Int32) (x6 : Int32) (x7 : Int32) : Option ((Int32 × Int32 × Int32) ⊕ (Int32)) :=
  if x2 ≤ x7 then
    some (.inr x5)
  else
    (fM_toldAt w x1 x7).bind fun r_2 =>
    (some (r_2.toInt32)).bind fun x_4 =>
    (rd (w.2.1 26) 67 x_4).bind fun v_6 =>
    (rd (w.2.1 26) 67 x6).bind fun v_8 =>
    if v_8 ≤ v_6 then
      fM_nears_J111_L75 w x1 x2 x5 x7 x_4
    else
      (some (x5 + 1)).bind fun x_11 =>
      fM_nears_J111_L75 w x1 x2 x_11 x7 x_4

set_option maxHeartbeats 4000000 in
theorem wM_nears_L75 (B : CallFix p m c cX4_nears 9 s args lw_all RX4) (hK : KK X s) {w : MW} {x1 : Int32} {x2 : Int32} {x5 : Int32} {x6 : Int32} {x7 : Int32} {res : (Int32 × Int32 × Int32) ⊕ (Int32)} (hf : fM_nears_L75 w x1 x2 x5 x6 x7 = some res) (kc : ∀ (y5 : Int32) (y6 : Int32) (y7 : Int32), res = .inl (y5, y6, y7) → ∀ (H : Heap) (locs : List Loc), GG X (MP X a w ++ rest) s.heap H locs → ∀ (ls : Array Slot), lv_has ls 9 [(0, .ref (a 0)), (1, .int x1), (2, .int x2), (5, .int y5), (6, .int y6), (7, .int y7)] → W p l e (RMw 4 0 0 93) s m args below meth c H locs 0 0 Q (F0 m 75 ls [])) (ke121 : ∀ (y5 : Int32), res = .inr y5 → ∀ (H : Heap) (locs : List Loc), GG X (MP X a w ++ rest) s.heap H locs → ∀ (ls : Array Slot), lv_has ls 9 [(5, .int y5)] → W p l e (RMw 4 0 0 93) s m args below meth c H locs 0 0 Q (F0 m 121 ls [])) {H : Heap} {locs : List Loc} (hG : GG X (MP X a w ++ rest) s.heap H locs) {ls : Array Slot} (hl : lv_has ls 9 [(0, .ref (a 0)), (1, .int x1), (2, .int x2), (5, .int x5), (6, .int x6), (7, .int x7)]) : W p l e (RMw 4 0 0 93) s m args below meth c H locs 0 0 Q (F0 m 75 ls []) := by
  have hx := B.1
  have hb := B.2.1
  unfold fM_nears_L75 at hf
  refine lv_iload hx hb dX4_nears_75 (lv_at hl 5 rfl) ?_
  refine lv_iload_n hx hb dX4_nears_77 rfl (lv_at hl 2 rfl) ?_
  refine lv_icmp_ge (tgt := 121) hx hb dX4_nears_78 (by decide) (fun c_1 => ?_) (fun c_1 => ?_)
  · have hf := ifp c_1 hf
    exact ke121 _ (Option.some.inj hf).symm _ _ hG _ (lv_sub hl [3] rfl)
  · have hf := ifn c_1 hf
    refine lv_aload_n hx hb dX4_nears_81 rfl (lv_at hl 0 rfl) ?_
    refine lv_iload_n hx hb dX4_nears_82 rfl (lv_at hl 1 rfl) ?_
    refine lv_iload hx hb dX4_nears_83 (lv_at hl 5 rfl) ?_
    obtain ⟨r_2, e_3, hf⟩ := bo hf
    refine cM_toldAt B hK hG.2.2 hG.1 e_3 ⟨Nat.le_of_ble_eq_true rfl, Nat.le_of_ble_eq_true rfl⟩ ⟨Nat.zero_le _, Nat.zero_le _⟩ hl.1 (Nat.le_of_ble_eq_true rfl) dX4_nears_85 ?_
    refine lv_l2i hx hb dX4_nears_88 rfl ?_
    obtain ⟨x_4, e_5, hf⟩ := bo hf
    refine w_istore (lv' := [(8, .int x_4), (0, .ref (a 0)), (1, .int x1), (2, .int x2), (5, .int x5), (6, .int x6), (7, .int x7)]) e_5 hx hb dX4_nears_89 hl (by decide) rfl (fun ls hl => ?_)
    refine lv_aload_n hx hb dX4_nears_91 rfl (lv_at hl 1 rfl) ?_
    refine mo_g26 B hK hG.1 dX4_nears_92 ?_
    refine lv_iload hx hb dX4_nears_95 (lv_at hl 0 rfl) ?_
    obtain ⟨v_6, e_7, hf⟩ := bo hf
    refine mo_ld26 B hK hG.1 e_7 dX4_nears_97 ?_
    refine lv_aload_n hx hb dX4_nears_98 rfl (lv_at hl 1 rfl) ?_
    refine mo_g26 B hK hG.1 dX4_nears_99 ?_
    refine lv_iload hx hb dX4_nears_102 (lv_at hl 5 rfl) ?_
    obtain ⟨v_8, e_9, hf⟩ := bo hf
    refine mo_ld26 B hK hG.1 e_9 dX4_nears_104 ?_
    refine lv_icmp_ge (tgt := 111) hx hb dX4_nears_105 (by decide) (fun c_10 => ?_) (fun c_10 => ?_)
    · have hf := ifp c_10 hf
      exact wM_nears_J111_L75 B hK hf kc ke121 hG (lv_sub hl [1, 2, 3, 4, 6, 0] rfl)
    · have hf := ifn c_10 hf
      obtain ⟨x_11, e_12, hf⟩ := bo hf
      refine w_iinc (k := 4) (lv' := [(5, .int x_11), (8, .int x_4), (0, .ref (a 0)), (1, .int x1), (2, .int x2), (6, .int x6), (7, .int x7)]) e_12 hx hb dX4_nears_108 hl rfl (by decide) rfl (fun ls hl => ?_)
      exact wM_nears_J111_L75 B hK hf kc ke121 hG (lv_sub hl [2, 3, 4, 0, 6, 1] rfl)

set_option maxHeartbeats 4000000 in
theorem vM_nears_L75 (B : CallFix p m c cX4_nears 9 s args lw_all RX4) (hK : KK X s) {w : MW} {x1 : Int32} {x2 : Int32} {x5 : Int32} {x6 : Int32} {x7 : Int32} {res : Int32} (hf : lp (fun q : Int32 × Int32 × Int32 => fM_nears_L75 w x1 x2 q.1 q.2.1 q.2.2) (x5, x6, x7) = some res) (ke121 : ∀ (y5 : Int32), res = y5 → ∀ (H : Heap) (locs : List Loc), GG X (MP X a w ++ rest) s.heap H locs → ∀ (ls : Array Slot), lv_has ls 9 [(5, .int y5)] → W p l e (RMw 4 0 0 93) s m args below meth c H locs 0 0 Q (F0 m 121 ls [])) {H : Heap} {locs : List Loc} (hG : GG X (MP X a w ++ rest) s.heap H locs) {ls : Array Slot} (hl : lv_has ls 9 [(0, .ref (a 0)), (1, .int x1), (2, .int x2), (5, .int x5), (6, .int x6), (7, .int x7)]) : W p l e (RMw 4 0 0 93) s m args below meth c H locs 0 0 Q (F0 m 75 ls []) := by
  refine lp_ind (r := res) (P := fun q : Int32 × Int32 × Int32 => ∀ (H : Heap) (locs : List Loc) (ls : Array Slot), GG X (MP X a w ++ rest) s.heap H locs → lv_has ls 9 [(0, .ref (a 0)), (1, .int x1), (2, .int x2), (5, .int q.1), (6, .int q.2.1), (7, .int q.2.2)] → W p l e (RMw 4 0 0 93) s m args below meth c H locs 0 0 Q (F0 m 75 ls [])) ?_ ?_ _ hf _ _ _ hG hl
  · intro q hb H locs ls hG hl
    exact wM_nears_L75 B hK hb (fun _ _ _ h => by cases h) (fun z0 h => ke121 z0 (Sum.inr.inj h)) hG hl
  · intro q q2 hb ih H locs ls hG hl
    exact wM_nears_L75 B hK hb (fun z0 z1 z2 h => by cases h; exact fun H locs hG ls hl => ih H locs ls hG hl) (fun _ h => by cases h) hG hl

noncomputable def fM_nears (w : MW) (x1 : Int32) (x2 : Int32) (x3 : Int32) : Option (Int32 × MW) :=
  (fM_isShelf x1).bind fun r_1 =>
  if r_1 = 0 then
    fM_nears_J25 w 
  else
    (fM_within x2 0 40).bind fun r_4 =>
    if r_4 = 0 then
      fM_nears_J25 w 
    else
      (fM_isWalker w x3).bind fun r_7 =>
      if r_7 = 0 then
        fM_nears_J25 w 
      else
        (fM_noWalk w x1 x2 x3).bind fun r_10 =>
        if 0 ≤ r_10 then
          (fM_walks w (w.1 2)).bind fun w_13 =>
          (rd (w_13.2.1 8) 4 x3).bind fun v_15 =>
          (lp (fun q : Int32 × Int32 × Int32 => fM_nears_L75 w_13 x1 x2 q.1 q.2.1 q.2.2) (0, v_15, 0)).bind (
            fun q_18 => (fun (y_17 : Int32) =>
              some (y_17, w_13)
            ) q_18
          )
        else
          b2 (fM_no w r_10) fun r_20 w_21 =>
          some (r_20, w_21)

set_option maxHeartbeats 4000000 in
theorem wM_nears (B : CallFix p m c cX4_nears 9 s args lw_all RX4) (hK : KK X s) {w : MW} {x1 : Int32} {x2 : Int32} {x3 : Int32} {res : Int32 × MW} (hf : fM_nears w x1 x2 x3 = some res) (kr : ∀ (r : Int32) (w1 : MW), res = (r, w1) → ∀ (H : Heap) (locs : List Loc), GG X (MP X a w1 ++ rest) s.heap H locs → ∀ (pc : Nat) (ls : Array Slot), decode cX4_nears pc = .ok (.ireturn, 1) → W p l e (RMw 4 0 0 93) s m args below meth c H locs 0 0 Q (F0 m pc ls [.int r])) {H : Heap} {locs : List Loc} (hG : GG X (MP X a w ++ rest) s.heap H locs) {ls : Array Slot} (hl : lv_has ls 9 [(0, .ref (a 0)), (1, .int x1), (2, .int x2), (3, .int x3)]) : W p l e (RMw 4 0 0 93) s m args below meth c H locs 0 0 Q (F0 m 0 ls []) := by
  have hx := B.1
  have hb := B.2.1
  unfold fM_nears at hf
  refine lv_iload_n hx hb dX4_nears_0 rfl (lv_at hl 1 rfl) ?_
  obtain ⟨r_1, e_2, hf⟩ := bo hf
  refine cM_isShelf B e_2 ⟨Nat.le_of_ble_eq_true rfl, Nat.le_of_ble_eq_true rfl⟩ ⟨Nat.zero_le _, Nat.zero_le _⟩ hl.1 (Nat.le_of_ble_eq_true rfl) dX4_nears_1 ?_
  refine lv_if_eq (tgt := 25) hx hb dX4_nears_4 (by decide) (fun c_3 => ?_) (fun c_3 => ?_)
  · have hf := ifp c_3 hf
    exact wM_nears_J25 B hK hf kr hG (lv_sub hl [0] rfl)
  · have hf := ifn c_3 hf
    refine lv_iload_n hx hb dX4_nears_7 rfl (lv_at hl 2 rfl) ?_
    refine lv_iconst (v := 0) hx hb dX4_nears_8 (by decide) ?_
    refine lv_bipush (v := 40) hx hb dX4_nears_9 (by decide) ?_
    obtain ⟨r_4, e_5, hf⟩ := bo hf
    refine cM_within B e_5 ⟨Nat.le_of_ble_eq_true rfl, Nat.le_of_ble_eq_true rfl⟩ ⟨Nat.zero_le _, Nat.zero_le _⟩ hl.1 (Nat.le_of_ble_eq_true rfl) dX4_nears_11 ?_
    refine lv_if_eq (tgt := 25) hx hb dX4_nears_14 (by decide) (fun c_6 => ?_) (fun c_6 => ?_)
    · have hf := ifp c_6 hf
      exact wM_nears_J25 B hK hf kr hG (lv_sub hl [0] rfl)
    · have hf := ifn c_6 hf
      refine lv_aload_n hx hb dX4_nears_17 rfl (lv_at hl 0 rfl) ?_
      refine lv_iload_n hx hb dX4_nears_18 rfl (lv_at hl 3 rfl) ?_
      obtain ⟨r_7, e_8, hf⟩ := bo hf
      refine cM_isWalker B hK hG.2.2 hG.1 e_8 ⟨Nat.le_of_ble_eq_true rfl, Nat.le_of_ble_eq_true rfl⟩ ⟨Nat.zero_le _, Nat.zero_le _⟩ hl.1 (Nat.le_of_ble_eq_true rfl) dX4_nears_19 ?_
      refine lv_if_ne (tgt := 32) hx hb dX4_nears_22 (by decide) (fun c_9 => ?_) (fun c_9 => ?_)
      · have hf := ifn c_9 hf
        refine lv_aload_n hx hb dX4_nears_32 rfl (lv_at hl 0 rfl) ?_
        refine lv_iload_n hx hb dX4_nears_33 rfl (lv_at hl 1 rfl) ?_
        refine lv_iload_n hx hb dX4_nears_34 rfl (lv_at hl 2 rfl) ?_
        refine lv_iload_n hx hb dX4_nears_35 rfl (lv_at hl 3 rfl) ?_
        obtain ⟨r_10, e_11, hf⟩ := bo hf
        refine cM_noWalk B hK hG.2.2 hG.1 e_11 ⟨Nat.le_of_ble_eq_true rfl, Nat.le_of_ble_eq_true rfl⟩ ⟨Nat.zero_le _, Nat.zero_le _⟩ hl.1 (Nat.le_of_ble_eq_true rfl) dX4_nears_36 ?_
        refine lv_istore (lv' := [(4, .int r_10), (0, .ref (a 0)), (1, .int x1), (2, .int x2), (3, .int x3)]) hx hb dX4_nears_39 hl (by decide) rfl (fun ls hl => ?_)
        refine lv_iload hx hb dX4_nears_41 (lv_at hl 0 rfl) ?_
        refine lv_if_ge (tgt := 53) hx hb dX4_nears_43 (by decide) (fun c_12 => ?_) (fun c_12 => ?_)
        · have hf := ifp c_12 hf
          refine lv_aload_n hx hb dX4_nears_53 rfl (lv_at hl 1 rfl) ?_
          refine lv_aload_n hx hb dX4_nears_54 rfl (lv_at hl 1 rfl) ?_
          refine mo_g2 B hK hG.1 dX4_nears_55 ?_
          obtain ⟨w_13, e_14, hf⟩ := bo hf
          refine cM_walks B hK hG e_14 ⟨Nat.le_of_ble_eq_true rfl, Nat.le_of_ble_eq_true rfl⟩ ⟨Nat.zero_le _, Nat.zero_le _⟩ hl.1 (Nat.le_of_ble_eq_true rfl) dX4_nears_58 (fun H locs hG => ?_)
          refine lv_iconst (v := 0) hx hb dX4_nears_61 (by decide) ?_
          refine lv_istore (lv' := [(5, .int 0), (4, .int r_10), (0, .ref (a 0)), (1, .int x1), (2, .int x2), (3, .int x3)]) hx hb dX4_nears_62 hl (by decide) rfl (fun ls hl => ?_)
          refine lv_aload_n hx hb dX4_nears_64 rfl (lv_at hl 2 rfl) ?_
          refine mo_g8 B hK hG.1 dX4_nears_65 ?_
          refine lv_iload_n hx hb dX4_nears_68 rfl (lv_at hl 5 rfl) ?_
          obtain ⟨v_15, e_16, hf⟩ := bo hf
          refine mo_ld8 B hK hG.1 e_16 dX4_nears_69 ?_
          refine lv_istore (lv' := [(6, .int v_15), (5, .int 0), (4, .int r_10), (0, .ref (a 0)), (1, .int x1), (2, .int x2), (3, .int x3)]) hx hb dX4_nears_70 hl (by decide) rfl (fun ls hl => ?_)
          refine lv_iconst (v := 0) hx hb dX4_nears_72 (by decide) ?_
          refine lv_istore (lv' := [(7, .int 0), (6, .int v_15), (5, .int 0), (4, .int r_10), (0, .ref (a 0)), (1, .int x1), (2, .int x2), (3, .int x3)]) hx hb dX4_nears_73 hl (by decide) rfl (fun ls hl => ?_)
          obtain ⟨y_17, e_19, hf⟩ := bo hf
          try dsimp only at hf
          refine vM_nears_L75 B hK e_19 ?_ hG (lv_sub hl [4, 5, 6, 2, 1, 0] rfl)
          intro z0 hz
          cases hz
          intro H locs hG ls hl
          refine lv_iload hx hb dX4_nears_121 (lv_at hl 0 rfl) ?_
          exact kr _ _ (Option.some.inj hf).symm _ _ hG _ _ dX4_nears_123
        · have hf := ifn c_12 hf
          refine lv_aload_n hx hb dX4_nears_46 rfl (lv_at hl 1 rfl) ?_
          refine lv_iload hx hb dX4_nears_47 (lv_at hl 0 rfl) ?_
          obtain ⟨r_20, w_21, e_22, hf⟩ := b2s hf
          refine cM_no B hK hG e_22 ⟨Nat.le_of_ble_eq_true rfl, Nat.le_of_ble_eq_true rfl⟩ ⟨Nat.zero_le _, Nat.zero_le _⟩ hl.1 (Nat.le_of_ble_eq_true rfl) dX4_nears_49 (fun H locs hG => ?_)
          exact kr _ _ (Option.some.inj hf).symm _ _ hG _ _ dX4_nears_52
      · have hf := ifp c_9 hf
        exact wM_nears_J25 B hK hf kr hG (lv_sub hl [0] rfl)

theorem tM_nears (l : Launch) (X : CX) (a : Nat → Nat) (rest : va_W) (w w' : MW) (x1 : Int32) (x2 : Int32) (x3 : Int32) (r : Int32) (hf : fM_nears w x1 x2 x3 = some (r, w')) : RW l yX4_nears cX4_nears 9 (some .int) 4 0 0 93 [.ref (a 0), .int x1, .int x2, .int x3] X (MP X a w ++ rest) (MP X a w' ++ rest) (some (.int r)) := by
  refine RW.mk (by decide) (Nat.le_of_ble_eq_true rfl) ?_
  intro p e s m below meth c B hr hlk hK hG ls hl
  exact wM_nears B hK hf (fun r w h H locs hG pc ls hd => by cases h; exact w_iretW B hr hlk hG hd) hG hl
end S_nears

section S_done
variable {p : Program} {l : Launch} {e : Env} {R : Room} {s : State} {m : MethodId} {args : Array Value} {below : List Frame} {meth : Method} {c : Code} {H : Heap} {locs : List Loc} {cells slots : Nat} {Q : State → Prop} {cc : ByteArray} {nL pc : Nat} {ls : Array Slot} {st : List Value} {X : CX} {a : Nat → Nat} {w : MW} {rest : va_W}
noncomputable def fM_done_J25 (w : MW)  : Option (Int32 × MW) :=
  b2 (fM_no w (-2)) fun r_1 w_2 =>
  some (r_1, w_2)

set_option maxHeartbeats 4000000 in
theorem wM_done_J25 (B : CallFix p m c cX4_done 5 s args lw_all RX4) (hK : KK X s) {w : MW}  {res : Int32 × MW} (hf : fM_done_J25 w  = some res) (kr : ∀ (r : Int32) (w1 : MW), res = (r, w1) → ∀ (H : Heap) (locs : List Loc), GG X (MP X a w1 ++ rest) s.heap H locs → ∀ (pc : Nat) (ls : Array Slot), decode cX4_done pc = .ok (.ireturn, 1) → W p l e (RMw 4 0 0 93) s m args below meth c H locs 0 0 Q (F0 m pc ls [.int r])) {H : Heap} {locs : List Loc} (hG : GG X (MP X a w ++ rest) s.heap H locs) {ls : Array Slot} (hl : lv_has ls 5 [(0, .ref (a 0))]) : W p l e (RMw 4 0 0 93) s m args below meth c H locs 0 0 Q (F0 m 25 ls []) := by
  have hx := B.1
  have hb := B.2.1
  unfold fM_done_J25 at hf
  refine lv_aload_n hx hb dX4_done_25 rfl (lv_at hl 0 rfl) ?_
  refine lv_bipush (v := (-2)) hx hb dX4_done_26 (by decide) ?_
  obtain ⟨r_1, w_2, e_3, hf⟩ := b2s hf
  refine cM_no B hK hG e_3 ⟨Nat.le_of_ble_eq_true rfl, Nat.le_of_ble_eq_true rfl⟩ ⟨Nat.zero_le _, Nat.zero_le _⟩ hl.1 (Nat.le_of_ble_eq_true rfl) dX4_done_28 (fun H locs hG => ?_)
  exact kr _ _ (Option.some.inj hf).symm _ _ hG _ _ dX4_done_31

noncomputable def fM_done_J93 (w : MW) (x3 : Int32) : Option (Int32 × MW) :=
  (rd (w.2.1 8) 4 x3).bind fun v_1 =>
  some (v_1, w)

set_option maxHeartbeats 4000000 in
theorem wM_done_J93 (B : CallFix p m c cX4_done 5 s args lw_all RX4) (hK : KK X s) {w : MW} {x3 : Int32} {res : Int32 × MW} (hf : fM_done_J93 w x3 = some res) (kr : ∀ (r : Int32) (w1 : MW), res = (r, w1) → ∀ (H : Heap) (locs : List Loc), GG X (MP X a w1 ++ rest) s.heap H locs → ∀ (pc : Nat) (ls : Array Slot), decode cX4_done pc = .ok (.ireturn, 1) → W p l e (RMw 4 0 0 93) s m args below meth c H locs 0 0 Q (F0 m pc ls [.int r])) {H : Heap} {locs : List Loc} (hG : GG X (MP X a w ++ rest) s.heap H locs) {ls : Array Slot} (hl : lv_has ls 5 [(0, .ref (a 0)), (3, .int x3)]) : W p l e (RMw 4 0 0 93) s m args below meth c H locs 0 0 Q (F0 m 93 ls []) := by
  have hx := B.1
  have hb := B.2.1
  unfold fM_done_J93 at hf
  refine lv_aload_n hx hb dX4_done_93 rfl (lv_at hl 0 rfl) ?_
  refine mo_g8 B hK hG.1 dX4_done_94 ?_
  refine lv_iload_n hx hb dX4_done_97 rfl (lv_at hl 1 rfl) ?_
  obtain ⟨v_1, e_2, hf⟩ := bo hf
  refine mo_ld8 B hK hG.1 e_2 dX4_done_98 ?_
  exact kr _ _ (Option.some.inj hf).symm _ _ hG _ _ dX4_done_99

noncomputable def fM_done_J72 (w : MW) (x3 : Int32) : Option (Int32 × MW) :=
  (rd (w.2.1 8) 4 x3).bind fun v_1 =>
  if v_1 = (w.1 2) then
    (mst w 9 4 x3 9).bind fun w_4 =>
    fM_done_J93 w_4 x3
  else
    fM_done_J93 w x3

set_option maxHeartbeats 4000000 in
theorem wM_done_J72 (B : CallFix p m c cX4_done 5 s args lw_all RX4) (hK : KK X s) {w : MW} {x3 : Int32} {res : Int32 × MW} (hf : fM_done_J72 w x3 = some res) (kr : ∀ (r : Int32) (w1 : MW), res = (r, w1) → ∀ (H : Heap) (locs : List Loc), GG X (MP X a w1 ++ rest) s.heap H locs → ∀ (pc : Nat) (ls : Array Slot), decode cX4_done pc = .ok (.ireturn, 1) → W p l e (RMw 4 0 0 93) s m args below meth c H locs 0 0 Q (F0 m pc ls [.int r])) {H : Heap} {locs : List Loc} (hG : GG X (MP X a w ++ rest) s.heap H locs) {ls : Array Slot} (hl : lv_has ls 5 [(0, .ref (a 0)), (3, .int x3)]) : W p l e (RMw 4 0 0 93) s m args below meth c H locs 0 0 Q (F0 m 72 ls []) := by
  have hx := B.1
  have hb := B.2.1
  unfold fM_done_J72 at hf
  refine lv_aload_n hx hb dX4_done_72 rfl (lv_at hl 0 rfl) ?_
  refine mo_g8 B hK hG.1 dX4_done_73 ?_
  refine lv_iload_n hx hb dX4_done_76 rfl (lv_at hl 1 rfl) ?_
  obtain ⟨v_1, e_2, hf⟩ := bo hf
  refine mo_ld8 B hK hG.1 e_2 dX4_done_77 ?_
  refine lv_aload_n hx hb dX4_done_78 rfl (lv_at hl 0 rfl) ?_
  refine mo_g2 B hK hG.1 dX4_done_79 ?_
  refine lv_icmp_ne (tgt := 93) hx hb dX4_done_82 (by decide) (fun c_3 => ?_) (fun c_3 => ?_)
  · have hf := ifn c_3 hf
    exact wM_done_J93 B hK hf kr hG hl
  · have hf := ifp c_3 hf
    refine lv_aload_n hx hb dX4_done_85 rfl (lv_at hl 0 rfl) ?_
    refine mo_g9 B hK hG.1 dX4_done_86 ?_
    refine lv_iload_n hx hb dX4_done_89 rfl (lv_at hl 1 rfl) ?_
    refine lv_bipush (v := 9) hx hb dX4_done_90 (by decide) ?_
    obtain ⟨w_4, e_5, hf⟩ := bo hf
    refine mo_st9 B hK hG e_5 dX4_done_92 (fun H locs hG => ?_)
    exact wM_done_J93 B hK hf kr hG hl

noncomputable def fM_done (w : MW) (x1 : Int32) (x2 : Int32) (x3 : Int32) : Option (Int32 × MW) :=
  (fM_isShelf x1).bind fun r_1 =>
  if r_1 = 0 then
    fM_done_J25 w 
  else
    (fM_within x2 0 40).bind fun r_4 =>
    if r_4 = 0 then
      fM_done_J25 w 
    else
      (fM_isWalker w x3).bind fun r_7 =>
      if r_7 = 0 then
        fM_done_J25 w 
      else
        (fM_noWalk w x1 x2 x3).bind fun r_10 =>
        if 0 ≤ r_10 then
          if x2 ≤ 0 then
            fM_done_J72 w x3
          else
            (fM_toldAt w x1 (x2 - 1)).bind fun r_14 =>
            (mst w 8 4 x3 (r_14.toInt32)).bind fun w_16 =>
            fM_done_J72 w_16 x3
        else
          b2 (fM_no w r_10) fun r_18 w_19 =>
          some (r_18, w_19)

set_option maxHeartbeats 4000000 in
theorem wM_done (B : CallFix p m c cX4_done 5 s args lw_all RX4) (hK : KK X s) {w : MW} {x1 : Int32} {x2 : Int32} {x3 : Int32} {res : Int32 × MW} (hf : fM_done w x1 x2 x3 = some res) (kr : ∀ (r : Int32) (w1 : MW), res = (r, w1) → ∀ (H : Heap) (locs : List Loc), GG X (MP X a w1 ++ rest) s.heap H locs → ∀ (pc : Nat) (ls : Array Slot), decode cX4_done pc = .ok (.ireturn, 1) → W p l e (RMw 4 0 0 93) s m args below meth c H locs 0 0 Q (F0 m pc ls [.int r])) {H : Heap} {locs : List Loc} (hG : GG X (MP X a w ++ rest) s.heap H locs) {ls : Array Slot} (hl : lv_has ls 5 [(0, .ref (a 0)), (1, .int x1), (2, .int x2), (3, .int x3)]) : W p l e (RMw 4 0 0 93) s m args below meth c H locs 0 0 Q (F0 m 0 ls []) := by
  have hx := B.1
  have hb := B.2.1
  unfold fM_done at hf
  refine lv_iload_n hx hb dX4_done_0 rfl (lv_at hl 1 rfl) ?_
  obtain ⟨r_1, e_2, hf⟩ := bo hf
  refine cM_isShelf B e_2 ⟨Nat.le_of_ble_eq_true rfl, Nat.le_of_ble_eq_true rfl⟩ ⟨Nat.zero_le _, Nat.zero_le _⟩ hl.1 (Nat.le_of_ble_eq_true rfl) dX4_done_1 ?_
  refine lv_if_eq (tgt := 25) hx hb dX4_done_4 (by decide) (fun c_3 => ?_) (fun c_3 => ?_)
  · have hf := ifp c_3 hf
    exact wM_done_J25 B hK hf kr hG (lv_sub hl [0] rfl)
  · have hf := ifn c_3 hf
    refine lv_iload_n hx hb dX4_done_7 rfl (lv_at hl 2 rfl) ?_
    refine lv_iconst (v := 0) hx hb dX4_done_8 (by decide) ?_
    refine lv_bipush (v := 40) hx hb dX4_done_9 (by decide) ?_
    obtain ⟨r_4, e_5, hf⟩ := bo hf
    refine cM_within B e_5 ⟨Nat.le_of_ble_eq_true rfl, Nat.le_of_ble_eq_true rfl⟩ ⟨Nat.zero_le _, Nat.zero_le _⟩ hl.1 (Nat.le_of_ble_eq_true rfl) dX4_done_11 ?_
    refine lv_if_eq (tgt := 25) hx hb dX4_done_14 (by decide) (fun c_6 => ?_) (fun c_6 => ?_)
    · have hf := ifp c_6 hf
      exact wM_done_J25 B hK hf kr hG (lv_sub hl [0] rfl)
    · have hf := ifn c_6 hf
      refine lv_aload_n hx hb dX4_done_17 rfl (lv_at hl 0 rfl) ?_
      refine lv_iload_n hx hb dX4_done_18 rfl (lv_at hl 3 rfl) ?_
      obtain ⟨r_7, e_8, hf⟩ := bo hf
      refine cM_isWalker B hK hG.2.2 hG.1 e_8 ⟨Nat.le_of_ble_eq_true rfl, Nat.le_of_ble_eq_true rfl⟩ ⟨Nat.zero_le _, Nat.zero_le _⟩ hl.1 (Nat.le_of_ble_eq_true rfl) dX4_done_19 ?_
      refine lv_if_ne (tgt := 32) hx hb dX4_done_22 (by decide) (fun c_9 => ?_) (fun c_9 => ?_)
      · have hf := ifn c_9 hf
        refine lv_aload_n hx hb dX4_done_32 rfl (lv_at hl 0 rfl) ?_
        refine lv_iload_n hx hb dX4_done_33 rfl (lv_at hl 1 rfl) ?_
        refine lv_iload_n hx hb dX4_done_34 rfl (lv_at hl 2 rfl) ?_
        refine lv_iload_n hx hb dX4_done_35 rfl (lv_at hl 3 rfl) ?_
        obtain ⟨r_10, e_11, hf⟩ := bo hf
        refine cM_noWalk B hK hG.2.2 hG.1 e_11 ⟨Nat.le_of_ble_eq_true rfl, Nat.le_of_ble_eq_true rfl⟩ ⟨Nat.zero_le _, Nat.zero_le _⟩ hl.1 (Nat.le_of_ble_eq_true rfl) dX4_done_36 ?_
        refine lv_istore (lv' := [(4, .int r_10), (0, .ref (a 0)), (1, .int x1), (2, .int x2), (3, .int x3)]) hx hb dX4_done_39 hl (by decide) rfl (fun ls hl => ?_)
        refine lv_iload hx hb dX4_done_41 (lv_at hl 0 rfl) ?_
        refine lv_if_ge (tgt := 53) hx hb dX4_done_43 (by decide) (fun c_12 => ?_) (fun c_12 => ?_)
        · have hf := ifp c_12 hf
          refine lv_iload_n hx hb dX4_done_53 rfl (lv_at hl 3 rfl) ?_
          refine lv_if_le (tgt := 72) hx hb dX4_done_54 (by decide) (fun c_13 => ?_) (fun c_13 => ?_)
          · have hf := ifp c_13 hf
            exact wM_done_J72 B hK hf kr hG (lv_sub hl [1, 4] rfl)
          · have hf := ifn c_13 hf
            refine lv_aload_n hx hb dX4_done_57 rfl (lv_at hl 1 rfl) ?_
            refine mo_g8 B hK hG.1 dX4_done_58 ?_
            refine lv_iload_n hx hb dX4_done_61 rfl (lv_at hl 4 rfl) ?_
            refine lv_aload_n hx hb dX4_done_62 rfl (lv_at hl 1 rfl) ?_
            refine lv_iload_n hx hb dX4_done_63 rfl (lv_at hl 2 rfl) ?_
            refine lv_iload_n hx hb dX4_done_64 rfl (lv_at hl 3 rfl) ?_
            refine lv_iconst (v := 1) hx hb dX4_done_65 (by decide) ?_
            refine lv_isub hx hb dX4_done_66 ?_
            obtain ⟨r_14, e_15, hf⟩ := bo hf
            refine cM_toldAt B hK hG.2.2 hG.1 e_15 ⟨Nat.le_of_ble_eq_true rfl, Nat.le_of_ble_eq_true rfl⟩ ⟨Nat.zero_le _, Nat.zero_le _⟩ hl.1 (Nat.le_of_ble_eq_true rfl) dX4_done_67 ?_
            refine lv_l2i hx hb dX4_done_70 rfl ?_
            obtain ⟨w_16, e_17, hf⟩ := bo hf
            refine mo_st8 B hK hG e_17 dX4_done_71 (fun H locs hG => ?_)
            exact wM_done_J72 B hK hf kr hG (lv_sub hl [1, 4] rfl)
        · have hf := ifn c_12 hf
          refine lv_aload_n hx hb dX4_done_46 rfl (lv_at hl 1 rfl) ?_
          refine lv_iload hx hb dX4_done_47 (lv_at hl 0 rfl) ?_
          obtain ⟨r_18, w_19, e_20, hf⟩ := b2s hf
          refine cM_no B hK hG e_20 ⟨Nat.le_of_ble_eq_true rfl, Nat.le_of_ble_eq_true rfl⟩ ⟨Nat.zero_le _, Nat.zero_le _⟩ hl.1 (Nat.le_of_ble_eq_true rfl) dX4_done_49 (fun H locs hG => ?_)
          exact kr _ _ (Option.some.inj hf).symm _ _ hG _ _ dX4_done_52
      · have hf := ifp c_9 hf
        exact wM_done_J25 B hK hf kr hG (lv_sub hl [0] rfl)

theorem tM_done (l : Launch) (X : CX) (a : Nat → Nat) (rest : va_W) (w w' : MW) (x1 : Int32) (x2 : Int32) (x3 : Int32) (r : Int32) (hf : fM_done w x1 x2 x3 = some (r, w')) : RW l yX4_done cX4_done 5 (some .int) 4 0 0 93 [.ref (a 0), .int x1, .int x2, .int x3] X (MP X a w ++ rest) (MP X a w' ++ rest) (some (.int r)) := by
  refine RW.mk (by decide) (Nat.le_of_ble_eq_true rfl) ?_
  intro p e s m below meth c B hr hlk hK hG ls hl
  exact wM_done B hK hf (fun r w h H locs hG pc ls hd => by cases h; exact w_iretW B hr hlk hG hd) hG hl
end S_done

section S_goesBy
variable {p : Program} {l : Launch} {e : Env} {R : Room} {s : State} {m : MethodId} {args : Array Value} {below : List Frame} {meth : Method} {c : Code} {H : Heap} {locs : List Loc} {cells slots : Nat} {Q : State → Prop} {cc : ByteArray} {nL pc : Nat} {ls : Array Slot} {st : List Value} {X : CX} {a : Nat → Nat} {w : MW} {rest : va_W}
noncomputable def fM_goesBy_J77 (w : MW) (x1 : Int32) : Option (Int32 × MW) :=
  (rd (w.2.1 8) 4 x1).bind fun v_1 =>
  some (v_1, w)

set_option maxHeartbeats 4000000 in
theorem wM_goesBy_J77 (B : CallFix p m c cX4_goesBy 4 s args lw_all RX4) (hK : KK X s) {w : MW} {x1 : Int32} {res : Int32 × MW} (hf : fM_goesBy_J77 w x1 = some res) (kr : ∀ (r : Int32) (w1 : MW), res = (r, w1) → ∀ (H : Heap) (locs : List Loc), GG X (MP X a w1 ++ rest) s.heap H locs → ∀ (pc : Nat) (ls : Array Slot), decode cX4_goesBy pc = .ok (.ireturn, 1) → W p l e (RMw 2 0 0 46) s m args below meth c H locs 0 0 Q (F0 m pc ls [.int r])) {H : Heap} {locs : List Loc} (hG : GG X (MP X a w ++ rest) s.heap H locs) {ls : Array Slot} (hl : lv_has ls 4 [(0, .ref (a 0)), (1, .int x1)]) : W p l e (RMw 2 0 0 46) s m args below meth c H locs 0 0 Q (F0 m 77 ls []) := by
  have hx := B.1
  have hb := B.2.1
  unfold fM_goesBy_J77 at hf
  refine lv_aload_n hx hb dX4_goesBy_77 rfl (lv_at hl 0 rfl) ?_
  refine mo_g8 B hK hG.1 dX4_goesBy_78 ?_
  refine lv_iload_n hx hb dX4_goesBy_81 rfl (lv_at hl 1 rfl) ?_
  obtain ⟨v_1, e_2, hf⟩ := bo hf
  refine mo_ld8 B hK hG.1 e_2 dX4_goesBy_82 ?_
  exact kr _ _ (Option.some.inj hf).symm _ _ hG _ _ dX4_goesBy_83

noncomputable def fM_goesBy_J27 (w : MW) (x1 : Int32) (x2 : Int32) (x3 : Int32) : Option (Int32 × MW) :=
  (rd (w.2.1 8) 4 x1).bind fun v_1 =>
  if v_1 = (w.1 2) then
    (mst w 9 4 x1 9).bind fun w_10 =>
    fM_goesBy_J77 w_10 x1
  else
    if x3 = 0 then
      fM_goesBy_J77 w x1
    else
      if x2 ≤ 0 then
        fM_goesBy_J77 w x1
      else
        (rd (w.2.1 9) 4 x1).bind fun v_6 =>
        (mst w 9 4 x1 (imax 0 (v_6 - 1))).bind fun w_8 =>
        fM_goesBy_J77 w_8 x1

set_option maxHeartbeats 4000000 in
theorem wM_goesBy_J27 (B : CallFix p m c cX4_goesBy 4 s args lw_all RX4) (hK : KK X s) {w : MW} {x1 : Int32} {x2 : Int32} {x3 : Int32} {res : Int32 × MW} (hf : fM_goesBy_J27 w x1 x2 x3 = some res) (kr : ∀ (r : Int32) (w1 : MW), res = (r, w1) → ∀ (H : Heap) (locs : List Loc), GG X (MP X a w1 ++ rest) s.heap H locs → ∀ (pc : Nat) (ls : Array Slot), decode cX4_goesBy pc = .ok (.ireturn, 1) → W p l e (RMw 2 0 0 46) s m args below meth c H locs 0 0 Q (F0 m pc ls [.int r])) {H : Heap} {locs : List Loc} (hG : GG X (MP X a w ++ rest) s.heap H locs) {ls : Array Slot} (hl : lv_has ls 4 [(0, .ref (a 0)), (1, .int x1), (2, .int x2), (3, .int x3)]) : W p l e (RMw 2 0 0 46) s m args below meth c H locs 0 0 Q (F0 m 27 ls []) := by
  have hx := B.1
  have hb := B.2.1
  unfold fM_goesBy_J27 at hf
  refine lv_aload_n hx hb dX4_goesBy_27 rfl (lv_at hl 0 rfl) ?_
  refine mo_g8 B hK hG.1 dX4_goesBy_28 ?_
  refine lv_iload_n hx hb dX4_goesBy_31 rfl (lv_at hl 1 rfl) ?_
  obtain ⟨v_1, e_2, hf⟩ := bo hf
  refine mo_ld8 B hK hG.1 e_2 dX4_goesBy_32 ?_
  refine lv_aload_n hx hb dX4_goesBy_33 rfl (lv_at hl 0 rfl) ?_
  refine mo_g2 B hK hG.1 dX4_goesBy_34 ?_
  refine lv_icmp_ne (tgt := 51) hx hb dX4_goesBy_37 (by decide) (fun c_3 => ?_) (fun c_3 => ?_)
  · have hf := ifn c_3 hf
    refine lv_iload_n hx hb dX4_goesBy_51 rfl (lv_at hl 3 rfl) ?_
    refine lv_if_eq (tgt := 77) hx hb dX4_goesBy_52 (by decide) (fun c_4 => ?_) (fun c_4 => ?_)
    · have hf := ifp c_4 hf
      exact wM_goesBy_J77 B hK hf kr hG (lv_sub hl [0, 1] rfl)
    · have hf := ifn c_4 hf
      refine lv_iload_n hx hb dX4_goesBy_55 rfl (lv_at hl 2 rfl) ?_
      refine lv_if_le (tgt := 77) hx hb dX4_goesBy_56 (by decide) (fun c_5 => ?_) (fun c_5 => ?_)
      · have hf := ifp c_5 hf
        exact wM_goesBy_J77 B hK hf kr hG (lv_sub hl [0, 1] rfl)
      · have hf := ifn c_5 hf
        refine lv_aload_n hx hb dX4_goesBy_59 rfl (lv_at hl 0 rfl) ?_
        refine mo_g9 B hK hG.1 dX4_goesBy_60 ?_
        refine lv_iload_n hx hb dX4_goesBy_63 rfl (lv_at hl 1 rfl) ?_
        refine lv_iconst (v := 0) hx hb dX4_goesBy_64 (by decide) ?_
        refine lv_aload_n hx hb dX4_goesBy_65 rfl (lv_at hl 0 rfl) ?_
        refine mo_g9 B hK hG.1 dX4_goesBy_66 ?_
        refine lv_iload_n hx hb dX4_goesBy_69 rfl (lv_at hl 1 rfl) ?_
        obtain ⟨v_6, e_7, hf⟩ := bo hf
        refine mo_ld9 B hK hG.1 e_7 dX4_goesBy_70 ?_
        refine lv_iconst (v := 1) hx hb dX4_goesBy_71 (by decide) ?_
        refine lv_isub hx hb dX4_goesBy_72 ?_
        refine w_max B hl.1 q1774 q813 q104 q814 (Nat.le_of_ble_eq_true rfl) (Nat.le_of_ble_eq_true rfl) (Nat.le_of_ble_eq_true rfl) (Nat.zero_le _) (Nat.zero_le _) dX4_goesBy_73 ?_
        obtain ⟨w_8, e_9, hf⟩ := bo hf
        refine mo_st9 B hK hG e_9 dX4_goesBy_76 (fun H locs hG => ?_)
        exact wM_goesBy_J77 B hK hf kr hG (lv_sub hl [0, 1] rfl)
  · have hf := ifp c_3 hf
    refine lv_aload_n hx hb dX4_goesBy_40 rfl (lv_at hl 0 rfl) ?_
    refine mo_g9 B hK hG.1 dX4_goesBy_41 ?_
    refine lv_iload_n hx hb dX4_goesBy_44 rfl (lv_at hl 1 rfl) ?_
    refine lv_bipush (v := 9) hx hb dX4_goesBy_45 (by decide) ?_
    obtain ⟨w_10, e_11, hf⟩ := bo hf
    refine mo_st9 B hK hG e_11 dX4_goesBy_47 (fun H locs hG => ?_)
    refine lv_goto (tgt := 77) hx hb dX4_goesBy_48 (by decide) ?_
    exact wM_goesBy_J77 B hK hf kr hG (lv_sub hl [0, 1] rfl)

noncomputable def fM_goesBy (w : MW) (x1 : Int32) (x2 : Int32) : Option (Int32 × MW) :=
  (fM_isLost w x1).bind fun r_1 =>
  if x2 ≤ 0 then
    fM_goesBy_J27 w x1 x2 r_1
  else
    (rd (w.2.1 8) 4 x1).bind fun v_4 =>
    (fM_beside w v_4 x2).bind fun r_6 =>
    (mst w 8 4 x1 r_6).bind fun w_8 =>
    fM_goesBy_J27 w_8 x1 x2 r_1

set_option maxHeartbeats 4000000 in
theorem wM_goesBy (B : CallFix p m c cX4_goesBy 4 s args lw_all RX4) (hK : KK X s) {w : MW} {x1 : Int32} {x2 : Int32} {res : Int32 × MW} (hf : fM_goesBy w x1 x2 = some res) (kr : ∀ (r : Int32) (w1 : MW), res = (r, w1) → ∀ (H : Heap) (locs : List Loc), GG X (MP X a w1 ++ rest) s.heap H locs → ∀ (pc : Nat) (ls : Array Slot), decode cX4_goesBy pc = .ok (.ireturn, 1) → W p l e (RMw 2 0 0 46) s m args below meth c H locs 0 0 Q (F0 m pc ls [.int r])) {H : Heap} {locs : List Loc} (hG : GG X (MP X a w ++ rest) s.heap H locs) {ls : Array Slot} (hl : lv_has ls 4 [(0, .ref (a 0)), (1, .int x1), (2, .int x2)]) : W p l e (RMw 2 0 0 46) s m args below meth c H locs 0 0 Q (F0 m 0 ls []) := by
  have hx := B.1
  have hb := B.2.1
  unfold fM_goesBy at hf
  refine lv_aload_n hx hb dX4_goesBy_0 rfl (lv_at hl 0 rfl) ?_
  refine lv_iload_n hx hb dX4_goesBy_1 rfl (lv_at hl 1 rfl) ?_
  obtain ⟨r_1, e_2, hf⟩ := bo hf
  refine cM_isLost B hK hG.2.2 hG.1 e_2 ⟨Nat.le_of_ble_eq_true rfl, Nat.le_of_ble_eq_true rfl⟩ ⟨Nat.zero_le _, Nat.zero_le _⟩ hl.1 (Nat.le_of_ble_eq_true rfl) dX4_goesBy_2 ?_
  refine lv_istore_n (lv' := [(3, .int r_1), (0, .ref (a 0)), (1, .int x1), (2, .int x2)]) hx hb dX4_goesBy_5 rfl hl (by decide) rfl (fun ls hl => ?_)
  refine lv_iload_n hx hb dX4_goesBy_6 rfl (lv_at hl 3 rfl) ?_
  refine lv_if_le (tgt := 27) hx hb dX4_goesBy_7 (by decide) (fun c_3 => ?_) (fun c_3 => ?_)
  · have hf := ifp c_3 hf
    exact wM_goesBy_J27 B hK hf kr hG (lv_sub hl [1, 2, 3, 0] rfl)
  · have hf := ifn c_3 hf
    refine lv_aload_n hx hb dX4_goesBy_10 rfl (lv_at hl 1 rfl) ?_
    refine mo_g8 B hK hG.1 dX4_goesBy_11 ?_
    refine lv_iload_n hx hb dX4_goesBy_14 rfl (lv_at hl 2 rfl) ?_
    refine lv_aload_n hx hb dX4_goesBy_15 rfl (lv_at hl 1 rfl) ?_
    refine lv_aload_n hx hb dX4_goesBy_16 rfl (lv_at hl 1 rfl) ?_
    refine mo_g8 B hK hG.1 dX4_goesBy_17 ?_
    refine lv_iload_n hx hb dX4_goesBy_20 rfl (lv_at hl 2 rfl) ?_
    obtain ⟨v_4, e_5, hf⟩ := bo hf
    refine mo_ld8 B hK hG.1 e_5 dX4_goesBy_21 ?_
    refine lv_iload_n hx hb dX4_goesBy_22 rfl (lv_at hl 3 rfl) ?_
    obtain ⟨r_6, e_7, hf⟩ := bo hf
    refine cM_beside B hK hG.2.2 hG.1 e_7 ⟨Nat.le_of_ble_eq_true rfl, Nat.le_of_ble_eq_true rfl⟩ ⟨Nat.zero_le _, Nat.zero_le _⟩ hl.1 (Nat.le_of_ble_eq_true rfl) dX4_goesBy_23 ?_
    obtain ⟨w_8, e_9, hf⟩ := bo hf
    refine mo_st8 B hK hG e_9 dX4_goesBy_26 (fun H locs hG => ?_)
    exact wM_goesBy_J27 B hK hf kr hG (lv_sub hl [1, 2, 3, 0] rfl)

theorem tM_goesBy (l : Launch) (X : CX) (a : Nat → Nat) (rest : va_W) (w w' : MW) (x1 : Int32) (x2 : Int32) (r : Int32) (hf : fM_goesBy w x1 x2 = some (r, w')) : RW l yX4_goesBy cX4_goesBy 4 (some .int) 2 0 0 46 [.ref (a 0), .int x1, .int x2] X (MP X a w ++ rest) (MP X a w' ++ rest) (some (.int r)) := by
  refine RW.mk (by decide) (Nat.le_of_ble_eq_true rfl) ?_
  intro p e s m below meth c B hr hlk hK hG ls hl
  exact wM_goesBy B hK hf (fun r w h H locs hG pc ls hd => by cases h; exact w_iretW B hr hlk hG hd) hG hl
theorem cM_goesBy (B : CallFix p m c cc nL s args lw_all RX4) (hK : KK X s) (hG : GG X (MP X a w ++ rest) s.heap H locs) {x1 : Int32} {x2 : Int32} {r : Int32} {w' : MW} (hf : fM_goesBy w x1 x2 = some (r, w')) (hR : 2 + 1 ≤ R.frames ∧ 69 ≤ R.locals) (hcs : cells ≤ R.cells ∧ slots ≤ R.slots) (hl : ls.size = nL) (hcat : (st.map fun v => v.category).sum ≤ 8) (hdg : decode cc pc = .ok (.invokevirtual 318, 3)) (kk : ∀ (H1 : Heap) (locs1 : List Loc), GG X (MP X a w' ++ rest) s.heap H1 locs1 → W p l e R s m args below meth c H1 locs1 cells slots Q (F0 m (pc + 3) ls (.int r :: st))) : W p l e R s m args below meth c H locs cells slots Q (F0 m pc ls (.int x2 :: .int x1 :: .ref (a 0) :: st)) :=
  w_afterW (w_rV_RW (As := [.int x1, .int x2]) B hK hG (tM_goesBy l X a rest w w' x1 x2 r hf) (lw_V q1908 q1910 qs82 q91 q1911) 0 rfl rfl (n := 2) (by decide +kernel) hR hcs rfl hl rfl hcat hdg) hG.2.2 kk
end S_goesBy

section S_goes
variable {p : Program} {l : Launch} {e : Env} {R : Room} {s : State} {m : MethodId} {args : Array Value} {below : List Frame} {meth : Method} {c : Code} {H : Heap} {locs : List Loc} {cells slots : Nat} {Q : State → Prop} {cc : ByteArray} {nL pc : Nat} {ls : Array Slot} {st : List Value} {X : CX} {a : Nat → Nat} {w : MW} {rest : va_W}
noncomputable def fM_goes_J17 (w : MW)  : Option (Int32 × MW) :=
  b2 (fM_no w (-2)) fun r_1 w_2 =>
  some (r_1, w_2)

set_option maxHeartbeats 4000000 in
theorem wM_goes_J17 (B : CallFix p m c cX4_goes 3 s args lw_all RX4) (hK : KK X s) {w : MW}  {res : Int32 × MW} (hf : fM_goes_J17 w  = some res) (kr : ∀ (r : Int32) (w1 : MW), res = (r, w1) → ∀ (H : Heap) (locs : List Loc), GG X (MP X a w1 ++ rest) s.heap H locs → ∀ (pc : Nat) (ls : Array Slot), decode cX4_goes pc = .ok (.ireturn, 1) → W p l e (RMw 3 0 0 69) s m args below meth c H locs 0 0 Q (F0 m pc ls [.int r])) {H : Heap} {locs : List Loc} (hG : GG X (MP X a w ++ rest) s.heap H locs) {ls : Array Slot} (hl : lv_has ls 3 [(0, .ref (a 0))]) : W p l e (RMw 3 0 0 69) s m args below meth c H locs 0 0 Q (F0 m 17 ls []) := by
  have hx := B.1
  have hb := B.2.1
  unfold fM_goes_J17 at hf
  refine lv_aload_n hx hb dX4_goes_17 rfl (lv_at hl 0 rfl) ?_
  refine lv_bipush (v := (-2)) hx hb dX4_goes_18 (by decide) ?_
  obtain ⟨r_1, w_2, e_3, hf⟩ := b2s hf
  refine cM_no B hK hG e_3 ⟨Nat.le_of_ble_eq_true rfl, Nat.le_of_ble_eq_true rfl⟩ ⟨Nat.zero_le _, Nat.zero_le _⟩ hl.1 (Nat.le_of_ble_eq_true rfl) dX4_goes_20 (fun H locs hG => ?_)
  exact kr _ _ (Option.some.inj hf).symm _ _ hG _ _ dX4_goes_23

noncomputable def fM_goes (w : MW) (x1 : Int32) (x2 : Int32) : Option (Int32 × MW) :=
  (fM_isWalker w x1).bind fun r_1 =>
  if r_1 = 0 then
    fM_goes_J17 w 
  else
    (fM_within x2 0 4).bind fun r_4 =>
    if r_4 = 0 then
      fM_goes_J17 w 
    else
      (rd (w.2.1 8) 4 x1).bind fun v_7 =>
      (fM_can w v_7 x2).bind fun r_9 =>
      if r_9 = 0 then
        b2 (fM_no w (-5)) fun r_12 w_13 =>
        some (r_12, w_13)
      else
        b2 (fM_goesBy w x1 x2) fun r_15 w_16 =>
        some (r_15, w_16)

set_option maxHeartbeats 4000000 in
theorem wM_goes (B : CallFix p m c cX4_goes 3 s args lw_all RX4) (hK : KK X s) {w : MW} {x1 : Int32} {x2 : Int32} {res : Int32 × MW} (hf : fM_goes w x1 x2 = some res) (kr : ∀ (r : Int32) (w1 : MW), res = (r, w1) → ∀ (H : Heap) (locs : List Loc), GG X (MP X a w1 ++ rest) s.heap H locs → ∀ (pc : Nat) (ls : Array Slot), decode cX4_goes pc = .ok (.ireturn, 1) → W p l e (RMw 3 0 0 69) s m args below meth c H locs 0 0 Q (F0 m pc ls [.int r])) {H : Heap} {locs : List Loc} (hG : GG X (MP X a w ++ rest) s.heap H locs) {ls : Array Slot} (hl : lv_has ls 3 [(0, .ref (a 0)), (1, .int x1), (2, .int x2)]) : W p l e (RMw 3 0 0 69) s m args below meth c H locs 0 0 Q (F0 m 0 ls []) := by
  have hx := B.1
  have hb := B.2.1
  unfold fM_goes at hf
  refine lv_aload_n hx hb dX4_goes_0 rfl (lv_at hl 0 rfl) ?_
  refine lv_iload_n hx hb dX4_goes_1 rfl (lv_at hl 1 rfl) ?_
  obtain ⟨r_1, e_2, hf⟩ := bo hf
  refine cM_isWalker B hK hG.2.2 hG.1 e_2 ⟨Nat.le_of_ble_eq_true rfl, Nat.le_of_ble_eq_true rfl⟩ ⟨Nat.zero_le _, Nat.zero_le _⟩ hl.1 (Nat.le_of_ble_eq_true rfl) dX4_goes_2 ?_
  refine lv_if_eq (tgt := 17) hx hb dX4_goes_5 (by decide) (fun c_3 => ?_) (fun c_3 => ?_)
  · have hf := ifp c_3 hf
    exact wM_goes_J17 B hK hf kr hG (lv_sub hl [0] rfl)
  · have hf := ifn c_3 hf
    refine lv_iload_n hx hb dX4_goes_8 rfl (lv_at hl 2 rfl) ?_
    refine lv_iconst (v := 0) hx hb dX4_goes_9 (by decide) ?_
    refine lv_iconst (v := 4) hx hb dX4_goes_10 (by decide) ?_
    obtain ⟨r_4, e_5, hf⟩ := bo hf
    refine cM_within B e_5 ⟨Nat.le_of_ble_eq_true rfl, Nat.le_of_ble_eq_true rfl⟩ ⟨Nat.zero_le _, Nat.zero_le _⟩ hl.1 (Nat.le_of_ble_eq_true rfl) dX4_goes_11 ?_
    refine lv_if_ne (tgt := 24) hx hb dX4_goes_14 (by decide) (fun c_6 => ?_) (fun c_6 => ?_)
    · have hf := ifn c_6 hf
      refine lv_aload_n hx hb dX4_goes_24 rfl (lv_at hl 0 rfl) ?_
      refine lv_aload_n hx hb dX4_goes_25 rfl (lv_at hl 0 rfl) ?_
      refine mo_g8 B hK hG.1 dX4_goes_26 ?_
      refine lv_iload_n hx hb dX4_goes_29 rfl (lv_at hl 1 rfl) ?_
      obtain ⟨v_7, e_8, hf⟩ := bo hf
      refine mo_ld8 B hK hG.1 e_8 dX4_goes_30 ?_
      refine lv_iload_n hx hb dX4_goes_31 rfl (lv_at hl 2 rfl) ?_
      obtain ⟨r_9, e_10, hf⟩ := bo hf
      refine cM_can B hK hG.2.2 hG.1 e_10 ⟨Nat.le_of_ble_eq_true rfl, Nat.le_of_ble_eq_true rfl⟩ ⟨Nat.zero_le _, Nat.zero_le _⟩ hl.1 (Nat.le_of_ble_eq_true rfl) dX4_goes_32 ?_
      refine lv_if_eq (tgt := 47) hx hb dX4_goes_35 (by decide) (fun c_11 => ?_) (fun c_11 => ?_)
      · have hf := ifp c_11 hf
        refine lv_aload_n hx hb dX4_goes_47 rfl (lv_at hl 0 rfl) ?_
        refine lv_bipush (v := (-5)) hx hb dX4_goes_48 (by decide) ?_
        obtain ⟨r_12, w_13, e_14, hf⟩ := b2s hf
        refine cM_no B hK hG e_14 ⟨Nat.le_of_ble_eq_true rfl, Nat.le_of_ble_eq_true rfl⟩ ⟨Nat.zero_le _, Nat.zero_le _⟩ hl.1 (Nat.le_of_ble_eq_true rfl) dX4_goes_50 (fun H locs hG => ?_)
        exact kr _ _ (Option.some.inj hf).symm _ _ hG _ _ dX4_goes_53
      · have hf := ifn c_11 hf
        refine lv_aload_n hx hb dX4_goes_38 rfl (lv_at hl 0 rfl) ?_
        refine lv_iload_n hx hb dX4_goes_39 rfl (lv_at hl 1 rfl) ?_
        refine lv_iload_n hx hb dX4_goes_40 rfl (lv_at hl 2 rfl) ?_
        obtain ⟨r_15, w_16, e_17, hf⟩ := b2s hf
        refine cM_goesBy B hK hG e_17 ⟨Nat.le_of_ble_eq_true rfl, Nat.le_of_ble_eq_true rfl⟩ ⟨Nat.zero_le _, Nat.zero_le _⟩ hl.1 (Nat.le_of_ble_eq_true rfl) dX4_goes_41 (fun H locs hG => ?_)
        refine lv_goto (tgt := 53) hx hb dX4_goes_44 (by decide) ?_
        exact kr _ _ (Option.some.inj hf).symm _ _ hG _ _ dX4_goes_53
    · have hf := ifp c_6 hf
      exact wM_goes_J17 B hK hf kr hG (lv_sub hl [0] rfl)

theorem tM_goes (l : Launch) (X : CX) (a : Nat → Nat) (rest : va_W) (w w' : MW) (x1 : Int32) (x2 : Int32) (r : Int32) (hf : fM_goes w x1 x2 = some (r, w')) : RW l yX4_goes cX4_goes 3 (some .int) 3 0 0 69 [.ref (a 0), .int x1, .int x2] X (MP X a w ++ rest) (MP X a w' ++ rest) (some (.int r)) := by
  refine RW.mk (by decide) (Nat.le_of_ble_eq_true rfl) ?_
  intro p e s m below meth c B hr hlk hK hG ls hl
  exact wM_goes B hK hf (fun r w h H locs hG pc ls hd => by cases h; exact w_iretW B hr hlk hG hd) hG hl
end S_goes

section S_draw
variable {p : Program} {l : Launch} {e : Env} {R : Room} {s : State} {m : MethodId} {args : Array Value} {below : List Frame} {meth : Method} {c : Code} {H : Heap} {locs : List Loc} {cells slots : Nat} {Q : State → Prop} {cc : ByteArray} {nL pc : Nat} {ls : Array Slot} {st : List Value} {X : CX} {a : Nat → Nat} {w : MW} {rest : va_W}
noncomputable def fM_draw (w : MW) (x1 : Int32) : Option (Int32 × MW) :=
  (some (mpt w 10 (((w.1 10) * 1103515245) + 12345))).bind fun w_1 =>
  (nz x1).bind fun _ =>
  some ((irem (iushr (w_1.1 10) 16) x1), w_1)

set_option maxHeartbeats 4000000 in
theorem wM_draw (B : CallFix p m c cX4_draw 2 s args lw_all RX4) (hK : KK X s) {w : MW} {x1 : Int32} {res : Int32 × MW} (hf : fM_draw w x1 = some res) (kr : ∀ (r : Int32) (w1 : MW), res = (r, w1) → ∀ (H : Heap) (locs : List Loc), GG X (MP X a w1 ++ rest) s.heap H locs → ∀ (pc : Nat) (ls : Array Slot), decode cX4_draw pc = .ok (.ireturn, 1) → W p l e (RMw 0 0 0 0) s m args below meth c H locs 0 0 Q (F0 m pc ls [.int r])) {H : Heap} {locs : List Loc} (hG : GG X (MP X a w ++ rest) s.heap H locs) {ls : Array Slot} (hl : lv_has ls 2 [(0, .ref (a 0)), (1, .int x1)]) : W p l e (RMw 0 0 0 0) s m args below meth c H locs 0 0 Q (F0 m 0 ls []) := by
  have hx := B.1
  have hb := B.2.1
  unfold fM_draw at hf
  refine lv_aload_n hx hb dX4_draw_0 rfl (lv_at hl 0 rfl) ?_
  refine lv_aload_n hx hb dX4_draw_1 rfl (lv_at hl 0 rfl) ?_
  refine mo_g10 B hK hG.1 dX4_draw_2 ?_
  refine lv_ldcw (v := 1103515245) hx hb B.2.2.2.1 (B.2.2.2.2 _ q1924) dX4_draw_5 ?_
  refine lv_imul hx hb dX4_draw_8 ?_
  refine lv_sipush (v := 12345) hx hb dX4_draw_9 (by decide) ?_
  refine lv_iadd hx hb dX4_draw_12 ?_
  obtain ⟨w_1, e_2, hf⟩ := bo hf
  refine mo_p10 B hK hG e_2 dX4_draw_13 (fun H locs hG => ?_)
  refine lv_aload_n hx hb dX4_draw_16 rfl (lv_at hl 0 rfl) ?_
  refine mo_g10 B hK hG.1 dX4_draw_17 ?_
  refine lv_bipush (v := 16) hx hb dX4_draw_20 (by decide) ?_
  refine w_iushr hx hb dX4_draw_22 ?_
  refine lv_iload_n hx hb dX4_draw_23 rfl (lv_at hl 1 rfl) ?_
  obtain ⟨u_4, e_3, hf⟩ := bo hf
  refine w_irem hx hb dX4_draw_24 (nz_in e_3) ?_
  exact kr _ _ (Option.some.inj hf).symm _ _ hG _ _ dX4_draw_25

theorem tM_draw (l : Launch) (X : CX) (a : Nat → Nat) (rest : va_W) (w w' : MW) (x1 : Int32) (r : Int32) (hf : fM_draw w x1 = some (r, w')) : RW l yX4_draw cX4_draw 2 (some .int) 0 0 0 0 [.ref (a 0), .int x1] X (MP X a w ++ rest) (MP X a w' ++ rest) (some (.int r)) := by
  refine RW.mk (by decide) (Nat.le_of_ble_eq_true rfl) ?_
  intro p e s m below meth c B hr hlk hK hG ls hl
  exact wM_draw B hK hf (fun r w h H locs hG pc ls hd => by cases h; exact w_iretW B hr hlk hG hd) hG hl
theorem cM_draw (B : CallFix p m c cc nL s args lw_all RX4) (hK : KK X s) (hG : GG X (MP X a w ++ rest) s.heap H locs) {x1 : Int32} {r : Int32} {w' : MW} (hf : fM_draw w x1 = some (r, w')) (hR : 0 + 1 ≤ R.frames ∧ 21 ≤ R.locals) (hcs : cells ≤ R.cells ∧ slots ≤ R.slots) (hl : ls.size = nL) (hcat : (st.map fun v => v.category).sum ≤ 8) (hdg : decode cc pc = .ok (.invokevirtual 322, 3)) (kk : ∀ (H1 : Heap) (locs1 : List Loc), GG X (MP X a w' ++ rest) s.heap H1 locs1 → W p l e R s m args below meth c H1 locs1 cells slots Q (F0 m (pc + 3) ls (.int r :: st))) : W p l e R s m args below meth c H locs cells slots Q (F0 m pc ls (.int x1 :: .ref (a 0) :: st)) :=
  w_afterW (w_rV_RW (As := [.int x1]) B hK hG (tM_draw l X a rest w w' x1 r hf) (lw_V q1920 q1922 qs84 q91 q1923) 0 rfl rfl (n := 1) (by decide +kernel) hR hcs rfl hl rfl hcat hdg) hG.2.2 kk
end S_draw

section S_day
variable {p : Program} {l : Launch} {e : Env} {R : Room} {s : State} {m : MethodId} {args : Array Value} {below : List Frame} {meth : Method} {c : Code} {H : Heap} {locs : List Loc} {cells slots : Nat} {Q : State → Prop} {cc : ByteArray} {nL pc : Nat} {ls : Array Slot} {st : List Value} {X : CX} {a : Nat → Nat} {w : MW} {rest : va_W}
noncomputable def fM_day_J48_L2 (w : MW) (x1 : Int32) (t1 : Int32) (t2 : Int32) : Option ((Int32 × MW) ⊕ (MW)) :=
  b2 (fM_goesBy w t1 t2) fun r_1 w_2 =>
  (some (x1 + 1)).bind fun x_4 =>
  some (.inl (x_4, w_2))

set_option maxHeartbeats 4000000 in
theorem wM_day_J48_L2 (B : CallFix p m c cX4_day 3 s args lw_all RX4) (hK : KK X s) {w : MW} {x1 : Int32} {t1 : Int32} {t2 : Int32} {res : (Int32 × MW) ⊕ (MW)} (hf : fM_day_J48_L2 w x1 t1 t2 = some res) (kc : ∀ (y1 : Int32) (w1 : MW), res = .inl (y1, w1) → ∀ (H : Heap) (locs : List Loc), GG X (MP X a w1 ++ rest) s.heap H locs → ∀ (ls : Array Slot), lv_has ls 3 [(0, .ref (a 0)), (1, .int y1)] → W p l e (RMw 6 0 0 139) s m args below meth c H locs 0 0 Q (F0 m 2 ls [])) (ke58 : ∀ (w1 : MW), res = .inr w1 → ∀ (H : Heap) (locs : List Loc), GG X (MP X a w1 ++ rest) s.heap H locs → ∀ (ls : Array Slot), lv_has ls 3 [(0, .ref (a 0))] → W p l e (RMw 6 0 0 139) s m args below meth c H locs 0 0 Q (F0 m 58 ls [])) {H : Heap} {locs : List Loc} (hG : GG X (MP X a w ++ rest) s.heap H locs) {ls : Array Slot} (hl : lv_has ls 3 [(0, .ref (a 0)), (1, .int x1)]) : W p l e (RMw 6 0 0 139) s m args below meth c H locs 0 0 Q (F0 m 48 ls [.int t2, .int t1, .ref (a 0)]) := by
  have hx := B.1
  have hb := B.2.1
  unfold fM_day_J48_L2 at hf
  obtain ⟨r_1, w_2, e_3, hf⟩ := b2s hf
  refine cM_goesBy B hK hG e_3 ⟨Nat.le_of_ble_eq_true rfl, Nat.le_of_ble_eq_true rfl⟩ ⟨Nat.zero_le _, Nat.zero_le _⟩ hl.1 (Nat.le_of_ble_eq_true rfl) dX4_day_48 (fun H locs hG => ?_)
  refine lv_pop hx hb dX4_day_51 rfl ?_
  obtain ⟨x_4, e_5, hf⟩ := bo hf
  refine w_iinc (k := 1) (lv' := [(1, .int x_4), (0, .ref (a 0))]) e_5 hx hb dX4_day_52 hl rfl (by decide) rfl (fun ls hl => ?_)
  refine lv_goto (tgt := 2) hx hb dX4_day_55 (by decide) ?_
  exact kc _ _ (Option.some.inj hf).symm _ _ hG _ (lv_sub hl [1, 0] rfl)

noncomputable def fM_day_L2 (w : MW) (x1 : Int32) : Option ((Int32 × MW) ⊕ (MW)) :=
  if (w.1 7) ≤ x1 then
    some (.inr w)
  else
    (fM_isLost w x1).bind fun r_2 =>
    if r_2 = 0 then
      (some (x1 + 1)).bind fun x_13 =>
      some (.inl (x_13, w))
    else
      b2 (fM_draw w 5) fun r_5 w_6 =>
      (rd (w_6.2.1 8) 4 x1).bind fun v_8 =>
      (fM_can w_6 v_8 r_5).bind fun r_10 =>
      if r_10 = 0 then
        fM_day_J48_L2 w_6 x1 x1 0
      else
        fM_day_J48_L2 w_6 x1 x1 r_5

set_option maxHeartbeats 4000000 in
theorem wM_day_L2 (B : CallFix p m c cX4_day 3 s args lw_all RX4) (hK : KK X s) {w : MW} {x1 : Int32} {res : (Int32 × MW) ⊕ (MW)} (hf : fM_day_L2 w x1 = some res) (kc : ∀ (y1 : Int32) (w1 : MW), res = .inl (y1, w1) → ∀ (H : Heap) (locs : List Loc), GG X (MP X a w1 ++ rest) s.heap H locs → ∀ (ls : Array Slot), lv_has ls 3 [(0, .ref (a 0)), (1, .int y1)] → W p l e (RMw 6 0 0 139) s m args below meth c H locs 0 0 Q (F0 m 2 ls [])) (ke58 : ∀ (w1 : MW), res = .inr w1 → ∀ (H : Heap) (locs : List Loc), GG X (MP X a w1 ++ rest) s.heap H locs → ∀ (ls : Array Slot), lv_has ls 3 [(0, .ref (a 0))] → W p l e (RMw 6 0 0 139) s m args below meth c H locs 0 0 Q (F0 m 58 ls [])) {H : Heap} {locs : List Loc} (hG : GG X (MP X a w ++ rest) s.heap H locs) {ls : Array Slot} (hl : lv_has ls 3 [(0, .ref (a 0)), (1, .int x1)]) : W p l e (RMw 6 0 0 139) s m args below meth c H locs 0 0 Q (F0 m 2 ls []) := by
  have hx := B.1
  have hb := B.2.1
  unfold fM_day_L2 at hf
  refine lv_iload_n hx hb dX4_day_2 rfl (lv_at hl 1 rfl) ?_
  refine lv_aload_n hx hb dX4_day_3 rfl (lv_at hl 0 rfl) ?_
  refine mo_g7 B hK hG.1 dX4_day_4 ?_
  refine lv_icmp_ge (tgt := 58) hx hb dX4_day_7 (by decide) (fun c_1 => ?_) (fun c_1 => ?_)
  · have hf := ifp c_1 hf
    exact ke58 _ (Option.some.inj hf).symm _ _ hG _ (lv_sub hl [0] rfl)
  · have hf := ifn c_1 hf
    refine lv_aload_n hx hb dX4_day_10 rfl (lv_at hl 0 rfl) ?_
    refine lv_iload_n hx hb dX4_day_11 rfl (lv_at hl 1 rfl) ?_
    obtain ⟨r_2, e_3, hf⟩ := bo hf
    refine cM_isLost B hK hG.2.2 hG.1 e_3 ⟨Nat.le_of_ble_eq_true rfl, Nat.le_of_ble_eq_true rfl⟩ ⟨Nat.zero_le _, Nat.zero_le _⟩ hl.1 (Nat.le_of_ble_eq_true rfl) dX4_day_12 ?_
    refine lv_if_ne (tgt := 21) hx hb dX4_day_15 (by decide) (fun c_4 => ?_) (fun c_4 => ?_)
    · have hf := ifn c_4 hf
      refine lv_aload_n hx hb dX4_day_21 rfl (lv_at hl 0 rfl) ?_
      refine lv_iconst (v := 5) hx hb dX4_day_22 (by decide) ?_
      obtain ⟨r_5, w_6, e_7, hf⟩ := b2s hf
      refine cM_draw B hK hG e_7 ⟨Nat.le_of_ble_eq_true rfl, Nat.le_of_ble_eq_true rfl⟩ ⟨Nat.zero_le _, Nat.zero_le _⟩ hl.1 (Nat.le_of_ble_eq_true rfl) dX4_day_23 (fun H locs hG => ?_)
      refine lv_istore_n (lv' := [(2, .int r_5), (0, .ref (a 0)), (1, .int x1)]) hx hb dX4_day_26 rfl hl (by decide) rfl (fun ls hl => ?_)
      refine lv_aload_n hx hb dX4_day_27 rfl (lv_at hl 1 rfl) ?_
      refine lv_iload_n hx hb dX4_day_28 rfl (lv_at hl 2 rfl) ?_
      refine lv_aload_n hx hb dX4_day_29 rfl (lv_at hl 1 rfl) ?_
      refine lv_aload_n hx hb dX4_day_30 rfl (lv_at hl 1 rfl) ?_
      refine mo_g8 B hK hG.1 dX4_day_31 ?_
      refine lv_iload_n hx hb dX4_day_34 rfl (lv_at hl 2 rfl) ?_
      obtain ⟨v_8, e_9, hf⟩ := bo hf
      refine mo_ld8 B hK hG.1 e_9 dX4_day_35 ?_
      refine lv_iload_n hx hb dX4_day_36 rfl (lv_at hl 0 rfl) ?_
      obtain ⟨r_10, e_11, hf⟩ := bo hf
      refine cM_can B hK hG.2.2 hG.1 e_11 ⟨Nat.le_of_ble_eq_true rfl, Nat.le_of_ble_eq_true rfl⟩ ⟨Nat.zero_le _, Nat.zero_le _⟩ hl.1 (Nat.le_of_ble_eq_true rfl) dX4_day_37 ?_
      refine lv_if_eq (tgt := 47) hx hb dX4_day_40 (by decide) (fun c_12 => ?_) (fun c_12 => ?_)
      · have hf := ifp c_12 hf
        refine lv_iconst (v := 0) hx hb dX4_day_47 (by decide) ?_
        exact wM_day_J48_L2 B hK hf kc ke58 hG (lv_sub hl [1, 2] rfl)
      · have hf := ifn c_12 hf
        refine lv_iload_n hx hb dX4_day_43 rfl (lv_at hl 0 rfl) ?_
        refine lv_goto (tgt := 48) hx hb dX4_day_44 (by decide) ?_
        exact wM_day_J48_L2 B hK hf kc ke58 hG (lv_sub hl [1, 2] rfl)
    · have hf := ifp c_4 hf
      refine lv_goto (tgt := 52) hx hb dX4_day_18 (by decide) ?_
      obtain ⟨x_13, e_14, hf⟩ := bo hf
      refine w_iinc (k := 1) (lv' := [(1, .int x_13), (0, .ref (a 0))]) e_14 hx hb dX4_day_52 hl rfl (by decide) rfl (fun ls hl => ?_)
      refine lv_goto (tgt := 2) hx hb dX4_day_55 (by decide) ?_
      exact kc _ _ (Option.some.inj hf).symm _ _ hG _ (lv_sub hl [1, 0] rfl)

set_option maxHeartbeats 4000000 in
theorem vM_day_L2 (B : CallFix p m c cX4_day 3 s args lw_all RX4) (hK : KK X s) {w : MW} {x1 : Int32} {res : MW} (hf : lp (fun q : Int32 × MW => fM_day_L2 q.2 q.1) (x1, w) = some res) (ke58 : ∀ (w1 : MW), res = w1 → ∀ (H : Heap) (locs : List Loc), GG X (MP X a w1 ++ rest) s.heap H locs → ∀ (ls : Array Slot), lv_has ls 3 [(0, .ref (a 0))] → W p l e (RMw 6 0 0 139) s m args below meth c H locs 0 0 Q (F0 m 58 ls [])) {H : Heap} {locs : List Loc} (hG : GG X (MP X a w ++ rest) s.heap H locs) {ls : Array Slot} (hl : lv_has ls 3 [(0, .ref (a 0)), (1, .int x1)]) : W p l e (RMw 6 0 0 139) s m args below meth c H locs 0 0 Q (F0 m 2 ls []) := by
  refine lp_ind (r := res) (P := fun q : Int32 × MW => ∀ (H : Heap) (locs : List Loc) (ls : Array Slot), GG X (MP X a q.2 ++ rest) s.heap H locs → lv_has ls 3 [(0, .ref (a 0)), (1, .int q.1)] → W p l e (RMw 6 0 0 139) s m args below meth c H locs 0 0 Q (F0 m 2 ls [])) ?_ ?_ _ hf _ _ _ hG hl
  · intro q hb H locs ls hG hl
    exact wM_day_L2 B hK hb (fun _ _ h => by cases h) (fun z0 h => ke58 z0 (Sum.inr.inj h)) hG hl
  · intro q q2 hb ih H locs ls hG hl
    exact wM_day_L2 B hK hb (fun z0 z1 h => by cases h; exact fun H locs hG ls hl => ih H locs ls hG hl) (fun _ h => by cases h) hG hl

noncomputable def fM_day_L60 (w : MW) (x1 : Int32) : Option ((Int32 × MW) ⊕ (MW)) :=
  if (w.1 7) ≤ x1 then
    some (.inr w)
  else
    (fM_isLost w x1).bind fun r_2 =>
    if r_2 = 0 then
      (rd (w.2.1 8) 4 x1).bind fun v_7 =>
      b2 (fM_commandTo w v_7 (w.1 2)) fun r_9 w_10 =>
      b2 (fM_goesBy w_10 x1 (imax 0 r_9)) fun r_12 w_13 =>
      (some (x1 + 1)).bind fun x_15 =>
      some (.inl (x_15, w_13))
    else
      (some (x1 + 1)).bind fun x_5 =>
      some (.inl (x_5, w))

set_option maxHeartbeats 4000000 in
theorem wM_day_L60 (B : CallFix p m c cX4_day 3 s args lw_all RX4) (hK : KK X s) {w : MW} {x1 : Int32} {res : (Int32 × MW) ⊕ (MW)} (hf : fM_day_L60 w x1 = some res) (kc : ∀ (y1 : Int32) (w1 : MW), res = .inl (y1, w1) → ∀ (H : Heap) (locs : List Loc), GG X (MP X a w1 ++ rest) s.heap H locs → ∀ (ls : Array Slot), lv_has ls 3 [(0, .ref (a 0)), (1, .int y1)] → W p l e (RMw 6 0 0 139) s m args below meth c H locs 0 0 Q (F0 m 60 ls [])) (ke106 : ∀ (w1 : MW), res = .inr w1 → ∀ (H : Heap) (locs : List Loc), GG X (MP X a w1 ++ rest) s.heap H locs → ∀ (ls : Array Slot), lv_has ls 3 [] → W p l e (RMw 6 0 0 139) s m args below meth c H locs 0 0 Q (F0 m 106 ls [])) {H : Heap} {locs : List Loc} (hG : GG X (MP X a w ++ rest) s.heap H locs) {ls : Array Slot} (hl : lv_has ls 3 [(0, .ref (a 0)), (1, .int x1)]) : W p l e (RMw 6 0 0 139) s m args below meth c H locs 0 0 Q (F0 m 60 ls []) := by
  have hx := B.1
  have hb := B.2.1
  unfold fM_day_L60 at hf
  refine lv_iload_n hx hb dX4_day_60 rfl (lv_at hl 1 rfl) ?_
  refine lv_aload_n hx hb dX4_day_61 rfl (lv_at hl 0 rfl) ?_
  refine mo_g7 B hK hG.1 dX4_day_62 ?_
  refine lv_icmp_ge (tgt := 106) hx hb dX4_day_65 (by decide) (fun c_1 => ?_) (fun c_1 => ?_)
  · have hf := ifp c_1 hf
    exact ke106 _ (Option.some.inj hf).symm _ _ hG _ (lv_sub hl [] rfl)
  · have hf := ifn c_1 hf
    refine lv_aload_n hx hb dX4_day_68 rfl (lv_at hl 0 rfl) ?_
    refine lv_iload_n hx hb dX4_day_69 rfl (lv_at hl 1 rfl) ?_
    obtain ⟨r_2, e_3, hf⟩ := bo hf
    refine cM_isLost B hK hG.2.2 hG.1 e_3 ⟨Nat.le_of_ble_eq_true rfl, Nat.le_of_ble_eq_true rfl⟩ ⟨Nat.zero_le _, Nat.zero_le _⟩ hl.1 (Nat.le_of_ble_eq_true rfl) dX4_day_70 ?_
    refine lv_if_ne (tgt := 100) hx hb dX4_day_73 (by decide) (fun c_4 => ?_) (fun c_4 => ?_)
    · have hf := ifn c_4 hf
      obtain ⟨x_5, e_6, hf⟩ := bo hf
      refine w_iinc (k := 1) (lv' := [(1, .int x_5), (0, .ref (a 0))]) e_6 hx hb dX4_day_100 hl rfl (by decide) rfl (fun ls hl => ?_)
      refine lv_goto (tgt := 60) hx hb dX4_day_103 (by decide) ?_
      exact kc _ _ (Option.some.inj hf).symm _ _ hG _ (lv_sub hl [1, 0] rfl)
    · have hf := ifp c_4 hf
      refine lv_aload_n hx hb dX4_day_76 rfl (lv_at hl 0 rfl) ?_
      refine lv_iload_n hx hb dX4_day_77 rfl (lv_at hl 1 rfl) ?_
      refine lv_iconst (v := 0) hx hb dX4_day_78 (by decide) ?_
      refine lv_aload_n hx hb dX4_day_79 rfl (lv_at hl 0 rfl) ?_
      refine lv_aload_n hx hb dX4_day_80 rfl (lv_at hl 0 rfl) ?_
      refine mo_g8 B hK hG.1 dX4_day_81 ?_
      refine lv_iload_n hx hb dX4_day_84 rfl (lv_at hl 1 rfl) ?_
      obtain ⟨v_7, e_8, hf⟩ := bo hf
      refine mo_ld8 B hK hG.1 e_8 dX4_day_85 ?_
      refine lv_aload_n hx hb dX4_day_86 rfl (lv_at hl 0 rfl) ?_
      refine mo_g2 B hK hG.1 dX4_day_87 ?_
      obtain ⟨r_9, w_10, e_11, hf⟩ := b2s hf
      refine cM_commandTo B hK hG e_11 ⟨Nat.le_of_ble_eq_true rfl, Nat.le_of_ble_eq_true rfl⟩ ⟨Nat.zero_le _, Nat.zero_le _⟩ hl.1 (Nat.le_of_ble_eq_true rfl) dX4_day_90 (fun H locs hG => ?_)
      refine w_max B hl.1 q1774 q813 q104 q814 (Nat.le_of_ble_eq_true rfl) (Nat.le_of_ble_eq_true rfl) (Nat.le_of_ble_eq_true rfl) (Nat.zero_le _) (Nat.zero_le _) dX4_day_93 ?_
      obtain ⟨r_12, w_13, e_14, hf⟩ := b2s hf
      refine cM_goesBy B hK hG e_14 ⟨Nat.le_of_ble_eq_true rfl, Nat.le_of_ble_eq_true rfl⟩ ⟨Nat.zero_le _, Nat.zero_le _⟩ hl.1 (Nat.le_of_ble_eq_true rfl) dX4_day_96 (fun H locs hG => ?_)
      refine lv_pop hx hb dX4_day_99 rfl ?_
      obtain ⟨x_15, e_16, hf⟩ := bo hf
      refine w_iinc (k := 1) (lv' := [(1, .int x_15), (0, .ref (a 0))]) e_16 hx hb dX4_day_100 hl rfl (by decide) rfl (fun ls hl => ?_)
      refine lv_goto (tgt := 60) hx hb dX4_day_103 (by decide) ?_
      exact kc _ _ (Option.some.inj hf).symm _ _ hG _ (lv_sub hl [1, 0] rfl)

set_option maxHeartbeats 4000000 in
theorem vM_day_L60 (B : CallFix p m c cX4_day 3 s args lw_all RX4) (hK : KK X s) {w : MW} {x1 : Int32} {res : MW} (hf : lp (fun q : Int32 × MW => fM_day_L60 q.2 q.1) (x1, w) = some res) (ke106 : ∀ (w1 : MW), res = w1 → ∀ (H : Heap) (locs : List Loc), GG X (MP X a w1 ++ rest) s.heap H locs → ∀ (ls : Array Slot), lv_has ls 3 [] → W p l e (RMw 6 0 0 139) s m args below meth c H locs 0 0 Q (F0 m 106 ls [])) {H : Heap} {locs : List Loc} (hG : GG X (MP X a w ++ rest) s.heap H locs) {ls : Array Slot} (hl : lv_has ls 3 [(0, .ref (a 0)), (1, .int x1)]) : W p l e (RMw 6 0 0 139) s m args below meth c H locs 0 0 Q (F0 m 60 ls []) := by
  refine lp_ind (r := res) (P := fun q : Int32 × MW => ∀ (H : Heap) (locs : List Loc) (ls : Array Slot), GG X (MP X a q.2 ++ rest) s.heap H locs → lv_has ls 3 [(0, .ref (a 0)), (1, .int q.1)] → W p l e (RMw 6 0 0 139) s m args below meth c H locs 0 0 Q (F0 m 60 ls [])) ?_ ?_ _ hf _ _ _ hG hl
  · intro q hb H locs ls hG hl
    exact wM_day_L60 B hK hb (fun _ _ h => by cases h) (fun z0 h => ke106 z0 (Sum.inr.inj h)) hG hl
  · intro q q2 hb ih H locs ls hG hl
    exact wM_day_L60 B hK hb (fun z0 z1 h => by cases h; exact fun H locs hG ls hl => ih H locs ls hG hl) (fun _ h => by cases h) hG hl

noncomputable def fM_day (w : MW)  : Option (MW) :=
  (lp (fun q : Int32 × MW => fM_day_L2 q.2 q.1) (0, w)).bind (
    fun q_5 => (fun (w_1 : MW) =>
      (lp (fun q : Int32 × MW => fM_day_L60 q.2 q.1) (0, w_1)).bind (
        fun q_3 => (fun (w_2 : MW) =>
          some w_2
        ) q_3
      )
    ) q_5
  )

set_option maxHeartbeats 4000000 in
theorem wM_day (B : CallFix p m c cX4_day 3 s args lw_all RX4) (hK : KK X s) {w : MW}  {res : MW} (hf : fM_day w  = some res) (kr : ∀ (w1 : MW), res = w1 → ∀ (H : Heap) (locs : List Loc), GG X (MP X a w1 ++ rest) s.heap H locs → ∀ (pc : Nat) (ls : Array Slot), decode cX4_day pc = .ok (.return_, 1) → W p l e (RMw 6 0 0 139) s m args below meth c H locs 0 0 Q (F0 m pc ls [])) {H : Heap} {locs : List Loc} (hG : GG X (MP X a w ++ rest) s.heap H locs) {ls : Array Slot} (hl : lv_has ls 3 [(0, .ref (a 0))]) : W p l e (RMw 6 0 0 139) s m args below meth c H locs 0 0 Q (F0 m 0 ls []) := by
  have hx := B.1
  have hb := B.2.1
  unfold fM_day at hf
  refine lv_iconst (v := 0) hx hb dX4_day_0 (by decide) ?_
  refine lv_istore_n (lv' := [(1, .int 0), (0, .ref (a 0))]) hx hb dX4_day_1 rfl hl (by decide) rfl (fun ls hl => ?_)
  obtain ⟨w_1, e_6, hf⟩ := bo hf
  try dsimp only at hf
  refine vM_day_L2 B hK e_6 ?_ hG (lv_sub hl [1, 0] rfl)
  intro z0 hz
  cases hz
  intro H locs hG ls hl
  refine lv_iconst (v := 0) hx hb dX4_day_58 (by decide) ?_
  refine lv_istore_n (lv' := [(1, .int 0), (0, .ref (a 0))]) hx hb dX4_day_59 rfl hl (by decide) rfl (fun ls hl => ?_)
  obtain ⟨w_2, e_4, hf⟩ := bo hf
  try dsimp only at hf
  refine vM_day_L60 B hK e_4 ?_ hG (lv_sub hl [1, 0] rfl)
  intro z0 hz
  cases hz
  intro H locs hG ls hl
  exact kr _ (Option.some.inj hf).symm _ _ hG _ _ dX4_day_106

theorem tM_day (l : Launch) (X : CX) (a : Nat → Nat) (rest : va_W) (w w' : MW)  (hf : fM_day w  = some w') : RW l yX4_day cX4_day 3 none 6 0 0 139 [.ref (a 0)] X (MP X a w ++ rest) (MP X a w' ++ rest) none := by
  refine RW.mk (by decide) (Nat.le_of_ble_eq_true rfl) ?_
  intro p e s m below meth c B hr hlk hK hG ls hl
  exact wM_day B hK hf (fun w h H locs hG pc ls hd => by cases h; exact w_vretW B hr hlk hG hd) hG hl
theorem cM_day (B : CallFix p m c cc nL s args lw_all RX4) (hK : KK X s) (hG : GG X (MP X a w ++ rest) s.heap H locs)  {w' : MW} (hf : fM_day w  = some w') (hR : 6 + 1 ≤ R.frames ∧ 161 ≤ R.locals) (hcs : cells ≤ R.cells ∧ slots ≤ R.slots) (hl : ls.size = nL) (hcat : (st.map fun v => v.category).sum ≤ 8) (hdg : decode cc pc = .ok (.invokevirtual 325, 3)) (kk : ∀ (H1 : Heap) (locs1 : List Loc), GG X (MP X a w' ++ rest) s.heap H1 locs1 → W p l e R s m args below meth c H1 locs1 cells slots Q (F0 m (pc + 3) ls st)) : W p l e R s m args below meth c H locs cells slots Q (F0 m pc ls (.ref (a 0) :: st)) :=
  w_afterWv (w_rV_RW (As := []) B hK hG (tM_day l X a rest w w'  hf) (lw_V q1916 q1918 qs83 q91 q1919) 0 rfl rfl (n := 0) (by decide +kernel) hR hcs rfl hl rfl hcat hdg) hG.2.2 kk
end S_day

section S_sureOnes
variable {p : Program} {l : Launch} {e : Env} {R : Room} {s : State} {m : MethodId} {args : Array Value} {below : List Frame} {meth : Method} {c : Code} {H : Heap} {locs : List Loc} {cells slots : Nat} {Q : State → Prop} {cc : ByteArray} {nL pc : Nat} {ls : Array Slot} {st : List Value} {X : CX} {a : Nat → Nat} {w : MW} {rest : va_W}
noncomputable def fM_sureOnes_L4 (w : MW) (x1 : Int32) (x2 : Int32) : Option ((Int32 × Int32) ⊕ (Int32)) :=
  if (w.1 7) ≤ x2 then
    some (.inr x1)
  else
    (fM_isLost w x2).bind fun r_2 =>
    if r_2 = 0 then
      (some (x1 + 1)).bind fun x_7 =>
      (some (x2 + 1)).bind fun x_9 =>
      some (.inl (x_7, x_9))
    else
      (some (x2 + 1)).bind fun x_5 =>
      some (.inl (x1, x_5))

set_option maxHeartbeats 4000000 in
theorem wM_sureOnes_L4 (B : CallFix p m c cX4_sureOnes 3 s args lw_all RX4) (hK : KK X s) {w : MW} (hP : va_P X.2.2.1 vwCl (MP X a w ++ rest) s.heap) {x1 : Int32} {x2 : Int32} {res : (Int32 × Int32) ⊕ (Int32)} (hf : fM_sureOnes_L4 w x1 x2 = some res) (kc : ∀ (y1 : Int32) (y2 : Int32), res = .inl (y1, y2) → ∀ (ls : Array Slot), lv_has ls 3 [(0, .ref (a 0)), (1, .int y1), (2, .int y2)] → W p l e (RM 1 21) s m args below meth c s.heap [] 0 0 Q (F0 m 4 ls [])) (ke29 : ∀ (y1 : Int32), res = .inr y1 → ∀ (ls : Array Slot), lv_has ls 3 [(1, .int y1)] → W p l e (RM 1 21) s m args below meth c s.heap [] 0 0 Q (F0 m 29 ls [])) {ls : Array Slot} (hl : lv_has ls 3 [(0, .ref (a 0)), (1, .int x1), (2, .int x2)]) : W p l e (RM 1 21) s m args below meth c s.heap [] 0 0 Q (F0 m 4 ls []) := by
  have hx := B.1
  have hb := B.2.1
  unfold fM_sureOnes_L4 at hf
  refine lv_iload_n hx hb dX4_sureOnes_4 rfl (lv_at hl 2 rfl) ?_
  refine lv_aload_n hx hb dX4_sureOnes_5 rfl (lv_at hl 0 rfl) ?_
  refine mo_g7 B hK hP dX4_sureOnes_6 ?_
  refine lv_icmp_ge (tgt := 29) hx hb dX4_sureOnes_9 (by decide) (fun c_1 => ?_) (fun c_1 => ?_)
  · have hf := ifp c_1 hf
    exact ke29 _ (Option.some.inj hf).symm _ (lv_sub hl [1] rfl)
  · have hf := ifn c_1 hf
    refine lv_aload_n hx hb dX4_sureOnes_12 rfl (lv_at hl 0 rfl) ?_
    refine lv_iload_n hx hb dX4_sureOnes_13 rfl (lv_at hl 2 rfl) ?_
    obtain ⟨r_2, e_3, hf⟩ := bo hf
    refine cM_isLost B hK va_S.rf hP e_3 ⟨Nat.le_of_ble_eq_true rfl, Nat.le_of_ble_eq_true rfl⟩ ⟨Nat.zero_le _, Nat.zero_le _⟩ hl.1 (Nat.le_of_ble_eq_true rfl) dX4_sureOnes_14 ?_
    refine lv_if_ne (tgt := 23) hx hb dX4_sureOnes_17 (by decide) (fun c_4 => ?_) (fun c_4 => ?_)
    · have hf := ifn c_4 hf
      obtain ⟨x_5, e_6, hf⟩ := bo hf
      refine w_iinc (k := 2) (lv' := [(2, .int x_5), (0, .ref (a 0)), (1, .int x1)]) e_6 hx hb dX4_sureOnes_23 hl rfl (by decide) rfl (fun ls hl => ?_)
      refine lv_goto (tgt := 4) hx hb dX4_sureOnes_26 (by decide) ?_
      exact kc _ _ (Option.some.inj hf).symm _ (lv_sub hl [1, 2, 0] rfl)
    · have hf := ifp c_4 hf
      obtain ⟨x_7, e_8, hf⟩ := bo hf
      refine w_iinc (k := 1) (lv' := [(1, .int x_7), (0, .ref (a 0)), (2, .int x2)]) e_8 hx hb dX4_sureOnes_20 hl rfl (by decide) rfl (fun ls hl => ?_)
      obtain ⟨x_9, e_10, hf⟩ := bo hf
      refine w_iinc (k := 2) (lv' := [(2, .int x_9), (1, .int x_7), (0, .ref (a 0))]) e_10 hx hb dX4_sureOnes_23 hl rfl (by decide) rfl (fun ls hl => ?_)
      refine lv_goto (tgt := 4) hx hb dX4_sureOnes_26 (by decide) ?_
      exact kc _ _ (Option.some.inj hf).symm _ (lv_sub hl [2, 1, 0] rfl)

set_option maxHeartbeats 4000000 in
theorem vM_sureOnes_L4 (B : CallFix p m c cX4_sureOnes 3 s args lw_all RX4) (hK : KK X s) {w : MW} (hP : va_P X.2.2.1 vwCl (MP X a w ++ rest) s.heap) {x1 : Int32} {x2 : Int32} {res : Int32} (hf : lp (fun q : Int32 × Int32 => fM_sureOnes_L4 w q.1 q.2) (x1, x2) = some res) (ke29 : ∀ (y1 : Int32), res = y1 → ∀ (ls : Array Slot), lv_has ls 3 [(1, .int y1)] → W p l e (RM 1 21) s m args below meth c s.heap [] 0 0 Q (F0 m 29 ls [])) {ls : Array Slot} (hl : lv_has ls 3 [(0, .ref (a 0)), (1, .int x1), (2, .int x2)]) : W p l e (RM 1 21) s m args below meth c s.heap [] 0 0 Q (F0 m 4 ls []) := by
  refine lp_ind (r := res) (P := fun q : Int32 × Int32 => ∀ (ls : Array Slot), lv_has ls 3 [(0, .ref (a 0)), (1, .int q.1), (2, .int q.2)] → W p l e (RM 1 21) s m args below meth c s.heap [] 0 0 Q (F0 m 4 ls [])) ?_ ?_ _ hf _ hl
  · intro q hb ls hl
    exact wM_sureOnes_L4 B hK hP hb (fun _ _ h => by cases h) (fun z0 h => ke29 z0 (Sum.inr.inj h)) hl
  · intro q q2 hb ih ls hl
    exact wM_sureOnes_L4 B hK hP hb (fun z0 z1 h => by cases h; exact fun ls hl => ih ls hl) (fun _ h => by cases h) hl

noncomputable def fM_sureOnes (w : MW)  : Option (Int32) :=
  (lp (fun q : Int32 × Int32 => fM_sureOnes_L4 w q.1 q.2) (0, 0)).bind (
    fun q_2 => (fun (y_1 : Int32) =>
      some y_1
    ) q_2
  )

set_option maxHeartbeats 4000000 in
theorem wM_sureOnes (B : CallFix p m c cX4_sureOnes 3 s args lw_all RX4) (hK : KK X s) {w : MW} (hP : va_P X.2.2.1 vwCl (MP X a w ++ rest) s.heap)  {res : Int32} (hf : fM_sureOnes w  = some res) (kr : ∀ (r : Int32), res = r → ∀ (pc : Nat) (ls : Array Slot), decode cX4_sureOnes pc = .ok (.ireturn, 1) → W p l e (RM 1 21) s m args below meth c s.heap [] 0 0 Q (F0 m pc ls [.int r])) {ls : Array Slot} (hl : lv_has ls 3 [(0, .ref (a 0))]) : W p l e (RM 1 21) s m args below meth c s.heap [] 0 0 Q (F0 m 0 ls []) := by
  have hx := B.1
  have hb := B.2.1
  unfold fM_sureOnes at hf
  refine lv_iconst (v := 0) hx hb dX4_sureOnes_0 (by decide) ?_
  refine lv_istore_n (lv' := [(1, .int 0), (0, .ref (a 0))]) hx hb dX4_sureOnes_1 rfl hl (by decide) rfl (fun ls hl => ?_)
  refine lv_iconst (v := 0) hx hb dX4_sureOnes_2 (by decide) ?_
  refine lv_istore_n (lv' := [(2, .int 0), (1, .int 0), (0, .ref (a 0))]) hx hb dX4_sureOnes_3 rfl hl (by decide) rfl (fun ls hl => ?_)
  obtain ⟨y_1, e_3, hf⟩ := bo hf
  try dsimp only at hf
  refine vM_sureOnes_L4 B hK hP e_3 ?_ (lv_sub hl [2, 1, 0] rfl)
  intro z0 hz
  cases hz
  intro ls hl
  refine lv_iload_n hx hb dX4_sureOnes_29 rfl (lv_at hl 0 rfl) ?_
  exact kr _ (Option.some.inj hf).symm _ _ dX4_sureOnes_30

theorem tM_sureOnes (l : Launch) (X : CX) (a : Nat → Nat) (rest : va_W) (w : MW)  (r : Int32) (hf : fM_sureOnes w  = some r) : RO l yX4_sureOnes cX4_sureOnes 3 (some .int) 1 21 [.ref (a 0)] X (MP X a w ++ rest) (some (.int r)) := by
  refine RO.mk (by decide) (Nat.le_of_ble_eq_true rfl) ?_
  intro p e s m below meth c B hr hlk hK hP ls hl
  exact wM_sureOnes B hK hP hf (fun r h pc ls hd => by cases h; exact w_iretR B hr hlk rfl hd) hl
theorem cM_sureOnes (B : CallFix p m c cc nL s args lw_all RX4) (hK : KK X s) (hS : va_S (Az X) s.heap H locs) (hP : va_P X.2.2.1 vwCl (MP X a w ++ rest) H)  {r : Int32} (hf : fM_sureOnes w  = some r) (hR : 1 + 1 ≤ R.frames ∧ 43 ≤ R.locals) (hcs : cells ≤ R.cells ∧ slots ≤ R.slots) (hl : ls.size = nL) (hcat : (st.map fun v => v.category).sum ≤ 8) (hdg : decode cc pc = .ok (.invokevirtual 328, 3)) (kk : W p l e R s m args below meth c H locs cells slots Q (F0 m (pc + 3) ls (.int r :: st))) : W p l e R s m args below meth c H locs cells slots Q (F0 m pc ls (.ref (a 0) :: st)) :=
  w_afterR (w_rV_RO (As := []) B hK hS hP (tM_sureOnes l X a rest w  r hf) (lw_V q1925 q1927 qs85 q91 q1928) 0 rfl rfl (n := 0) (by decide +kernel) hR hcs rfl hl rfl hcat hdg) kk
end S_sureOnes

section S_days
variable {p : Program} {l : Launch} {e : Env} {R : Room} {s : State} {m : MethodId} {args : Array Value} {below : List Frame} {meth : Method} {c : Code} {H : Heap} {locs : List Loc} {cells slots : Nat} {Q : State → Prop} {cc : ByteArray} {nL pc : Nat} {ls : Array Slot} {st : List Value} {X : CX} {a : Nat → Nat} {w : MW} {rest : va_W}
noncomputable def fM_days_L19 (w : MW) (x1 : Int32) (x2 : Int32) : Option ((Int32 × MW) ⊕ (MW)) :=
  if x1 ≤ x2 then
    some (.inr w)
  else
    (fM_day w ).bind fun w_2 =>
    (some (x2 + 1)).bind fun x_4 =>
    some (.inl (x_4, w_2))

set_option maxHeartbeats 4000000 in
theorem wM_days_L19 (B : CallFix p m c cX4_days 3 s args lw_all RX4) (hK : KK X s) {w : MW} {x1 : Int32} {x2 : Int32} {res : (Int32 × MW) ⊕ (MW)} (hf : fM_days_L19 w x1 x2 = some res) (kc : ∀ (y2 : Int32) (w1 : MW), res = .inl (y2, w1) → ∀ (H : Heap) (locs : List Loc), GG X (MP X a w1 ++ rest) s.heap H locs → ∀ (ls : Array Slot), lv_has ls 3 [(0, .ref (a 0)), (1, .int x1), (2, .int y2)] → W p l e (RMw 7 0 0 161) s m args below meth c H locs 0 0 Q (F0 m 19 ls [])) (ke34 : ∀ (w1 : MW), res = .inr w1 → ∀ (H : Heap) (locs : List Loc), GG X (MP X a w1 ++ rest) s.heap H locs → ∀ (ls : Array Slot), lv_has ls 3 [(0, .ref (a 0))] → W p l e (RMw 7 0 0 161) s m args below meth c H locs 0 0 Q (F0 m 34 ls [])) {H : Heap} {locs : List Loc} (hG : GG X (MP X a w ++ rest) s.heap H locs) {ls : Array Slot} (hl : lv_has ls 3 [(0, .ref (a 0)), (1, .int x1), (2, .int x2)]) : W p l e (RMw 7 0 0 161) s m args below meth c H locs 0 0 Q (F0 m 19 ls []) := by
  have hx := B.1
  have hb := B.2.1
  unfold fM_days_L19 at hf
  refine lv_iload_n hx hb dX4_days_19 rfl (lv_at hl 2 rfl) ?_
  refine lv_iload_n hx hb dX4_days_20 rfl (lv_at hl 1 rfl) ?_
  refine lv_icmp_ge (tgt := 34) hx hb dX4_days_21 (by decide) (fun c_1 => ?_) (fun c_1 => ?_)
  · have hf := ifp c_1 hf
    exact ke34 _ (Option.some.inj hf).symm _ _ hG _ (lv_sub hl [0] rfl)
  · have hf := ifn c_1 hf
    refine lv_aload_n hx hb dX4_days_24 rfl (lv_at hl 0 rfl) ?_
    obtain ⟨w_2, e_3, hf⟩ := bo hf
    refine cM_day B hK hG e_3 ⟨Nat.le_of_ble_eq_true rfl, Nat.le_of_ble_eq_true rfl⟩ ⟨Nat.zero_le _, Nat.zero_le _⟩ hl.1 (Nat.le_of_ble_eq_true rfl) dX4_days_25 (fun H locs hG => ?_)
    obtain ⟨x_4, e_5, hf⟩ := bo hf
    refine w_iinc (k := 2) (lv' := [(2, .int x_4), (0, .ref (a 0)), (1, .int x1)]) e_5 hx hb dX4_days_28 hl rfl (by decide) rfl (fun ls hl => ?_)
    refine lv_goto (tgt := 19) hx hb dX4_days_31 (by decide) ?_
    exact kc _ _ (Option.some.inj hf).symm _ _ hG _ (lv_sub hl [1, 2, 0] rfl)

set_option maxHeartbeats 4000000 in
theorem vM_days_L19 (B : CallFix p m c cX4_days 3 s args lw_all RX4) (hK : KK X s) {w : MW} {x1 : Int32} {x2 : Int32} {res : MW} (hf : lp (fun q : Int32 × MW => fM_days_L19 q.2 x1 q.1) (x2, w) = some res) (ke34 : ∀ (w1 : MW), res = w1 → ∀ (H : Heap) (locs : List Loc), GG X (MP X a w1 ++ rest) s.heap H locs → ∀ (ls : Array Slot), lv_has ls 3 [(0, .ref (a 0))] → W p l e (RMw 7 0 0 161) s m args below meth c H locs 0 0 Q (F0 m 34 ls [])) {H : Heap} {locs : List Loc} (hG : GG X (MP X a w ++ rest) s.heap H locs) {ls : Array Slot} (hl : lv_has ls 3 [(0, .ref (a 0)), (1, .int x1), (2, .int x2)]) : W p l e (RMw 7 0 0 161) s m args below meth c H locs 0 0 Q (F0 m 19 ls []) := by
  refine lp_ind (r := res) (P := fun q : Int32 × MW => ∀ (H : Heap) (locs : List Loc) (ls : Array Slot), GG X (MP X a q.2 ++ rest) s.heap H locs → lv_has ls 3 [(0, .ref (a 0)), (1, .int x1), (2, .int q.1)] → W p l e (RMw 7 0 0 161) s m args below meth c H locs 0 0 Q (F0 m 19 ls [])) ?_ ?_ _ hf _ _ _ hG hl
  · intro q hb H locs ls hG hl
    exact wM_days_L19 B hK hb (fun _ _ h => by cases h) (fun z0 h => ke34 z0 (Sum.inr.inj h)) hG hl
  · intro q q2 hb ih H locs ls hG hl
    exact wM_days_L19 B hK hb (fun z0 z1 h => by cases h; exact fun H locs hG ls hl => ih H locs ls hG hl) (fun _ h => by cases h) hG hl

noncomputable def fM_days (w : MW) (x1 : Int32) : Option (Int32 × MW) :=
  (fM_within x1 1 60).bind fun r_1 =>
  if r_1 = 0 then
    b2 (fM_no w (-2)) fun r_9 w_10 =>
    some (r_9, w_10)
  else
    (lp (fun q : Int32 × MW => fM_days_L19 q.2 x1 q.1) (0, w)).bind (
      fun q_7 => (fun (w_4 : MW) =>
        (fM_sureOnes w_4 ).bind fun r_5 =>
        some (r_5, w_4)
      ) q_7
    )

set_option maxHeartbeats 4000000 in
theorem wM_days (B : CallFix p m c cX4_days 3 s args lw_all RX4) (hK : KK X s) {w : MW} {x1 : Int32} {res : Int32 × MW} (hf : fM_days w x1 = some res) (kr : ∀ (r : Int32) (w1 : MW), res = (r, w1) → ∀ (H : Heap) (locs : List Loc), GG X (MP X a w1 ++ rest) s.heap H locs → ∀ (pc : Nat) (ls : Array Slot), decode cX4_days pc = .ok (.ireturn, 1) → W p l e (RMw 7 0 0 161) s m args below meth c H locs 0 0 Q (F0 m pc ls [.int r])) {H : Heap} {locs : List Loc} (hG : GG X (MP X a w ++ rest) s.heap H locs) {ls : Array Slot} (hl : lv_has ls 3 [(0, .ref (a 0)), (1, .int x1)]) : W p l e (RMw 7 0 0 161) s m args below meth c H locs 0 0 Q (F0 m 0 ls []) := by
  have hx := B.1
  have hb := B.2.1
  unfold fM_days at hf
  refine lv_iload_n hx hb dX4_days_0 rfl (lv_at hl 1 rfl) ?_
  refine lv_iconst (v := 1) hx hb dX4_days_1 (by decide) ?_
  refine lv_bipush (v := 60) hx hb dX4_days_2 (by decide) ?_
  obtain ⟨r_1, e_2, hf⟩ := bo hf
  refine cM_within B e_2 ⟨Nat.le_of_ble_eq_true rfl, Nat.le_of_ble_eq_true rfl⟩ ⟨Nat.zero_le _, Nat.zero_le _⟩ hl.1 (Nat.le_of_ble_eq_true rfl) dX4_days_4 ?_
  refine lv_if_ne (tgt := 17) hx hb dX4_days_7 (by decide) (fun c_3 => ?_) (fun c_3 => ?_)
  · have hf := ifn c_3 hf
    refine lv_iconst (v := 0) hx hb dX4_days_17 (by decide) ?_
    refine lv_istore_n (lv' := [(2, .int 0), (0, .ref (a 0)), (1, .int x1)]) hx hb dX4_days_18 rfl hl (by decide) rfl (fun ls hl => ?_)
    obtain ⟨w_4, e_8, hf⟩ := bo hf
    try dsimp only at hf
    refine vM_days_L19 B hK e_8 ?_ hG (lv_sub hl [1, 2, 0] rfl)
    intro z0 hz
    cases hz
    intro H locs hG ls hl
    refine lv_aload_n hx hb dX4_days_34 rfl (lv_at hl 0 rfl) ?_
    obtain ⟨r_5, e_6, hf⟩ := bo hf
    refine cM_sureOnes B hK hG.2.2 hG.1 e_6 ⟨Nat.le_of_ble_eq_true rfl, Nat.le_of_ble_eq_true rfl⟩ ⟨Nat.zero_le _, Nat.zero_le _⟩ hl.1 (Nat.le_of_ble_eq_true rfl) dX4_days_35 ?_
    exact kr _ _ (Option.some.inj hf).symm _ _ hG _ _ dX4_days_38
  · have hf := ifp c_3 hf
    refine lv_aload_n hx hb dX4_days_10 rfl (lv_at hl 0 rfl) ?_
    refine lv_bipush (v := (-2)) hx hb dX4_days_11 (by decide) ?_
    obtain ⟨r_9, w_10, e_11, hf⟩ := b2s hf
    refine cM_no B hK hG e_11 ⟨Nat.le_of_ble_eq_true rfl, Nat.le_of_ble_eq_true rfl⟩ ⟨Nat.zero_le _, Nat.zero_le _⟩ hl.1 (Nat.le_of_ble_eq_true rfl) dX4_days_13 (fun H locs hG => ?_)
    exact kr _ _ (Option.some.inj hf).symm _ _ hG _ _ dX4_days_16

theorem tM_days (l : Launch) (X : CX) (a : Nat → Nat) (rest : va_W) (w w' : MW) (x1 : Int32) (r : Int32) (hf : fM_days w x1 = some (r, w')) : RW l yX4_days cX4_days 3 (some .int) 7 0 0 161 [.ref (a 0), .int x1] X (MP X a w ++ rest) (MP X a w' ++ rest) (some (.int r)) := by
  refine RW.mk (by decide) (Nat.le_of_ble_eq_true rfl) ?_
  intro p e s m below meth c B hr hlk hK hG ls hl
  exact wM_days B hK hf (fun r w h H locs hG pc ls hd => by cases h; exact w_iretW B hr hlk hG hd) hG hl
end S_days

section S_seed
variable {p : Program} {l : Launch} {e : Env} {R : Room} {s : State} {m : MethodId} {args : Array Value} {below : List Frame} {meth : Method} {c : Code} {H : Heap} {locs : List Loc} {cells slots : Nat} {Q : State → Prop} {cc : ByteArray} {nL pc : Nat} {ls : Array Slot} {st : List Value} {X : CX} {a : Nat → Nat} {w : MW} {rest : va_W}
noncomputable def fM_seed (w : MW) (x1 : Int32) : Option (Int32 × MW) :=
  (some (w.1 10)).bind fun x_1 =>
  (some (mpt w 10 x1)).bind fun w_3 =>
  some (x_1, w_3)

set_option maxHeartbeats 4000000 in
theorem wM_seed (B : CallFix p m c cX4_seed 3 s args lw_all RX4) (hK : KK X s) {w : MW} {x1 : Int32} {res : Int32 × MW} (hf : fM_seed w x1 = some res) (kr : ∀ (r : Int32) (w1 : MW), res = (r, w1) → ∀ (H : Heap) (locs : List Loc), GG X (MP X a w1 ++ rest) s.heap H locs → ∀ (pc : Nat) (ls : Array Slot), decode cX4_seed pc = .ok (.ireturn, 1) → W p l e (RMw 0 0 0 0) s m args below meth c H locs 0 0 Q (F0 m pc ls [.int r])) {H : Heap} {locs : List Loc} (hG : GG X (MP X a w ++ rest) s.heap H locs) {ls : Array Slot} (hl : lv_has ls 3 [(0, .ref (a 0)), (1, .int x1)]) : W p l e (RMw 0 0 0 0) s m args below meth c H locs 0 0 Q (F0 m 0 ls []) := by
  have hx := B.1
  have hb := B.2.1
  unfold fM_seed at hf
  refine lv_aload_n hx hb dX4_seed_0 rfl (lv_at hl 0 rfl) ?_
  refine mo_g10 B hK hG.1 dX4_seed_1 ?_
  obtain ⟨x_1, e_2, hf⟩ := bo hf
  refine w_istore_n (lv' := [(2, .int x_1), (0, .ref (a 0)), (1, .int x1)]) e_2 hx hb dX4_seed_4 rfl hl (by decide) rfl (fun ls hl => ?_)
  refine lv_aload_n hx hb dX4_seed_5 rfl (lv_at hl 1 rfl) ?_
  refine lv_iload_n hx hb dX4_seed_6 rfl (lv_at hl 2 rfl) ?_
  obtain ⟨w_3, e_4, hf⟩ := bo hf
  refine mo_p10 B hK hG e_4 dX4_seed_7 (fun H locs hG => ?_)
  refine lv_iload_n hx hb dX4_seed_10 rfl (lv_at hl 0 rfl) ?_
  exact kr _ _ (Option.some.inj hf).symm _ _ hG _ _ dX4_seed_11

theorem tM_seed (l : Launch) (X : CX) (a : Nat → Nat) (rest : va_W) (w w' : MW) (x1 : Int32) (r : Int32) (hf : fM_seed w x1 = some (r, w')) : RW l yX4_seed cX4_seed 3 (some .int) 0 0 0 0 [.ref (a 0), .int x1] X (MP X a w ++ rest) (MP X a w' ++ rest) (some (.int r)) := by
  refine RW.mk (by decide) (Nat.le_of_ble_eq_true rfl) ?_
  intro p e s m below meth c B hr hlk hK hG ls hl
  exact wM_seed B hK hf (fun r w h H locs hG pc ls hd => by cases h; exact w_iretW B hr hlk hG hd) hG hl
end S_seed

section S_keep_22
variable {p : Program} {l : Launch} {e : Env} {R : Room} {s : State} {m : MethodId} {args : Array Value} {below : List Frame} {meth : Method} {c : Code} {H : Heap} {locs : List Loc} {cells slots : Nat} {Q : State → Prop} {cc : ByteArray} {nL pc : Nat} {ls : Array Slot} {st : List Value} {X : CX} {a : Nat → Nat} {w : MW} {rest : va_W}
noncomputable def fM_keep_22_J24_L2 (w : MW) (x2 : Int32) (t1 : Int32) (t2 : Int32) : Option ((Int32 × MW) ⊕ (MW)) :=
  (mst w 22 104 t1 t2).bind fun w_1 =>
  (some (x2 + 1)).bind fun x_3 =>
  some (.inl (x_3, w_1))

set_option maxHeartbeats 4000000 in
theorem wM_keep_22_J24_L2 (B : CallFix p m c cX4_keep 3 s args lw_all RX4) (hK : KK X s) {w : MW} {x2 : Int32} {t1 : Int32} {t2 : Int32} {res : (Int32 × MW) ⊕ (MW)} (hf : fM_keep_22_J24_L2 w x2 t1 t2 = some res) (kc : ∀ (y2 : Int32) (w1 : MW), res = .inl (y2, w1) → ∀ (H : Heap) (locs : List Loc), GG X (MP X a w1 ++ rest) s.heap H locs → ∀ (ls : Array Slot), lv_has ls 3 [(0, .ref (a 0)), (1, .ref (a 22)), (2, .int y2)] → W p l e (RMw 0 0 0 0) s m args below meth c H locs 0 0 Q (F0 m 2 ls [])) (ke31 : ∀ (w1 : MW), res = .inr w1 → ∀ (H : Heap) (locs : List Loc), GG X (MP X a w1 ++ rest) s.heap H locs → ∀ (ls : Array Slot), lv_has ls 3 [(0, .ref (a 0)), (1, .ref (a 22))] → W p l e (RMw 0 0 0 0) s m args below meth c H locs 0 0 Q (F0 m 31 ls [])) {H : Heap} {locs : List Loc} (hG : GG X (MP X a w ++ rest) s.heap H locs) {ls : Array Slot} (hl : lv_has ls 3 [(0, .ref (a 0)), (1, .ref (a 22)), (2, .int x2)]) : W p l e (RMw 0 0 0 0) s m args below meth c H locs 0 0 Q (F0 m 24 ls [.int t2, .int t1, .ref (a 22)]) := by
  have hx := B.1
  have hb := B.2.1
  unfold fM_keep_22_J24_L2 at hf
  obtain ⟨w_1, e_2, hf⟩ := bo hf
  refine mo_st22 B hK hG e_2 dX4_keep_24 (fun H locs hG => ?_)
  obtain ⟨x_3, e_4, hf⟩ := bo hf
  refine w_iinc (k := 2) (lv' := [(2, .int x_3), (0, .ref (a 0)), (1, .ref (a 22))]) e_4 hx hb dX4_keep_25 hl rfl (by decide) rfl (fun ls hl => ?_)
  refine lv_goto (tgt := 2) hx hb dX4_keep_28 (by decide) ?_
  exact kc _ _ (Option.some.inj hf).symm _ _ hG _ (lv_sub hl [1, 2, 0] rfl)

noncomputable def fM_keep_22_L2 (w : MW) (x2 : Int32) : Option ((Int32 × MW) ⊕ (MW)) :=
  if 67 ≤ x2 then
    some (.inr w)
  else
    (rd (w.2.1 1) 67 x2).bind fun v_2 =>
    if v_2 = 0 then
      fM_keep_22_J24_L2 w x2 x2 0
    else
      fM_keep_22_J24_L2 w x2 x2 1

set_option maxHeartbeats 4000000 in
theorem wM_keep_22_L2 (B : CallFix p m c cX4_keep 3 s args lw_all RX4) (hK : KK X s) {w : MW} {x2 : Int32} {res : (Int32 × MW) ⊕ (MW)} (hf : fM_keep_22_L2 w x2 = some res) (kc : ∀ (y2 : Int32) (w1 : MW), res = .inl (y2, w1) → ∀ (H : Heap) (locs : List Loc), GG X (MP X a w1 ++ rest) s.heap H locs → ∀ (ls : Array Slot), lv_has ls 3 [(0, .ref (a 0)), (1, .ref (a 22)), (2, .int y2)] → W p l e (RMw 0 0 0 0) s m args below meth c H locs 0 0 Q (F0 m 2 ls [])) (ke31 : ∀ (w1 : MW), res = .inr w1 → ∀ (H : Heap) (locs : List Loc), GG X (MP X a w1 ++ rest) s.heap H locs → ∀ (ls : Array Slot), lv_has ls 3 [(0, .ref (a 0)), (1, .ref (a 22))] → W p l e (RMw 0 0 0 0) s m args below meth c H locs 0 0 Q (F0 m 31 ls [])) {H : Heap} {locs : List Loc} (hG : GG X (MP X a w ++ rest) s.heap H locs) {ls : Array Slot} (hl : lv_has ls 3 [(0, .ref (a 0)), (1, .ref (a 22)), (2, .int x2)]) : W p l e (RMw 0 0 0 0) s m args below meth c H locs 0 0 Q (F0 m 2 ls []) := by
  have hx := B.1
  have hb := B.2.1
  unfold fM_keep_22_L2 at hf
  refine lv_iload_n hx hb dX4_keep_2 rfl (lv_at hl 2 rfl) ?_
  refine lv_bipush (v := 67) hx hb dX4_keep_3 (by decide) ?_
  refine lv_icmp_ge (tgt := 31) hx hb dX4_keep_5 (by decide) (fun c_1 => ?_) (fun c_1 => ?_)
  · have hf := ifp c_1 hf
    exact ke31 _ (Option.some.inj hf).symm _ _ hG _ (lv_sub hl [0, 1] rfl)
  · have hf := ifn c_1 hf
    refine lv_aload_n hx hb dX4_keep_8 rfl (lv_at hl 1 rfl) ?_
    refine lv_iload_n hx hb dX4_keep_9 rfl (lv_at hl 2 rfl) ?_
    refine lv_aload_n hx hb dX4_keep_10 rfl (lv_at hl 0 rfl) ?_
    refine mo_g1 B hK hG.1 dX4_keep_11 ?_
    refine lv_iload_n hx hb dX4_keep_14 rfl (lv_at hl 2 rfl) ?_
    obtain ⟨v_2, e_3, hf⟩ := bo hf
    refine mo_ld1 B hK hG.1 e_3 dX4_keep_15 ?_
    refine lv_if_eq (tgt := 23) hx hb dX4_keep_16 (by decide) (fun c_4 => ?_) (fun c_4 => ?_)
    · have hf := ifp c_4 hf
      refine lv_iconst (v := 0) hx hb dX4_keep_23 (by decide) ?_
      exact wM_keep_22_J24_L2 B hK hf kc ke31 hG hl
    · have hf := ifn c_4 hf
      refine lv_iconst (v := 1) hx hb dX4_keep_19 (by decide) ?_
      refine lv_goto (tgt := 24) hx hb dX4_keep_20 (by decide) ?_
      exact wM_keep_22_J24_L2 B hK hf kc ke31 hG hl

set_option maxHeartbeats 4000000 in
theorem vM_keep_22_L2 (B : CallFix p m c cX4_keep 3 s args lw_all RX4) (hK : KK X s) {w : MW} {x2 : Int32} {res : MW} (hf : lp (fun q : Int32 × MW => fM_keep_22_L2 q.2 q.1) (x2, w) = some res) (ke31 : ∀ (w1 : MW), res = w1 → ∀ (H : Heap) (locs : List Loc), GG X (MP X a w1 ++ rest) s.heap H locs → ∀ (ls : Array Slot), lv_has ls 3 [(0, .ref (a 0)), (1, .ref (a 22))] → W p l e (RMw 0 0 0 0) s m args below meth c H locs 0 0 Q (F0 m 31 ls [])) {H : Heap} {locs : List Loc} (hG : GG X (MP X a w ++ rest) s.heap H locs) {ls : Array Slot} (hl : lv_has ls 3 [(0, .ref (a 0)), (1, .ref (a 22)), (2, .int x2)]) : W p l e (RMw 0 0 0 0) s m args below meth c H locs 0 0 Q (F0 m 2 ls []) := by
  refine lp_ind (r := res) (P := fun q : Int32 × MW => ∀ (H : Heap) (locs : List Loc) (ls : Array Slot), GG X (MP X a q.2 ++ rest) s.heap H locs → lv_has ls 3 [(0, .ref (a 0)), (1, .ref (a 22)), (2, .int q.1)] → W p l e (RMw 0 0 0 0) s m args below meth c H locs 0 0 Q (F0 m 2 ls [])) ?_ ?_ _ hf _ _ _ hG hl
  · intro q hb H locs ls hG hl
    exact wM_keep_22_L2 B hK hb (fun _ _ h => by cases h) (fun z0 h => ke31 z0 (Sum.inr.inj h)) hG hl
  · intro q q2 hb ih H locs ls hG hl
    exact wM_keep_22_L2 B hK hb (fun z0 z1 h => by cases h; exact fun H locs hG ls hl => ih H locs ls hG hl) (fun _ h => by cases h) hG hl

noncomputable def fM_keep_22_L33 (w : MW) (x2 : Int32) : Option ((Int32 × MW) ⊕ (MW)) :=
  if 8 ≤ x2 then
    some (.inr w)
  else
    (rd (w.2.1 4) 9 x2).bind fun v_2 =>
    (mst w 22 104 (67 + x2) v_2).bind fun w_4 =>
    (rd (w_4.2.1 5) 9 x2).bind fun v_6 =>
    (mst w_4 22 104 (75 + x2) v_6).bind fun w_8 =>
    (rd (w_8.2.1 6) 9 x2).bind fun v_10 =>
    (mst w_8 22 104 (83 + x2) v_10).bind fun w_12 =>
    (some (x2 + 1)).bind fun x_14 =>
    some (.inl (x_14, w_12))

set_option maxHeartbeats 4000000 in
theorem wM_keep_22_L33 (B : CallFix p m c cX4_keep 3 s args lw_all RX4) (hK : KK X s) {w : MW} {x2 : Int32} {res : (Int32 × MW) ⊕ (MW)} (hf : fM_keep_22_L33 w x2 = some res) (kc : ∀ (y2 : Int32) (w1 : MW), res = .inl (y2, w1) → ∀ (H : Heap) (locs : List Loc), GG X (MP X a w1 ++ rest) s.heap H locs → ∀ (ls : Array Slot), lv_has ls 3 [(0, .ref (a 0)), (1, .ref (a 22)), (2, .int y2)] → W p l e (RMw 0 0 0 0) s m args below meth c H locs 0 0 Q (F0 m 33 ls [])) (ke81 : ∀ (w1 : MW), res = .inr w1 → ∀ (H : Heap) (locs : List Loc), GG X (MP X a w1 ++ rest) s.heap H locs → ∀ (ls : Array Slot), lv_has ls 3 [(0, .ref (a 0)), (1, .ref (a 22))] → W p l e (RMw 0 0 0 0) s m args below meth c H locs 0 0 Q (F0 m 81 ls [])) {H : Heap} {locs : List Loc} (hG : GG X (MP X a w ++ rest) s.heap H locs) {ls : Array Slot} (hl : lv_has ls 3 [(0, .ref (a 0)), (1, .ref (a 22)), (2, .int x2)]) : W p l e (RMw 0 0 0 0) s m args below meth c H locs 0 0 Q (F0 m 33 ls []) := by
  have hx := B.1
  have hb := B.2.1
  unfold fM_keep_22_L33 at hf
  refine lv_iload_n hx hb dX4_keep_33 rfl (lv_at hl 2 rfl) ?_
  refine lv_bipush (v := 8) hx hb dX4_keep_34 (by decide) ?_
  refine lv_icmp_ge (tgt := 81) hx hb dX4_keep_36 (by decide) (fun c_1 => ?_) (fun c_1 => ?_)
  · have hf := ifp c_1 hf
    exact ke81 _ (Option.some.inj hf).symm _ _ hG _ (lv_sub hl [0, 1] rfl)
  · have hf := ifn c_1 hf
    refine lv_aload_n hx hb dX4_keep_39 rfl (lv_at hl 1 rfl) ?_
    refine lv_bipush (v := 67) hx hb dX4_keep_40 (by decide) ?_
    refine lv_iload_n hx hb dX4_keep_42 rfl (lv_at hl 2 rfl) ?_
    refine lv_iadd hx hb dX4_keep_43 ?_
    refine lv_aload_n hx hb dX4_keep_44 rfl (lv_at hl 0 rfl) ?_
    refine mo_g4 B hK hG.1 dX4_keep_45 ?_
    refine lv_iload_n hx hb dX4_keep_48 rfl (lv_at hl 2 rfl) ?_
    obtain ⟨v_2, e_3, hf⟩ := bo hf
    refine mo_ld4 B hK hG.1 e_3 dX4_keep_49 ?_
    obtain ⟨w_4, e_5, hf⟩ := bo hf
    refine mo_st22 B hK hG e_5 dX4_keep_50 (fun H locs hG => ?_)
    refine lv_aload_n hx hb dX4_keep_51 rfl (lv_at hl 1 rfl) ?_
    refine lv_bipush (v := 75) hx hb dX4_keep_52 (by decide) ?_
    refine lv_iload_n hx hb dX4_keep_54 rfl (lv_at hl 2 rfl) ?_
    refine lv_iadd hx hb dX4_keep_55 ?_
    refine lv_aload_n hx hb dX4_keep_56 rfl (lv_at hl 0 rfl) ?_
    refine mo_g5 B hK hG.1 dX4_keep_57 ?_
    refine lv_iload_n hx hb dX4_keep_60 rfl (lv_at hl 2 rfl) ?_
    obtain ⟨v_6, e_7, hf⟩ := bo hf
    refine mo_ld5 B hK hG.1 e_7 dX4_keep_61 ?_
    obtain ⟨w_8, e_9, hf⟩ := bo hf
    refine mo_st22 B hK hG e_9 dX4_keep_62 (fun H locs hG => ?_)
    refine lv_aload_n hx hb dX4_keep_63 rfl (lv_at hl 1 rfl) ?_
    refine lv_bipush (v := 83) hx hb dX4_keep_64 (by decide) ?_
    refine lv_iload_n hx hb dX4_keep_66 rfl (lv_at hl 2 rfl) ?_
    refine lv_iadd hx hb dX4_keep_67 ?_
    refine lv_aload_n hx hb dX4_keep_68 rfl (lv_at hl 0 rfl) ?_
    refine mo_g6 B hK hG.1 dX4_keep_69 ?_
    refine lv_iload_n hx hb dX4_keep_72 rfl (lv_at hl 2 rfl) ?_
    obtain ⟨v_10, e_11, hf⟩ := bo hf
    refine mo_ld6 B hK hG.1 e_11 dX4_keep_73 ?_
    obtain ⟨w_12, e_13, hf⟩ := bo hf
    refine mo_st22 B hK hG e_13 dX4_keep_74 (fun H locs hG => ?_)
    obtain ⟨x_14, e_15, hf⟩ := bo hf
    refine w_iinc (k := 2) (lv' := [(2, .int x_14), (0, .ref (a 0)), (1, .ref (a 22))]) e_15 hx hb dX4_keep_75 hl rfl (by decide) rfl (fun ls hl => ?_)
    refine lv_goto (tgt := 33) hx hb dX4_keep_78 (by decide) ?_
    exact kc _ _ (Option.some.inj hf).symm _ _ hG _ (lv_sub hl [1, 2, 0] rfl)

set_option maxHeartbeats 4000000 in
theorem vM_keep_22_L33 (B : CallFix p m c cX4_keep 3 s args lw_all RX4) (hK : KK X s) {w : MW} {x2 : Int32} {res : MW} (hf : lp (fun q : Int32 × MW => fM_keep_22_L33 q.2 q.1) (x2, w) = some res) (ke81 : ∀ (w1 : MW), res = w1 → ∀ (H : Heap) (locs : List Loc), GG X (MP X a w1 ++ rest) s.heap H locs → ∀ (ls : Array Slot), lv_has ls 3 [(0, .ref (a 0)), (1, .ref (a 22))] → W p l e (RMw 0 0 0 0) s m args below meth c H locs 0 0 Q (F0 m 81 ls [])) {H : Heap} {locs : List Loc} (hG : GG X (MP X a w ++ rest) s.heap H locs) {ls : Array Slot} (hl : lv_has ls 3 [(0, .ref (a 0)), (1, .ref (a 22)), (2, .int x2)]) : W p l e (RMw 0 0 0 0) s m args below meth c H locs 0 0 Q (F0 m 33 ls []) := by
  refine lp_ind (r := res) (P := fun q : Int32 × MW => ∀ (H : Heap) (locs : List Loc) (ls : Array Slot), GG X (MP X a q.2 ++ rest) s.heap H locs → lv_has ls 3 [(0, .ref (a 0)), (1, .ref (a 22)), (2, .int q.1)] → W p l e (RMw 0 0 0 0) s m args below meth c H locs 0 0 Q (F0 m 33 ls [])) ?_ ?_ _ hf _ _ _ hG hl
  · intro q hb H locs ls hG hl
    exact wM_keep_22_L33 B hK hb (fun _ _ h => by cases h) (fun z0 h => ke81 z0 (Sum.inr.inj h)) hG hl
  · intro q q2 hb ih H locs ls hG hl
    exact wM_keep_22_L33 B hK hb (fun z0 z1 h => by cases h; exact fun H locs hG ls hl => ih H locs ls hG hl) (fun _ h => by cases h) hG hl

noncomputable def fM_keep_22_L83 (w : MW) (x2 : Int32) : Option ((Int32 × MW) ⊕ (MW)) :=
  if 4 ≤ x2 then
    some (.inr w)
  else
    (rd (w.2.1 8) 4 x2).bind fun v_2 =>
    (mst w 22 104 (91 + x2) v_2).bind fun w_4 =>
    (rd (w_4.2.1 9) 4 x2).bind fun v_6 =>
    (mst w_4 22 104 (95 + x2) v_6).bind fun w_8 =>
    (some (x2 + 1)).bind fun x_10 =>
    some (.inl (x_10, w_8))

set_option maxHeartbeats 4000000 in
theorem wM_keep_22_L83 (B : CallFix p m c cX4_keep 3 s args lw_all RX4) (hK : KK X s) {w : MW} {x2 : Int32} {res : (Int32 × MW) ⊕ (MW)} (hf : fM_keep_22_L83 w x2 = some res) (kc : ∀ (y2 : Int32) (w1 : MW), res = .inl (y2, w1) → ∀ (H : Heap) (locs : List Loc), GG X (MP X a w1 ++ rest) s.heap H locs → ∀ (ls : Array Slot), lv_has ls 3 [(0, .ref (a 0)), (1, .ref (a 22)), (2, .int y2)] → W p l e (RMw 0 0 0 0) s m args below meth c H locs 0 0 Q (F0 m 83 ls [])) (ke118 : ∀ (w1 : MW), res = .inr w1 → ∀ (H : Heap) (locs : List Loc), GG X (MP X a w1 ++ rest) s.heap H locs → ∀ (ls : Array Slot), lv_has ls 3 [(0, .ref (a 0)), (1, .ref (a 22))] → W p l e (RMw 0 0 0 0) s m args below meth c H locs 0 0 Q (F0 m 118 ls [])) {H : Heap} {locs : List Loc} (hG : GG X (MP X a w ++ rest) s.heap H locs) {ls : Array Slot} (hl : lv_has ls 3 [(0, .ref (a 0)), (1, .ref (a 22)), (2, .int x2)]) : W p l e (RMw 0 0 0 0) s m args below meth c H locs 0 0 Q (F0 m 83 ls []) := by
  have hx := B.1
  have hb := B.2.1
  unfold fM_keep_22_L83 at hf
  refine lv_iload_n hx hb dX4_keep_83 rfl (lv_at hl 2 rfl) ?_
  refine lv_iconst (v := 4) hx hb dX4_keep_84 (by decide) ?_
  refine lv_icmp_ge (tgt := 118) hx hb dX4_keep_85 (by decide) (fun c_1 => ?_) (fun c_1 => ?_)
  · have hf := ifp c_1 hf
    exact ke118 _ (Option.some.inj hf).symm _ _ hG _ (lv_sub hl [0, 1] rfl)
  · have hf := ifn c_1 hf
    refine lv_aload_n hx hb dX4_keep_88 rfl (lv_at hl 1 rfl) ?_
    refine lv_bipush (v := 91) hx hb dX4_keep_89 (by decide) ?_
    refine lv_iload_n hx hb dX4_keep_91 rfl (lv_at hl 2 rfl) ?_
    refine lv_iadd hx hb dX4_keep_92 ?_
    refine lv_aload_n hx hb dX4_keep_93 rfl (lv_at hl 0 rfl) ?_
    refine mo_g8 B hK hG.1 dX4_keep_94 ?_
    refine lv_iload_n hx hb dX4_keep_97 rfl (lv_at hl 2 rfl) ?_
    obtain ⟨v_2, e_3, hf⟩ := bo hf
    refine mo_ld8 B hK hG.1 e_3 dX4_keep_98 ?_
    obtain ⟨w_4, e_5, hf⟩ := bo hf
    refine mo_st22 B hK hG e_5 dX4_keep_99 (fun H locs hG => ?_)
    refine lv_aload_n hx hb dX4_keep_100 rfl (lv_at hl 1 rfl) ?_
    refine lv_bipush (v := 95) hx hb dX4_keep_101 (by decide) ?_
    refine lv_iload_n hx hb dX4_keep_103 rfl (lv_at hl 2 rfl) ?_
    refine lv_iadd hx hb dX4_keep_104 ?_
    refine lv_aload_n hx hb dX4_keep_105 rfl (lv_at hl 0 rfl) ?_
    refine mo_g9 B hK hG.1 dX4_keep_106 ?_
    refine lv_iload_n hx hb dX4_keep_109 rfl (lv_at hl 2 rfl) ?_
    obtain ⟨v_6, e_7, hf⟩ := bo hf
    refine mo_ld9 B hK hG.1 e_7 dX4_keep_110 ?_
    obtain ⟨w_8, e_9, hf⟩ := bo hf
    refine mo_st22 B hK hG e_9 dX4_keep_111 (fun H locs hG => ?_)
    obtain ⟨x_10, e_11, hf⟩ := bo hf
    refine w_iinc (k := 2) (lv' := [(2, .int x_10), (0, .ref (a 0)), (1, .ref (a 22))]) e_11 hx hb dX4_keep_112 hl rfl (by decide) rfl (fun ls hl => ?_)
    refine lv_goto (tgt := 83) hx hb dX4_keep_115 (by decide) ?_
    exact kc _ _ (Option.some.inj hf).symm _ _ hG _ (lv_sub hl [1, 2, 0] rfl)

set_option maxHeartbeats 4000000 in
theorem vM_keep_22_L83 (B : CallFix p m c cX4_keep 3 s args lw_all RX4) (hK : KK X s) {w : MW} {x2 : Int32} {res : MW} (hf : lp (fun q : Int32 × MW => fM_keep_22_L83 q.2 q.1) (x2, w) = some res) (ke118 : ∀ (w1 : MW), res = w1 → ∀ (H : Heap) (locs : List Loc), GG X (MP X a w1 ++ rest) s.heap H locs → ∀ (ls : Array Slot), lv_has ls 3 [(0, .ref (a 0)), (1, .ref (a 22))] → W p l e (RMw 0 0 0 0) s m args below meth c H locs 0 0 Q (F0 m 118 ls [])) {H : Heap} {locs : List Loc} (hG : GG X (MP X a w ++ rest) s.heap H locs) {ls : Array Slot} (hl : lv_has ls 3 [(0, .ref (a 0)), (1, .ref (a 22)), (2, .int x2)]) : W p l e (RMw 0 0 0 0) s m args below meth c H locs 0 0 Q (F0 m 83 ls []) := by
  refine lp_ind (r := res) (P := fun q : Int32 × MW => ∀ (H : Heap) (locs : List Loc) (ls : Array Slot), GG X (MP X a q.2 ++ rest) s.heap H locs → lv_has ls 3 [(0, .ref (a 0)), (1, .ref (a 22)), (2, .int q.1)] → W p l e (RMw 0 0 0 0) s m args below meth c H locs 0 0 Q (F0 m 83 ls [])) ?_ ?_ _ hf _ _ _ hG hl
  · intro q hb H locs ls hG hl
    exact wM_keep_22_L83 B hK hb (fun _ _ h => by cases h) (fun z0 h => ke118 z0 (Sum.inr.inj h)) hG hl
  · intro q q2 hb ih H locs ls hG hl
    exact wM_keep_22_L83 B hK hb (fun z0 z1 h => by cases h; exact fun H locs hG ls hl => ih H locs ls hG hl) (fun _ h => by cases h) hG hl

noncomputable def fM_keep_22 (w : MW)  : Option (MW) :=
  (lp (fun q : Int32 × MW => fM_keep_22_L2 q.2 q.1) (0, w)).bind (
    fun q_18 => (fun (w_1 : MW) =>
      (lp (fun q : Int32 × MW => fM_keep_22_L33 q.2 q.1) (0, w_1)).bind (
        fun q_16 => (fun (w_2 : MW) =>
          (lp (fun q : Int32 × MW => fM_keep_22_L83 q.2 q.1) (0, w_2)).bind (
            fun q_14 => (fun (w_3 : MW) =>
              (mst w_3 22 104 99 (w_3.1 0)).bind fun w_4 =>
              (mst w_4 22 104 100 (w_4.1 2)).bind fun w_6 =>
              (mst w_6 22 104 101 (w_6.1 3)).bind fun w_8 =>
              (mst w_8 22 104 102 (w_8.1 7)).bind fun w_10 =>
              (mst w_10 22 104 103 (w_10.1 10)).bind fun w_12 =>
              some w_12
            ) q_14
          )
        ) q_16
      )
    ) q_18
  )

set_option maxHeartbeats 4000000 in
theorem wM_keep_22 (B : CallFix p m c cX4_keep 3 s args lw_all RX4) (hK : KK X s) {w : MW}  {res : MW} (hf : fM_keep_22 w  = some res) (kr : ∀ (w1 : MW), res = w1 → ∀ (H : Heap) (locs : List Loc), GG X (MP X a w1 ++ rest) s.heap H locs → ∀ (pc : Nat) (ls : Array Slot), decode cX4_keep pc = .ok (.return_, 1) → W p l e (RMw 0 0 0 0) s m args below meth c H locs 0 0 Q (F0 m pc ls [])) {H : Heap} {locs : List Loc} (hG : GG X (MP X a w ++ rest) s.heap H locs) {ls : Array Slot} (hl : lv_has ls 3 [(0, .ref (a 0)), (1, .ref (a 22))]) : W p l e (RMw 0 0 0 0) s m args below meth c H locs 0 0 Q (F0 m 0 ls []) := by
  have hx := B.1
  have hb := B.2.1
  unfold fM_keep_22 at hf
  refine lv_iconst (v := 0) hx hb dX4_keep_0 (by decide) ?_
  refine lv_istore_n (lv' := [(2, .int 0), (0, .ref (a 0)), (1, .ref (a 22))]) hx hb dX4_keep_1 rfl hl (by decide) rfl (fun ls hl => ?_)
  obtain ⟨w_1, e_19, hf⟩ := bo hf
  try dsimp only at hf
  refine vM_keep_22_L2 B hK e_19 ?_ hG (lv_sub hl [1, 2, 0] rfl)
  intro z0 hz
  cases hz
  intro H locs hG ls hl
  refine lv_iconst (v := 0) hx hb dX4_keep_31 (by decide) ?_
  refine lv_istore_n (lv' := [(2, .int 0), (0, .ref (a 0)), (1, .ref (a 22))]) hx hb dX4_keep_32 rfl hl (by decide) rfl (fun ls hl => ?_)
  obtain ⟨w_2, e_17, hf⟩ := bo hf
  try dsimp only at hf
  refine vM_keep_22_L33 B hK e_17 ?_ hG (lv_sub hl [1, 2, 0] rfl)
  intro z0 hz
  cases hz
  intro H locs hG ls hl
  refine lv_iconst (v := 0) hx hb dX4_keep_81 (by decide) ?_
  refine lv_istore_n (lv' := [(2, .int 0), (0, .ref (a 0)), (1, .ref (a 22))]) hx hb dX4_keep_82 rfl hl (by decide) rfl (fun ls hl => ?_)
  obtain ⟨w_3, e_15, hf⟩ := bo hf
  try dsimp only at hf
  refine vM_keep_22_L83 B hK e_15 ?_ hG (lv_sub hl [1, 2, 0] rfl)
  intro z0 hz
  cases hz
  intro H locs hG ls hl
  refine lv_aload_n hx hb dX4_keep_118 rfl (lv_at hl 1 rfl) ?_
  refine lv_bipush (v := 99) hx hb dX4_keep_119 (by decide) ?_
  refine lv_aload_n hx hb dX4_keep_121 rfl (lv_at hl 0 rfl) ?_
  refine mo_g0 B hK hG.1 dX4_keep_122 ?_
  obtain ⟨w_4, e_5, hf⟩ := bo hf
  refine mo_st22 B hK hG e_5 dX4_keep_125 (fun H locs hG => ?_)
  refine lv_aload_n hx hb dX4_keep_126 rfl (lv_at hl 1 rfl) ?_
  refine lv_bipush (v := 100) hx hb dX4_keep_127 (by decide) ?_
  refine lv_aload_n hx hb dX4_keep_129 rfl (lv_at hl 0 rfl) ?_
  refine mo_g2 B hK hG.1 dX4_keep_130 ?_
  obtain ⟨w_6, e_7, hf⟩ := bo hf
  refine mo_st22 B hK hG e_7 dX4_keep_133 (fun H locs hG => ?_)
  refine lv_aload_n hx hb dX4_keep_134 rfl (lv_at hl 1 rfl) ?_
  refine lv_bipush (v := 101) hx hb dX4_keep_135 (by decide) ?_
  refine lv_aload_n hx hb dX4_keep_137 rfl (lv_at hl 0 rfl) ?_
  refine mo_g3 B hK hG.1 dX4_keep_138 ?_
  obtain ⟨w_8, e_9, hf⟩ := bo hf
  refine mo_st22 B hK hG e_9 dX4_keep_141 (fun H locs hG => ?_)
  refine lv_aload_n hx hb dX4_keep_142 rfl (lv_at hl 1 rfl) ?_
  refine lv_bipush (v := 102) hx hb dX4_keep_143 (by decide) ?_
  refine lv_aload_n hx hb dX4_keep_145 rfl (lv_at hl 0 rfl) ?_
  refine mo_g7 B hK hG.1 dX4_keep_146 ?_
  obtain ⟨w_10, e_11, hf⟩ := bo hf
  refine mo_st22 B hK hG e_11 dX4_keep_149 (fun H locs hG => ?_)
  refine lv_aload_n hx hb dX4_keep_150 rfl (lv_at hl 1 rfl) ?_
  refine lv_bipush (v := 103) hx hb dX4_keep_151 (by decide) ?_
  refine lv_aload_n hx hb dX4_keep_153 rfl (lv_at hl 0 rfl) ?_
  refine mo_g10 B hK hG.1 dX4_keep_154 ?_
  obtain ⟨w_12, e_13, hf⟩ := bo hf
  refine mo_st22 B hK hG e_13 dX4_keep_157 (fun H locs hG => ?_)
  exact kr _ (Option.some.inj hf).symm _ _ hG _ _ dX4_keep_158

theorem tM_keep_22 (l : Launch) (X : CX) (a : Nat → Nat) (rest : va_W) (w w' : MW)  (hf : fM_keep_22 w  = some w') : RW l yX4_keep cX4_keep 3 none 0 0 0 0 [.ref (a 0), .ref (a 22)] X (MP X a w ++ rest) (MP X a w' ++ rest) none := by
  refine RW.mk (by decide) (Nat.le_of_ble_eq_true rfl) ?_
  intro p e s m below meth c B hr hlk hK hG ls hl
  exact wM_keep_22 B hK hf (fun w h H locs hG pc ls hd => by cases h; exact w_vretW B hr hlk hG hd) hG hl
theorem cM_keep_22 (B : CallFix p m c cc nL s args lw_all RX4) (hK : KK X s) (hG : GG X (MP X a w ++ rest) s.heap H locs)  {w' : MW} (hf : fM_keep_22 w  = some w') (hR : 0 + 1 ≤ R.frames ∧ 22 ≤ R.locals) (hcs : cells ≤ R.cells ∧ slots ≤ R.slots) (hl : ls.size = nL) (hcat : (st.map fun v => v.category).sum ≤ 8) (hdg : decode cc pc = .ok (.invokevirtual 185, 3)) (kk : ∀ (H1 : Heap) (locs1 : List Loc), GG X (MP X a w' ++ rest) s.heap H1 locs1 → W p l e R s m args below meth c H1 locs1 cells slots Q (F0 m (pc + 3) ls st)) : W p l e R s m args below meth c H locs cells slots Q (F0 m pc ls (.ref (a 22) :: .ref (a 0) :: st)) :=
  w_afterWv (w_rV_RW (As := [.ref (a 22)]) B hK hG (tM_keep_22 l X a rest w w'  hf) (lw_V q1629 q1631 qs51 q91 q1632) 0 rfl rfl (n := 1) (by decide +kernel) hR hcs rfl hl rfl hcat hdg) hG.2.2 kk
end S_keep_22

section S_image
variable {p : Program} {l : Launch} {e : Env} {R : Room} {s : State} {m : MethodId} {args : Array Value} {below : List Frame} {meth : Method} {c : Code} {H : Heap} {locs : List Loc} {cells slots : Nat} {Q : State → Prop} {cc : ByteArray} {nL pc : Nat} {ls : Array Slot} {st : List Value} {X : CX} {a : Nat → Nat} {w : MW} {rest : va_W}
noncomputable def fM_image (w : MW)  : Option (Int32 × MW) :=
  (some (mpt w 21 1)).bind fun w_1 =>
  (fM_keep_22 w_1 ).bind fun w_3 =>
  some (1, w_3)

set_option maxHeartbeats 4000000 in
theorem wM_image (B : CallFix p m c cX4_image 1 s args lw_all RX4) (hK : KK X s) {w : MW}  {res : Int32 × MW} (hf : fM_image w  = some res) (kr : ∀ (r : Int32) (w1 : MW), res = (r, w1) → ∀ (H : Heap) (locs : List Loc), GG X (MP X a w1 ++ rest) s.heap H locs → ∀ (pc : Nat) (ls : Array Slot), decode cX4_image pc = .ok (.ireturn, 1) → W p l e (RMw 1 0 0 22) s m args below meth c H locs 0 0 Q (F0 m pc ls [.int r])) {H : Heap} {locs : List Loc} (hG : GG X (MP X a w ++ rest) s.heap H locs) {ls : Array Slot} (hl : lv_has ls 1 [(0, .ref (a 0))]) : W p l e (RMw 1 0 0 22) s m args below meth c H locs 0 0 Q (F0 m 0 ls []) := by
  have hx := B.1
  have hb := B.2.1
  unfold fM_image at hf
  refine lv_aload_n hx hb dX4_image_0 rfl (lv_at hl 0 rfl) ?_
  refine lv_iconst (v := 1) hx hb dX4_image_1 (by decide) ?_
  obtain ⟨w_1, e_2, hf⟩ := bo hf
  refine mo_p21 B hK hG e_2 dX4_image_2 (fun H locs hG => ?_)
  refine lv_aload_n hx hb dX4_image_5 rfl (lv_at hl 0 rfl) ?_
  refine lv_aload_n hx hb dX4_image_6 rfl (lv_at hl 0 rfl) ?_
  refine mo_g22 B hK hG.1 dX4_image_7 ?_
  obtain ⟨w_3, e_4, hf⟩ := bo hf
  refine cM_keep_22 B hK hG e_4 ⟨Nat.le_of_ble_eq_true rfl, Nat.le_of_ble_eq_true rfl⟩ ⟨Nat.zero_le _, Nat.zero_le _⟩ hl.1 (Nat.le_of_ble_eq_true rfl) dX4_image_10 (fun H locs hG => ?_)
  refine lv_iconst (v := 1) hx hb dX4_image_13 (by decide) ?_
  exact kr _ _ (Option.some.inj hf).symm _ _ hG _ _ dX4_image_14

theorem tM_image (l : Launch) (X : CX) (a : Nat → Nat) (rest : va_W) (w w' : MW)  (r : Int32) (hf : fM_image w  = some (r, w')) : RW l yX4_image cX4_image 1 (some .int) 1 0 0 22 [.ref (a 0)] X (MP X a w ++ rest) (MP X a w' ++ rest) (some (.int r)) := by
  refine RW.mk (by decide) (Nat.le_of_ble_eq_true rfl) ?_
  intro p e s m below meth c B hr hlk hK hG ls hl
  exact wM_image B hK hf (fun r w h H locs hG pc ls hd => by cases h; exact w_iretW B hr hlk hG hd) hG hl
end S_image

section S_again_22
variable {p : Program} {l : Launch} {e : Env} {R : Room} {s : State} {m : MethodId} {args : Array Value} {below : List Frame} {meth : Method} {c : Code} {H : Heap} {locs : List Loc} {cells slots : Nat} {Q : State → Prop} {cc : ByteArray} {nL pc : Nat} {ls : Array Slot} {st : List Value} {X : CX} {a : Nat → Nat} {w : MW} {rest : va_W}
noncomputable def fM_again_22_L2 (w : MW) (x2 : Int32) : Option ((Int32 × MW) ⊕ (MW)) :=
  if 67 ≤ x2 then
    some (.inr w)
  else
    (rd (w.2.1 22) 104 x2).bind fun v_2 =>
    if v_2 = 1 then
      (mst w 1 67 x2 (vp_nar .boolean 1)).bind fun w_9 =>
      (some (x2 + 1)).bind fun x_11 =>
      some (.inl (x_11, w_9))
    else
      (mst w 1 67 x2 (vp_nar .boolean 0)).bind fun w_5 =>
      (some (x2 + 1)).bind fun x_7 =>
      some (.inl (x_7, w_5))

set_option maxHeartbeats 4000000 in
theorem wM_again_22_L2 (B : CallFix p m c cX4_again 3 s args lw_all RX4) (hK : KK X s) {w : MW} {x2 : Int32} {res : (Int32 × MW) ⊕ (MW)} (hf : fM_again_22_L2 w x2 = some res) (kc : ∀ (y2 : Int32) (w1 : MW), res = .inl (y2, w1) → ∀ (H : Heap) (locs : List Loc), GG X (MP X a w1 ++ rest) s.heap H locs → ∀ (ls : Array Slot), lv_has ls 3 [(0, .ref (a 0)), (1, .ref (a 22)), (2, .int y2)] → W p l e (RMw 0 0 0 0) s m args below meth c H locs 0 0 Q (F0 m 2 ls [])) (ke32 : ∀ (w1 : MW), res = .inr w1 → ∀ (H : Heap) (locs : List Loc), GG X (MP X a w1 ++ rest) s.heap H locs → ∀ (ls : Array Slot), lv_has ls 3 [(0, .ref (a 0)), (1, .ref (a 22))] → W p l e (RMw 0 0 0 0) s m args below meth c H locs 0 0 Q (F0 m 32 ls [])) {H : Heap} {locs : List Loc} (hG : GG X (MP X a w ++ rest) s.heap H locs) {ls : Array Slot} (hl : lv_has ls 3 [(0, .ref (a 0)), (1, .ref (a 22)), (2, .int x2)]) : W p l e (RMw 0 0 0 0) s m args below meth c H locs 0 0 Q (F0 m 2 ls []) := by
  have hx := B.1
  have hb := B.2.1
  unfold fM_again_22_L2 at hf
  refine lv_iload_n hx hb dX4_again_2 rfl (lv_at hl 2 rfl) ?_
  refine lv_bipush (v := 67) hx hb dX4_again_3 (by decide) ?_
  refine lv_icmp_ge (tgt := 32) hx hb dX4_again_5 (by decide) (fun c_1 => ?_) (fun c_1 => ?_)
  · have hf := ifp c_1 hf
    exact ke32 _ (Option.some.inj hf).symm _ _ hG _ (lv_sub hl [0, 1] rfl)
  · have hf := ifn c_1 hf
    refine lv_aload_n hx hb dX4_again_8 rfl (lv_at hl 0 rfl) ?_
    refine mo_g1 B hK hG.1 dX4_again_9 ?_
    refine lv_iload_n hx hb dX4_again_12 rfl (lv_at hl 2 rfl) ?_
    refine lv_aload_n hx hb dX4_again_13 rfl (lv_at hl 1 rfl) ?_
    refine lv_iload_n hx hb dX4_again_14 rfl (lv_at hl 2 rfl) ?_
    obtain ⟨v_2, e_3, hf⟩ := bo hf
    refine mo_ld22 B hK hG.1 e_3 dX4_again_15 ?_
    refine lv_iconst (v := 1) hx hb dX4_again_16 (by decide) ?_
    refine lv_icmp_ne (tgt := 24) hx hb dX4_again_17 (by decide) (fun c_4 => ?_) (fun c_4 => ?_)
    · have hf := ifn c_4 hf
      refine lv_iconst (v := 0) hx hb dX4_again_24 (by decide) ?_
      obtain ⟨w_5, e_6, hf⟩ := bo hf
      refine mo_st1 B hK hG e_6 dX4_again_25 (fun H locs hG => ?_)
      obtain ⟨x_7, e_8, hf⟩ := bo hf
      refine w_iinc (k := 2) (lv' := [(2, .int x_7), (0, .ref (a 0)), (1, .ref (a 22))]) e_8 hx hb dX4_again_26 hl rfl (by decide) rfl (fun ls hl => ?_)
      refine lv_goto (tgt := 2) hx hb dX4_again_29 (by decide) ?_
      exact kc _ _ (Option.some.inj hf).symm _ _ hG _ (lv_sub hl [1, 2, 0] rfl)
    · have hf := ifp c_4 hf
      refine lv_iconst (v := 1) hx hb dX4_again_20 (by decide) ?_
      refine lv_goto (tgt := 25) hx hb dX4_again_21 (by decide) ?_
      obtain ⟨w_9, e_10, hf⟩ := bo hf
      refine mo_st1 B hK hG e_10 dX4_again_25 (fun H locs hG => ?_)
      obtain ⟨x_11, e_12, hf⟩ := bo hf
      refine w_iinc (k := 2) (lv' := [(2, .int x_11), (0, .ref (a 0)), (1, .ref (a 22))]) e_12 hx hb dX4_again_26 hl rfl (by decide) rfl (fun ls hl => ?_)
      refine lv_goto (tgt := 2) hx hb dX4_again_29 (by decide) ?_
      exact kc _ _ (Option.some.inj hf).symm _ _ hG _ (lv_sub hl [1, 2, 0] rfl)

set_option maxHeartbeats 4000000 in
theorem vM_again_22_L2 (B : CallFix p m c cX4_again 3 s args lw_all RX4) (hK : KK X s) {w : MW} {x2 : Int32} {res : MW} (hf : lp (fun q : Int32 × MW => fM_again_22_L2 q.2 q.1) (x2, w) = some res) (ke32 : ∀ (w1 : MW), res = w1 → ∀ (H : Heap) (locs : List Loc), GG X (MP X a w1 ++ rest) s.heap H locs → ∀ (ls : Array Slot), lv_has ls 3 [(0, .ref (a 0)), (1, .ref (a 22))] → W p l e (RMw 0 0 0 0) s m args below meth c H locs 0 0 Q (F0 m 32 ls [])) {H : Heap} {locs : List Loc} (hG : GG X (MP X a w ++ rest) s.heap H locs) {ls : Array Slot} (hl : lv_has ls 3 [(0, .ref (a 0)), (1, .ref (a 22)), (2, .int x2)]) : W p l e (RMw 0 0 0 0) s m args below meth c H locs 0 0 Q (F0 m 2 ls []) := by
  refine lp_ind (r := res) (P := fun q : Int32 × MW => ∀ (H : Heap) (locs : List Loc) (ls : Array Slot), GG X (MP X a q.2 ++ rest) s.heap H locs → lv_has ls 3 [(0, .ref (a 0)), (1, .ref (a 22)), (2, .int q.1)] → W p l e (RMw 0 0 0 0) s m args below meth c H locs 0 0 Q (F0 m 2 ls [])) ?_ ?_ _ hf _ _ _ hG hl
  · intro q hb H locs ls hG hl
    exact wM_again_22_L2 B hK hb (fun _ _ h => by cases h) (fun z0 h => ke32 z0 (Sum.inr.inj h)) hG hl
  · intro q q2 hb ih H locs ls hG hl
    exact wM_again_22_L2 B hK hb (fun z0 z1 h => by cases h; exact fun H locs hG ls hl => ih H locs ls hG hl) (fun _ h => by cases h) hG hl

noncomputable def fM_again_22_L34 (w : MW) (x2 : Int32) : Option ((Int32 × MW) ⊕ (MW)) :=
  if 8 ≤ x2 then
    some (.inr w)
  else
    (rd (w.2.1 22) 104 (67 + x2)).bind fun v_2 =>
    (mst w 4 9 x2 v_2).bind fun w_4 =>
    (rd (w_4.2.1 22) 104 (75 + x2)).bind fun v_6 =>
    (mst w_4 5 9 x2 v_6).bind fun w_8 =>
    (rd (w_8.2.1 22) 104 (83 + x2)).bind fun v_10 =>
    (mst w_8 6 9 x2 v_10).bind fun w_12 =>
    (some (x2 + 1)).bind fun x_14 =>
    some (.inl (x_14, w_12))

set_option maxHeartbeats 4000000 in
theorem wM_again_22_L34 (B : CallFix p m c cX4_again 3 s args lw_all RX4) (hK : KK X s) {w : MW} {x2 : Int32} {res : (Int32 × MW) ⊕ (MW)} (hf : fM_again_22_L34 w x2 = some res) (kc : ∀ (y2 : Int32) (w1 : MW), res = .inl (y2, w1) → ∀ (H : Heap) (locs : List Loc), GG X (MP X a w1 ++ rest) s.heap H locs → ∀ (ls : Array Slot), lv_has ls 3 [(0, .ref (a 0)), (1, .ref (a 22)), (2, .int y2)] → W p l e (RMw 0 0 0 0) s m args below meth c H locs 0 0 Q (F0 m 34 ls [])) (ke82 : ∀ (w1 : MW), res = .inr w1 → ∀ (H : Heap) (locs : List Loc), GG X (MP X a w1 ++ rest) s.heap H locs → ∀ (ls : Array Slot), lv_has ls 3 [(0, .ref (a 0)), (1, .ref (a 22))] → W p l e (RMw 0 0 0 0) s m args below meth c H locs 0 0 Q (F0 m 82 ls [])) {H : Heap} {locs : List Loc} (hG : GG X (MP X a w ++ rest) s.heap H locs) {ls : Array Slot} (hl : lv_has ls 3 [(0, .ref (a 0)), (1, .ref (a 22)), (2, .int x2)]) : W p l e (RMw 0 0 0 0) s m args below meth c H locs 0 0 Q (F0 m 34 ls []) := by
  have hx := B.1
  have hb := B.2.1
  unfold fM_again_22_L34 at hf
  refine lv_iload_n hx hb dX4_again_34 rfl (lv_at hl 2 rfl) ?_
  refine lv_bipush (v := 8) hx hb dX4_again_35 (by decide) ?_
  refine lv_icmp_ge (tgt := 82) hx hb dX4_again_37 (by decide) (fun c_1 => ?_) (fun c_1 => ?_)
  · have hf := ifp c_1 hf
    exact ke82 _ (Option.some.inj hf).symm _ _ hG _ (lv_sub hl [0, 1] rfl)
  · have hf := ifn c_1 hf
    refine lv_aload_n hx hb dX4_again_40 rfl (lv_at hl 0 rfl) ?_
    refine mo_g4 B hK hG.1 dX4_again_41 ?_
    refine lv_iload_n hx hb dX4_again_44 rfl (lv_at hl 2 rfl) ?_
    refine lv_aload_n hx hb dX4_again_45 rfl (lv_at hl 1 rfl) ?_
    refine lv_bipush (v := 67) hx hb dX4_again_46 (by decide) ?_
    refine lv_iload_n hx hb dX4_again_48 rfl (lv_at hl 2 rfl) ?_
    refine lv_iadd hx hb dX4_again_49 ?_
    obtain ⟨v_2, e_3, hf⟩ := bo hf
    refine mo_ld22 B hK hG.1 e_3 dX4_again_50 ?_
    obtain ⟨w_4, e_5, hf⟩ := bo hf
    refine mo_st4 B hK hG e_5 dX4_again_51 (fun H locs hG => ?_)
    refine lv_aload_n hx hb dX4_again_52 rfl (lv_at hl 0 rfl) ?_
    refine mo_g5 B hK hG.1 dX4_again_53 ?_
    refine lv_iload_n hx hb dX4_again_56 rfl (lv_at hl 2 rfl) ?_
    refine lv_aload_n hx hb dX4_again_57 rfl (lv_at hl 1 rfl) ?_
    refine lv_bipush (v := 75) hx hb dX4_again_58 (by decide) ?_
    refine lv_iload_n hx hb dX4_again_60 rfl (lv_at hl 2 rfl) ?_
    refine lv_iadd hx hb dX4_again_61 ?_
    obtain ⟨v_6, e_7, hf⟩ := bo hf
    refine mo_ld22 B hK hG.1 e_7 dX4_again_62 ?_
    obtain ⟨w_8, e_9, hf⟩ := bo hf
    refine mo_st5 B hK hG e_9 dX4_again_63 (fun H locs hG => ?_)
    refine lv_aload_n hx hb dX4_again_64 rfl (lv_at hl 0 rfl) ?_
    refine mo_g6 B hK hG.1 dX4_again_65 ?_
    refine lv_iload_n hx hb dX4_again_68 rfl (lv_at hl 2 rfl) ?_
    refine lv_aload_n hx hb dX4_again_69 rfl (lv_at hl 1 rfl) ?_
    refine lv_bipush (v := 83) hx hb dX4_again_70 (by decide) ?_
    refine lv_iload_n hx hb dX4_again_72 rfl (lv_at hl 2 rfl) ?_
    refine lv_iadd hx hb dX4_again_73 ?_
    obtain ⟨v_10, e_11, hf⟩ := bo hf
    refine mo_ld22 B hK hG.1 e_11 dX4_again_74 ?_
    obtain ⟨w_12, e_13, hf⟩ := bo hf
    refine mo_st6 B hK hG e_13 dX4_again_75 (fun H locs hG => ?_)
    obtain ⟨x_14, e_15, hf⟩ := bo hf
    refine w_iinc (k := 2) (lv' := [(2, .int x_14), (0, .ref (a 0)), (1, .ref (a 22))]) e_15 hx hb dX4_again_76 hl rfl (by decide) rfl (fun ls hl => ?_)
    refine lv_goto (tgt := 34) hx hb dX4_again_79 (by decide) ?_
    exact kc _ _ (Option.some.inj hf).symm _ _ hG _ (lv_sub hl [1, 2, 0] rfl)

set_option maxHeartbeats 4000000 in
theorem vM_again_22_L34 (B : CallFix p m c cX4_again 3 s args lw_all RX4) (hK : KK X s) {w : MW} {x2 : Int32} {res : MW} (hf : lp (fun q : Int32 × MW => fM_again_22_L34 q.2 q.1) (x2, w) = some res) (ke82 : ∀ (w1 : MW), res = w1 → ∀ (H : Heap) (locs : List Loc), GG X (MP X a w1 ++ rest) s.heap H locs → ∀ (ls : Array Slot), lv_has ls 3 [(0, .ref (a 0)), (1, .ref (a 22))] → W p l e (RMw 0 0 0 0) s m args below meth c H locs 0 0 Q (F0 m 82 ls [])) {H : Heap} {locs : List Loc} (hG : GG X (MP X a w ++ rest) s.heap H locs) {ls : Array Slot} (hl : lv_has ls 3 [(0, .ref (a 0)), (1, .ref (a 22)), (2, .int x2)]) : W p l e (RMw 0 0 0 0) s m args below meth c H locs 0 0 Q (F0 m 34 ls []) := by
  refine lp_ind (r := res) (P := fun q : Int32 × MW => ∀ (H : Heap) (locs : List Loc) (ls : Array Slot), GG X (MP X a q.2 ++ rest) s.heap H locs → lv_has ls 3 [(0, .ref (a 0)), (1, .ref (a 22)), (2, .int q.1)] → W p l e (RMw 0 0 0 0) s m args below meth c H locs 0 0 Q (F0 m 34 ls [])) ?_ ?_ _ hf _ _ _ hG hl
  · intro q hb H locs ls hG hl
    exact wM_again_22_L34 B hK hb (fun _ _ h => by cases h) (fun z0 h => ke82 z0 (Sum.inr.inj h)) hG hl
  · intro q q2 hb ih H locs ls hG hl
    exact wM_again_22_L34 B hK hb (fun z0 z1 h => by cases h; exact fun H locs hG ls hl => ih H locs ls hG hl) (fun _ h => by cases h) hG hl

noncomputable def fM_again_22_L84 (w : MW) (x2 : Int32) : Option ((Int32 × MW) ⊕ (MW)) :=
  if 4 ≤ x2 then
    some (.inr w)
  else
    (rd (w.2.1 22) 104 (91 + x2)).bind fun v_2 =>
    (mst w 8 4 x2 v_2).bind fun w_4 =>
    (rd (w_4.2.1 22) 104 (95 + x2)).bind fun v_6 =>
    (mst w_4 9 4 x2 v_6).bind fun w_8 =>
    (some (x2 + 1)).bind fun x_10 =>
    some (.inl (x_10, w_8))

set_option maxHeartbeats 4000000 in
theorem wM_again_22_L84 (B : CallFix p m c cX4_again 3 s args lw_all RX4) (hK : KK X s) {w : MW} {x2 : Int32} {res : (Int32 × MW) ⊕ (MW)} (hf : fM_again_22_L84 w x2 = some res) (kc : ∀ (y2 : Int32) (w1 : MW), res = .inl (y2, w1) → ∀ (H : Heap) (locs : List Loc), GG X (MP X a w1 ++ rest) s.heap H locs → ∀ (ls : Array Slot), lv_has ls 3 [(0, .ref (a 0)), (1, .ref (a 22)), (2, .int y2)] → W p l e (RMw 0 0 0 0) s m args below meth c H locs 0 0 Q (F0 m 84 ls [])) (ke119 : ∀ (w1 : MW), res = .inr w1 → ∀ (H : Heap) (locs : List Loc), GG X (MP X a w1 ++ rest) s.heap H locs → ∀ (ls : Array Slot), lv_has ls 3 [(0, .ref (a 0)), (1, .ref (a 22))] → W p l e (RMw 0 0 0 0) s m args below meth c H locs 0 0 Q (F0 m 119 ls [])) {H : Heap} {locs : List Loc} (hG : GG X (MP X a w ++ rest) s.heap H locs) {ls : Array Slot} (hl : lv_has ls 3 [(0, .ref (a 0)), (1, .ref (a 22)), (2, .int x2)]) : W p l e (RMw 0 0 0 0) s m args below meth c H locs 0 0 Q (F0 m 84 ls []) := by
  have hx := B.1
  have hb := B.2.1
  unfold fM_again_22_L84 at hf
  refine lv_iload_n hx hb dX4_again_84 rfl (lv_at hl 2 rfl) ?_
  refine lv_iconst (v := 4) hx hb dX4_again_85 (by decide) ?_
  refine lv_icmp_ge (tgt := 119) hx hb dX4_again_86 (by decide) (fun c_1 => ?_) (fun c_1 => ?_)
  · have hf := ifp c_1 hf
    exact ke119 _ (Option.some.inj hf).symm _ _ hG _ (lv_sub hl [0, 1] rfl)
  · have hf := ifn c_1 hf
    refine lv_aload_n hx hb dX4_again_89 rfl (lv_at hl 0 rfl) ?_
    refine mo_g8 B hK hG.1 dX4_again_90 ?_
    refine lv_iload_n hx hb dX4_again_93 rfl (lv_at hl 2 rfl) ?_
    refine lv_aload_n hx hb dX4_again_94 rfl (lv_at hl 1 rfl) ?_
    refine lv_bipush (v := 91) hx hb dX4_again_95 (by decide) ?_
    refine lv_iload_n hx hb dX4_again_97 rfl (lv_at hl 2 rfl) ?_
    refine lv_iadd hx hb dX4_again_98 ?_
    obtain ⟨v_2, e_3, hf⟩ := bo hf
    refine mo_ld22 B hK hG.1 e_3 dX4_again_99 ?_
    obtain ⟨w_4, e_5, hf⟩ := bo hf
    refine mo_st8 B hK hG e_5 dX4_again_100 (fun H locs hG => ?_)
    refine lv_aload_n hx hb dX4_again_101 rfl (lv_at hl 0 rfl) ?_
    refine mo_g9 B hK hG.1 dX4_again_102 ?_
    refine lv_iload_n hx hb dX4_again_105 rfl (lv_at hl 2 rfl) ?_
    refine lv_aload_n hx hb dX4_again_106 rfl (lv_at hl 1 rfl) ?_
    refine lv_bipush (v := 95) hx hb dX4_again_107 (by decide) ?_
    refine lv_iload_n hx hb dX4_again_109 rfl (lv_at hl 2 rfl) ?_
    refine lv_iadd hx hb dX4_again_110 ?_
    obtain ⟨v_6, e_7, hf⟩ := bo hf
    refine mo_ld22 B hK hG.1 e_7 dX4_again_111 ?_
    obtain ⟨w_8, e_9, hf⟩ := bo hf
    refine mo_st9 B hK hG e_9 dX4_again_112 (fun H locs hG => ?_)
    obtain ⟨x_10, e_11, hf⟩ := bo hf
    refine w_iinc (k := 2) (lv' := [(2, .int x_10), (0, .ref (a 0)), (1, .ref (a 22))]) e_11 hx hb dX4_again_113 hl rfl (by decide) rfl (fun ls hl => ?_)
    refine lv_goto (tgt := 84) hx hb dX4_again_116 (by decide) ?_
    exact kc _ _ (Option.some.inj hf).symm _ _ hG _ (lv_sub hl [1, 2, 0] rfl)

set_option maxHeartbeats 4000000 in
theorem vM_again_22_L84 (B : CallFix p m c cX4_again 3 s args lw_all RX4) (hK : KK X s) {w : MW} {x2 : Int32} {res : MW} (hf : lp (fun q : Int32 × MW => fM_again_22_L84 q.2 q.1) (x2, w) = some res) (ke119 : ∀ (w1 : MW), res = w1 → ∀ (H : Heap) (locs : List Loc), GG X (MP X a w1 ++ rest) s.heap H locs → ∀ (ls : Array Slot), lv_has ls 3 [(0, .ref (a 0)), (1, .ref (a 22))] → W p l e (RMw 0 0 0 0) s m args below meth c H locs 0 0 Q (F0 m 119 ls [])) {H : Heap} {locs : List Loc} (hG : GG X (MP X a w ++ rest) s.heap H locs) {ls : Array Slot} (hl : lv_has ls 3 [(0, .ref (a 0)), (1, .ref (a 22)), (2, .int x2)]) : W p l e (RMw 0 0 0 0) s m args below meth c H locs 0 0 Q (F0 m 84 ls []) := by
  refine lp_ind (r := res) (P := fun q : Int32 × MW => ∀ (H : Heap) (locs : List Loc) (ls : Array Slot), GG X (MP X a q.2 ++ rest) s.heap H locs → lv_has ls 3 [(0, .ref (a 0)), (1, .ref (a 22)), (2, .int q.1)] → W p l e (RMw 0 0 0 0) s m args below meth c H locs 0 0 Q (F0 m 84 ls [])) ?_ ?_ _ hf _ _ _ hG hl
  · intro q hb H locs ls hG hl
    exact wM_again_22_L84 B hK hb (fun _ _ h => by cases h) (fun z0 h => ke119 z0 (Sum.inr.inj h)) hG hl
  · intro q q2 hb ih H locs ls hG hl
    exact wM_again_22_L84 B hK hb (fun z0 z1 h => by cases h; exact fun H locs hG ls hl => ih H locs ls hG hl) (fun _ h => by cases h) hG hl

noncomputable def fM_again_22 (w : MW)  : Option (MW) :=
  (lp (fun q : Int32 × MW => fM_again_22_L2 q.2 q.1) (0, w)).bind (
    fun q_28 => (fun (w_1 : MW) =>
      (lp (fun q : Int32 × MW => fM_again_22_L34 q.2 q.1) (0, w_1)).bind (
        fun q_26 => (fun (w_2 : MW) =>
          (lp (fun q : Int32 × MW => fM_again_22_L84 q.2 q.1) (0, w_2)).bind (
            fun q_24 => (fun (w_3 : MW) =>
              (rd (w_3.2.1 22) 104 99).bind fun v_4 =>
              (some (mpt w_3 0 v_4)).bind fun w_6 =>
              (rd (w_6.2.1 22) 104 100).bind fun v_8 =>
              (some (mpt w_6 2 v_8)).bind fun w_10 =>
              (rd (w_10.2.1 22) 104 101).bind fun v_12 =>
              (some (mpt w_10 3 v_12)).bind fun w_14 =>
              (rd (w_14.2.1 22) 104 102).bind fun v_16 =>
              (some (mpt w_14 7 v_16)).bind fun w_18 =>
              (rd (w_18.2.1 22) 104 103).bind fun v_20 =>
              (some (mpt w_18 10 v_20)).bind fun w_22 =>
              some w_22
            ) q_24
          )
        ) q_26
      )
    ) q_28
  )

set_option maxHeartbeats 4000000 in
theorem wM_again_22 (B : CallFix p m c cX4_again 3 s args lw_all RX4) (hK : KK X s) {w : MW}  {res : MW} (hf : fM_again_22 w  = some res) (kr : ∀ (w1 : MW), res = w1 → ∀ (H : Heap) (locs : List Loc), GG X (MP X a w1 ++ rest) s.heap H locs → ∀ (pc : Nat) (ls : Array Slot), decode cX4_again pc = .ok (.return_, 1) → W p l e (RMw 0 0 0 0) s m args below meth c H locs 0 0 Q (F0 m pc ls [])) {H : Heap} {locs : List Loc} (hG : GG X (MP X a w ++ rest) s.heap H locs) {ls : Array Slot} (hl : lv_has ls 3 [(0, .ref (a 0)), (1, .ref (a 22))]) : W p l e (RMw 0 0 0 0) s m args below meth c H locs 0 0 Q (F0 m 0 ls []) := by
  have hx := B.1
  have hb := B.2.1
  unfold fM_again_22 at hf
  refine lv_iconst (v := 0) hx hb dX4_again_0 (by decide) ?_
  refine lv_istore_n (lv' := [(2, .int 0), (0, .ref (a 0)), (1, .ref (a 22))]) hx hb dX4_again_1 rfl hl (by decide) rfl (fun ls hl => ?_)
  obtain ⟨w_1, e_29, hf⟩ := bo hf
  try dsimp only at hf
  refine vM_again_22_L2 B hK e_29 ?_ hG (lv_sub hl [1, 2, 0] rfl)
  intro z0 hz
  cases hz
  intro H locs hG ls hl
  refine lv_iconst (v := 0) hx hb dX4_again_32 (by decide) ?_
  refine lv_istore_n (lv' := [(2, .int 0), (0, .ref (a 0)), (1, .ref (a 22))]) hx hb dX4_again_33 rfl hl (by decide) rfl (fun ls hl => ?_)
  obtain ⟨w_2, e_27, hf⟩ := bo hf
  try dsimp only at hf
  refine vM_again_22_L34 B hK e_27 ?_ hG (lv_sub hl [1, 2, 0] rfl)
  intro z0 hz
  cases hz
  intro H locs hG ls hl
  refine lv_iconst (v := 0) hx hb dX4_again_82 (by decide) ?_
  refine lv_istore_n (lv' := [(2, .int 0), (0, .ref (a 0)), (1, .ref (a 22))]) hx hb dX4_again_83 rfl hl (by decide) rfl (fun ls hl => ?_)
  obtain ⟨w_3, e_25, hf⟩ := bo hf
  try dsimp only at hf
  refine vM_again_22_L84 B hK e_25 ?_ hG (lv_sub hl [1, 2, 0] rfl)
  intro z0 hz
  cases hz
  intro H locs hG ls hl
  refine lv_aload_n hx hb dX4_again_119 rfl (lv_at hl 0 rfl) ?_
  refine lv_aload_n hx hb dX4_again_120 rfl (lv_at hl 1 rfl) ?_
  refine lv_bipush (v := 99) hx hb dX4_again_121 (by decide) ?_
  obtain ⟨v_4, e_5, hf⟩ := bo hf
  refine mo_ld22 B hK hG.1 e_5 dX4_again_123 ?_
  obtain ⟨w_6, e_7, hf⟩ := bo hf
  refine mo_p0 B hK hG e_7 dX4_again_124 (fun H locs hG => ?_)
  refine lv_aload_n hx hb dX4_again_127 rfl (lv_at hl 0 rfl) ?_
  refine lv_aload_n hx hb dX4_again_128 rfl (lv_at hl 1 rfl) ?_
  refine lv_bipush (v := 100) hx hb dX4_again_129 (by decide) ?_
  obtain ⟨v_8, e_9, hf⟩ := bo hf
  refine mo_ld22 B hK hG.1 e_9 dX4_again_131 ?_
  obtain ⟨w_10, e_11, hf⟩ := bo hf
  refine mo_p2 B hK hG e_11 dX4_again_132 (fun H locs hG => ?_)
  refine lv_aload_n hx hb dX4_again_135 rfl (lv_at hl 0 rfl) ?_
  refine lv_aload_n hx hb dX4_again_136 rfl (lv_at hl 1 rfl) ?_
  refine lv_bipush (v := 101) hx hb dX4_again_137 (by decide) ?_
  obtain ⟨v_12, e_13, hf⟩ := bo hf
  refine mo_ld22 B hK hG.1 e_13 dX4_again_139 ?_
  obtain ⟨w_14, e_15, hf⟩ := bo hf
  refine mo_p3 B hK hG e_15 dX4_again_140 (fun H locs hG => ?_)
  refine lv_aload_n hx hb dX4_again_143 rfl (lv_at hl 0 rfl) ?_
  refine lv_aload_n hx hb dX4_again_144 rfl (lv_at hl 1 rfl) ?_
  refine lv_bipush (v := 102) hx hb dX4_again_145 (by decide) ?_
  obtain ⟨v_16, e_17, hf⟩ := bo hf
  refine mo_ld22 B hK hG.1 e_17 dX4_again_147 ?_
  obtain ⟨w_18, e_19, hf⟩ := bo hf
  refine mo_p7 B hK hG e_19 dX4_again_148 (fun H locs hG => ?_)
  refine lv_aload_n hx hb dX4_again_151 rfl (lv_at hl 0 rfl) ?_
  refine lv_aload_n hx hb dX4_again_152 rfl (lv_at hl 1 rfl) ?_
  refine lv_bipush (v := 103) hx hb dX4_again_153 (by decide) ?_
  obtain ⟨v_20, e_21, hf⟩ := bo hf
  refine mo_ld22 B hK hG.1 e_21 dX4_again_155 ?_
  obtain ⟨w_22, e_23, hf⟩ := bo hf
  refine mo_p10 B hK hG e_23 dX4_again_156 (fun H locs hG => ?_)
  exact kr _ (Option.some.inj hf).symm _ _ hG _ _ dX4_again_159

theorem tM_again_22 (l : Launch) (X : CX) (a : Nat → Nat) (rest : va_W) (w w' : MW)  (hf : fM_again_22 w  = some w') : RW l yX4_again cX4_again 3 none 0 0 0 0 [.ref (a 0), .ref (a 22)] X (MP X a w ++ rest) (MP X a w' ++ rest) none := by
  refine RW.mk (by decide) (Nat.le_of_ble_eq_true rfl) ?_
  intro p e s m below meth c B hr hlk hK hG ls hl
  exact wM_again_22 B hK hf (fun w h H locs hG pc ls hd => by cases h; exact w_vretW B hr hlk hG hd) hG hl
theorem cM_again_22 (B : CallFix p m c cc nL s args lw_all RX4) (hK : KK X s) (hG : GG X (MP X a w ++ rest) s.heap H locs)  {w' : MW} (hf : fM_again_22 w  = some w') (hR : 0 + 1 ≤ R.frames ∧ 22 ≤ R.locals) (hcs : cells ≤ R.cells ∧ slots ≤ R.slots) (hl : ls.size = nL) (hcat : (st.map fun v => v.category).sum ≤ 8) (hdg : decode cc pc = .ok (.invokevirtual 193, 3)) (kk : ∀ (H1 : Heap) (locs1 : List Loc), GG X (MP X a w' ++ rest) s.heap H1 locs1 → W p l e R s m args below meth c H1 locs1 cells slots Q (F0 m (pc + 3) ls st)) : W p l e R s m args below meth c H locs cells slots Q (F0 m pc ls (.ref (a 22) :: .ref (a 0) :: st)) :=
  w_afterWv (w_rV_RW (As := [.ref (a 22)]) B hK hG (tM_again_22 l X a rest w w'  hf) (lw_V q1684 q1686 qs57 q91 q1687) 0 rfl rfl (n := 1) (by decide +kernel) hR hcs rfl hl rfl hcat hdg) hG.2.2 kk
end S_again_22
