set_option maxRecDepth 100000
section S_where
variable {p : Program} {l : Launch} {e : Env} {R : Room} {s : State} {m : MethodId} {args : Array Value} {below : List Frame} {meth : Method} {c : Code} {H : Heap} {locs : List Loc} {cells slots : Nat} {Q : State → Prop} {cc : ByteArray} {nL pc : Nat} {ls : Array Slot} {st : List Value} {X : CX} {a : Nat → Nat} {w : MW} {rest : va_W}
noncomputable def fM_where_J22 (w : MW)  : Option (Int32 × MW) :=
  b2 (fM_no w (-2)) fun r_1 w_2 =>
  some (r_1, w_2)

set_option maxHeartbeats 4000000 in
theorem wM_where_J22 (B : CallFix p m c cX4_where 8 s args lw_all RX4) (hK : KK X s) {w : MW}  {res : Int32 × MW} (hf : fM_where_J22 w  = some res) (kr : ∀ (r : Int32) (w1 : MW), res = (r, w1) → ∀ (H : Heap) (locs : List Loc), GG X (MP X a w1 ++ rest) s.heap H locs → ∀ (pc : Nat) (ls : Array Slot), decode cX4_where pc = .ok (.ireturn, 1) → W p l e (RMw 9 0 0 200) s m args below meth c H locs 0 0 Q (F0 m pc ls [.int r])) {H : Heap} {locs : List Loc} (hG : GG X (MP X a w ++ rest) s.heap H locs) {ls : Array Slot} (hl : lv_has ls 8 [(0, .ref (a 0))]) : W p l e (RMw 9 0 0 200) s m args below meth c H locs 0 0 Q (F0 m 22 ls []) := by
  have hx := B.1
  have hb := B.2.1
  unfold fM_where_J22 at hf
  refine lv_aload_n hx hb dX4_where_22 rfl (lv_at hl 0 rfl) ?_
  refine lv_bipush (v := (-2)) hx hb dX4_where_23 (by decide) ?_
  obtain ⟨r_1, w_2, e_3, hf⟩ := b2s hf
  refine cM_no B hK hG e_3 ⟨Nat.le_of_ble_eq_true rfl, Nat.le_of_ble_eq_true rfl⟩ ⟨Nat.zero_le _, Nat.zero_le _⟩ hl.1 (Nat.le_of_ble_eq_true rfl) dX4_where_25 (fun H locs hG => ?_)
  exact kr _ _ (Option.some.inj hf).symm _ _ hG _ _ dX4_where_28

noncomputable def fM_where_L85 (w : MW) (x1 : Int32) (x2 : Int32) (x6 : Int32) (x7 : Int32) : Option ((Int32 × Int32 × MW) ⊕ (Int32 × MW)) :=
  b2 (fM_fits w x1 x2 (-1) x7) fun r_1 w_2 =>
  if r_1 = 0 then
    (some (x7 + 1)).bind fun x_5 =>
    some (.inl (x6, x_5, w_2))
  else
    (some (x6 + (Int32.ofInt (-1)))).bind fun x_7 =>
    if x6 ≤ 0 then
      some (.inr (x7, w_2))
    else
      (some (x7 + 1)).bind fun x_10 =>
      some (.inl (x_7, x_10, w_2))

set_option maxHeartbeats 4000000 in
theorem wM_where_L85 (B : CallFix p m c cX4_where 8 s args lw_all RX4) (hK : KK X s) {w : MW} {x1 : Int32} {x2 : Int32} {x6 : Int32} {x7 : Int32} {res : (Int32 × Int32 × MW) ⊕ (Int32 × MW)} (hf : fM_where_L85 w x1 x2 x6 x7 = some res) (kc : ∀ (y6 : Int32) (y7 : Int32) (w1 : MW), res = .inl (y6, y7, w1) → ∀ (H : Heap) (locs : List Loc), GG X (MP X a w1 ++ rest) s.heap H locs → ∀ (ls : Array Slot), lv_has ls 8 [(0, .ref (a 0)), (1, .int x1), (2, .int x2), (6, .int y6), (7, .int y7)] → W p l e (RMw 9 0 0 200) s m args below meth c H locs 0 0 Q (F0 m 85 ls [])) (ke111 : ∀ (y7 : Int32) (w1 : MW), res = .inr (y7, w1) → ∀ (H : Heap) (locs : List Loc), GG X (MP X a w1 ++ rest) s.heap H locs → ∀ (ls : Array Slot), lv_has ls 8 [(7, .int y7)] → W p l e (RMw 9 0 0 200) s m args below meth c H locs 0 0 Q (F0 m 111 ls [])) {H : Heap} {locs : List Loc} (hG : GG X (MP X a w ++ rest) s.heap H locs) {ls : Array Slot} (hl : lv_has ls 8 [(0, .ref (a 0)), (1, .int x1), (2, .int x2), (6, .int x6), (7, .int x7)]) : W p l e (RMw 9 0 0 200) s m args below meth c H locs 0 0 Q (F0 m 85 ls []) := by
  have hx := B.1
  have hb := B.2.1
  unfold fM_where_L85 at hf
  refine lv_aload_n hx hb dX4_where_85 rfl (lv_at hl 0 rfl) ?_
  refine lv_iload_n hx hb dX4_where_86 rfl (lv_at hl 1 rfl) ?_
  refine lv_iload_n hx hb dX4_where_87 rfl (lv_at hl 2 rfl) ?_
  refine lv_iconst (v := (-1)) hx hb dX4_where_88 (by decide) ?_
  refine lv_iload hx hb dX4_where_89 (lv_at hl 4 rfl) ?_
  obtain ⟨r_1, w_2, e_3, hf⟩ := b2s hf
  refine cM_fits B hK hG e_3 ⟨Nat.le_of_ble_eq_true rfl, Nat.le_of_ble_eq_true rfl⟩ ⟨Nat.zero_le _, Nat.zero_le _⟩ hl.1 (Nat.le_of_ble_eq_true rfl) dX4_where_91 (fun H locs hG => ?_)
  refine lv_if_eq (tgt := 105) hx hb dX4_where_94 (by decide) (fun c_4 => ?_) (fun c_4 => ?_)
  · have hf := ifp c_4 hf
    obtain ⟨x_5, e_6, hf⟩ := bo hf
    refine w_iinc (k := 4) (lv' := [(7, .int x_5), (0, .ref (a 0)), (1, .int x1), (2, .int x2), (6, .int x6)]) e_6 hx hb dX4_where_105 hl rfl (by decide) rfl (fun ls hl => ?_)
    refine lv_goto (tgt := 85) hx hb dX4_where_108 (by decide) ?_
    exact kc _ _ _ (Option.some.inj hf).symm _ _ hG _ (lv_sub hl [1, 2, 3, 4, 0] rfl)
  · have hf := ifn c_4 hf
    refine lv_iload hx hb dX4_where_97 (lv_at hl 3 rfl) ?_
    obtain ⟨x_7, e_8, hf⟩ := bo hf
    refine w_iinc (k := 3) (lv' := [(6, .int x_7), (0, .ref (a 0)), (1, .int x1), (2, .int x2), (7, .int x7)]) e_8 hx hb dX4_where_99 hl rfl (by decide) rfl (fun ls hl => ?_)
    refine lv_if_le (tgt := 111) hx hb dX4_where_102 (by decide) (fun c_9 => ?_) (fun c_9 => ?_)
    · have hf := ifp c_9 hf
      exact ke111 _ _ (Option.some.inj hf).symm _ _ hG _ (lv_sub hl [4] rfl)
    · have hf := ifn c_9 hf
      obtain ⟨x_10, e_11, hf⟩ := bo hf
      refine w_iinc (k := 4) (lv' := [(7, .int x_10), (6, .int x_7), (0, .ref (a 0)), (1, .int x1), (2, .int x2)]) e_11 hx hb dX4_where_105 hl rfl (by decide) rfl (fun ls hl => ?_)
      refine lv_goto (tgt := 85) hx hb dX4_where_108 (by decide) ?_
      exact kc _ _ _ (Option.some.inj hf).symm _ _ hG _ (lv_sub hl [2, 3, 4, 1, 0] rfl)

set_option maxHeartbeats 4000000 in
theorem vM_where_L85 (B : CallFix p m c cX4_where 8 s args lw_all RX4) (hK : KK X s) {w : MW} {x1 : Int32} {x2 : Int32} {x6 : Int32} {x7 : Int32} {res : Int32 × MW} (hf : lp (fun q : Int32 × Int32 × MW => fM_where_L85 q.2.2 x1 x2 q.1 q.2.1) (x6, x7, w) = some res) (ke111 : ∀ (y7 : Int32) (w1 : MW), res = (y7, w1) → ∀ (H : Heap) (locs : List Loc), GG X (MP X a w1 ++ rest) s.heap H locs → ∀ (ls : Array Slot), lv_has ls 8 [(7, .int y7)] → W p l e (RMw 9 0 0 200) s m args below meth c H locs 0 0 Q (F0 m 111 ls [])) {H : Heap} {locs : List Loc} (hG : GG X (MP X a w ++ rest) s.heap H locs) {ls : Array Slot} (hl : lv_has ls 8 [(0, .ref (a 0)), (1, .int x1), (2, .int x2), (6, .int x6), (7, .int x7)]) : W p l e (RMw 9 0 0 200) s m args below meth c H locs 0 0 Q (F0 m 85 ls []) := by
  refine lp_ind (r := res) (P := fun q : Int32 × Int32 × MW => ∀ (H : Heap) (locs : List Loc) (ls : Array Slot), GG X (MP X a q.2.2 ++ rest) s.heap H locs → lv_has ls 8 [(0, .ref (a 0)), (1, .int x1), (2, .int x2), (6, .int q.1), (7, .int q.2.1)] → W p l e (RMw 9 0 0 200) s m args below meth c H locs 0 0 Q (F0 m 85 ls [])) ?_ ?_ _ hf _ _ _ hG hl
  · intro q hb H locs ls hG hl
    exact wM_where_L85 B hK hb (fun _ _ _ h => by cases h) (fun z0 z1 h => ke111 z0 z1 (Sum.inr.inj h)) hG hl
  · intro q q2 hb ih H locs ls hG hl
    exact wM_where_L85 B hK hb (fun z0 z1 z2 h => by cases h; exact fun H locs hG ls hl => ih H locs ls hG hl) (fun _ _ h => by cases h) hG hl

noncomputable def fM_where (w : MW) (x1 : Int32) (x2 : Int32) (x3 : Int32) : Option (Int32 × MW) :=
  (fM_isShelf x1).bind fun r_1 =>
  if r_1 = 0 then
    fM_where_J22 w 
  else
    (fM_within x2 0 20).bind fun r_4 =>
    if r_4 = 0 then
      fM_where_J22 w 
    else
      if (-1) ≤ x3 then
        (fM_noPairs w x1 x2).bind fun r_8 =>
        if 0 ≤ r_8 then
          b2 (fM_fitting w x1 x2 (-1)) fun r_11 w_12 =>
          if x3 = (-1) then
            some (r_11, w_12)
          else
            if x3 < r_11 then
              (lp (fun q : Int32 × Int32 × MW => fM_where_L85 q.2.2 x1 x2 q.1 q.2.1) (x3, 0, w_12)).bind (
                fun q_18 => (fun (y_16 : Int32) (w_17 : MW) =>
                  some (y_16, w_17)
                ) q_18.1 q_18.2
              )
            else
              b2 (fM_no w_12 (-5)) fun r_20 w_21 =>
              some (r_20, w_21)
        else
          b2 (fM_no w r_8) fun r_23 w_24 =>
          some (r_23, w_24)
      else
        fM_where_J22 w 

set_option maxHeartbeats 4000000 in
theorem wM_where (B : CallFix p m c cX4_where 8 s args lw_all RX4) (hK : KK X s) {w : MW} {x1 : Int32} {x2 : Int32} {x3 : Int32} {res : Int32 × MW} (hf : fM_where w x1 x2 x3 = some res) (kr : ∀ (r : Int32) (w1 : MW), res = (r, w1) → ∀ (H : Heap) (locs : List Loc), GG X (MP X a w1 ++ rest) s.heap H locs → ∀ (pc : Nat) (ls : Array Slot), decode cX4_where pc = .ok (.ireturn, 1) → W p l e (RMw 9 0 0 200) s m args below meth c H locs 0 0 Q (F0 m pc ls [.int r])) {H : Heap} {locs : List Loc} (hG : GG X (MP X a w ++ rest) s.heap H locs) {ls : Array Slot} (hl : lv_has ls 8 [(0, .ref (a 0)), (1, .int x1), (2, .int x2), (3, .int x3)]) : W p l e (RMw 9 0 0 200) s m args below meth c H locs 0 0 Q (F0 m 0 ls []) := by
  have hx := B.1
  have hb := B.2.1
  unfold fM_where at hf
  refine lv_iload_n hx hb dX4_where_0 rfl (lv_at hl 1 rfl) ?_
  obtain ⟨r_1, e_2, hf⟩ := bo hf
  refine cM_isShelf B e_2 ⟨Nat.le_of_ble_eq_true rfl, Nat.le_of_ble_eq_true rfl⟩ ⟨Nat.zero_le _, Nat.zero_le _⟩ hl.1 (Nat.le_of_ble_eq_true rfl) dX4_where_1 ?_
  refine lv_if_eq (tgt := 22) hx hb dX4_where_4 (by decide) (fun c_3 => ?_) (fun c_3 => ?_)
  · have hf := ifp c_3 hf
    exact wM_where_J22 B hK hf kr hG (lv_sub hl [0] rfl)
  · have hf := ifn c_3 hf
    refine lv_iload_n hx hb dX4_where_7 rfl (lv_at hl 2 rfl) ?_
    refine lv_iconst (v := 0) hx hb dX4_where_8 (by decide) ?_
    refine lv_bipush (v := 20) hx hb dX4_where_9 (by decide) ?_
    obtain ⟨r_4, e_5, hf⟩ := bo hf
    refine cM_within B e_5 ⟨Nat.le_of_ble_eq_true rfl, Nat.le_of_ble_eq_true rfl⟩ ⟨Nat.zero_le _, Nat.zero_le _⟩ hl.1 (Nat.le_of_ble_eq_true rfl) dX4_where_11 ?_
    refine lv_if_eq (tgt := 22) hx hb dX4_where_14 (by decide) (fun c_6 => ?_) (fun c_6 => ?_)
    · have hf := ifp c_6 hf
      exact wM_where_J22 B hK hf kr hG (lv_sub hl [0] rfl)
    · have hf := ifn c_6 hf
      refine lv_iload_n hx hb dX4_where_17 rfl (lv_at hl 3 rfl) ?_
      refine lv_iconst (v := (-1)) hx hb dX4_where_18 (by decide) ?_
      refine lv_icmp_ge (tgt := 29) hx hb dX4_where_19 (by decide) (fun c_7 => ?_) (fun c_7 => ?_)
      · have hf := ifp c_7 hf
        refine lv_aload_n hx hb dX4_where_29 rfl (lv_at hl 0 rfl) ?_
        refine lv_iload_n hx hb dX4_where_30 rfl (lv_at hl 1 rfl) ?_
        refine lv_iload_n hx hb dX4_where_31 rfl (lv_at hl 2 rfl) ?_
        obtain ⟨r_8, e_9, hf⟩ := bo hf
        refine cM_noPairs B hK hG.2.2 hG.1 e_9 ⟨Nat.le_of_ble_eq_true rfl, Nat.le_of_ble_eq_true rfl⟩ ⟨Nat.zero_le _, Nat.zero_le _⟩ hl.1 (Nat.le_of_ble_eq_true rfl) dX4_where_32 ?_
        refine lv_istore (lv' := [(4, .int r_8), (0, .ref (a 0)), (1, .int x1), (2, .int x2), (3, .int x3)]) hx hb dX4_where_35 hl (by decide) rfl (fun ls hl => ?_)
        refine lv_iload hx hb dX4_where_37 (lv_at hl 0 rfl) ?_
        refine lv_if_ge (tgt := 49) hx hb dX4_where_39 (by decide) (fun c_10 => ?_) (fun c_10 => ?_)
        · have hf := ifp c_10 hf
          refine lv_aload_n hx hb dX4_where_49 rfl (lv_at hl 1 rfl) ?_
          refine lv_iload_n hx hb dX4_where_50 rfl (lv_at hl 2 rfl) ?_
          refine lv_iload_n hx hb dX4_where_51 rfl (lv_at hl 3 rfl) ?_
          refine lv_iconst (v := (-1)) hx hb dX4_where_52 (by decide) ?_
          obtain ⟨r_11, w_12, e_13, hf⟩ := b2s hf
          refine cM_fitting B hK hG e_13 ⟨Nat.le_of_ble_eq_true rfl, Nat.le_of_ble_eq_true rfl⟩ ⟨Nat.zero_le _, Nat.zero_le _⟩ hl.1 (Nat.le_of_ble_eq_true rfl) dX4_where_53 (fun H locs hG => ?_)
          refine lv_istore (lv' := [(5, .int r_11), (4, .int r_8), (0, .ref (a 0)), (1, .int x1), (2, .int x2), (3, .int x3)]) hx hb dX4_where_56 hl (by decide) rfl (fun ls hl => ?_)
          refine lv_iload_n hx hb dX4_where_58 rfl (lv_at hl 5 rfl) ?_
          refine lv_iconst (v := (-1)) hx hb dX4_where_59 (by decide) ?_
          refine lv_icmp_ne (tgt := 66) hx hb dX4_where_60 (by decide) (fun c_14 => ?_) (fun c_14 => ?_)
          · have hf := ifn c_14 hf
            refine lv_iload_n hx hb dX4_where_66 rfl (lv_at hl 5 rfl) ?_
            refine lv_iload hx hb dX4_where_67 (lv_at hl 0 rfl) ?_
            refine lv_icmp_lt (tgt := 79) hx hb dX4_where_69 (by decide) (fun c_15 => ?_) (fun c_15 => ?_)
            · have hf := ifp c_15 hf
              refine lv_iload_n hx hb dX4_where_79 rfl (lv_at hl 5 rfl) ?_
              refine lv_istore (lv' := [(6, .int x3), (5, .int r_11), (4, .int r_8), (0, .ref (a 0)), (1, .int x1), (2, .int x2), (3, .int x3)]) hx hb dX4_where_80 hl (by decide) rfl (fun ls hl => ?_)
              refine lv_iconst (v := 0) hx hb dX4_where_82 (by decide) ?_
              refine lv_istore (lv' := [(7, .int 0), (6, .int x3), (5, .int r_11), (4, .int r_8), (0, .ref (a 0)), (1, .int x1), (2, .int x2), (3, .int x3)]) hx hb dX4_where_83 hl (by decide) rfl (fun ls hl => ?_)
              obtain ⟨⟨y_16, w_17⟩, e_19, hf⟩ := bo hf
              try dsimp only at hf
              refine vM_where_L85 B hK e_19 ?_ hG (lv_sub hl [4, 5, 6, 1, 0] rfl)
              intro z0 z1 hz
              cases hz
              intro H locs hG ls hl
              refine lv_iload hx hb dX4_where_111 (lv_at hl 0 rfl) ?_
              exact kr _ _ (Option.some.inj hf).symm _ _ hG _ _ dX4_where_113
            · have hf := ifn c_15 hf
              refine lv_aload_n hx hb dX4_where_72 rfl (lv_at hl 2 rfl) ?_
              refine lv_bipush (v := (-5)) hx hb dX4_where_73 (by decide) ?_
              obtain ⟨r_20, w_21, e_22, hf⟩ := b2s hf
              refine cM_no B hK hG e_22 ⟨Nat.le_of_ble_eq_true rfl, Nat.le_of_ble_eq_true rfl⟩ ⟨Nat.zero_le _, Nat.zero_le _⟩ hl.1 (Nat.le_of_ble_eq_true rfl) dX4_where_75 (fun H locs hG => ?_)
              exact kr _ _ (Option.some.inj hf).symm _ _ hG _ _ dX4_where_78
          · have hf := ifp c_14 hf
            refine lv_iload hx hb dX4_where_63 (lv_at hl 0 rfl) ?_
            exact kr _ _ (Option.some.inj hf).symm _ _ hG _ _ dX4_where_65
        · have hf := ifn c_10 hf
          refine lv_aload_n hx hb dX4_where_42 rfl (lv_at hl 1 rfl) ?_
          refine lv_iload hx hb dX4_where_43 (lv_at hl 0 rfl) ?_
          obtain ⟨r_23, w_24, e_25, hf⟩ := b2s hf
          refine cM_no B hK hG e_25 ⟨Nat.le_of_ble_eq_true rfl, Nat.le_of_ble_eq_true rfl⟩ ⟨Nat.zero_le _, Nat.zero_le _⟩ hl.1 (Nat.le_of_ble_eq_true rfl) dX4_where_45 (fun H locs hG => ?_)
          exact kr _ _ (Option.some.inj hf).symm _ _ hG _ _ dX4_where_48
      · have hf := ifn c_7 hf
        exact wM_where_J22 B hK hf kr hG (lv_sub hl [0] rfl)

theorem tM_where (l : Launch) (X : CX) (a : Nat → Nat) (rest : va_W) (w w' : MW) (x1 : Int32) (x2 : Int32) (x3 : Int32) (r : Int32) (hf : fM_where w x1 x2 x3 = some (r, w')) : RW l yX4_where cX4_where 8 (some .int) 9 0 0 200 [.ref (a 0), .int x1, .int x2, .int x3] X (MP X a w ++ rest) (MP X a w' ++ rest) (some (.int r)) := by
  refine RW.mk (by decide) (Nat.le_of_ble_eq_true rfl) ?_
  intro p e s m below meth c B hr hlk hK hG ls hl
  exact wM_where B hK hf (fun r w h H locs hG pc ls hd => by cases h; exact w_iretW B hr hlk hG hd) hG hl
end S_where

section S_liar
variable {p : Program} {l : Launch} {e : Env} {R : Room} {s : State} {m : MethodId} {args : Array Value} {below : List Frame} {meth : Method} {c : Code} {H : Heap} {locs : List Loc} {cells slots : Nat} {Q : State → Prop} {cc : ByteArray} {nL pc : Nat} {ls : Array Slot} {st : List Value} {X : CX} {a : Nat → Nat} {w : MW} {rest : va_W}
noncomputable def fM_liar_L20 (w : MW) (x1 : Int32) (x2 : Int32) (x3 : Int32) (x4 : Int32) (x5 : Int32) : Option ((Int32 × Int32 × Int32 × MW) ⊕ (Int32 × MW)) :=
  if x2 ≤ x5 then
    some (.inr (x3, w))
  else
    b2 (fM_fitting w x1 x2 x5) fun r_2 w_3 =>
    if x4 < r_2 then
      (some (x5 + 1)).bind fun x_6 =>
      some (.inl (x5, r_2, x_6, w_3))
    else
      (some (x5 + 1)).bind fun x_8 =>
      some (.inl (x3, x4, x_8, w_3))

set_option maxHeartbeats 4000000 in
theorem wM_liar_L20 (B : CallFix p m c cX4_liar 7 s args lw_all RX4) (hK : KK X s) {w : MW} {x1 : Int32} {x2 : Int32} {x3 : Int32} {x4 : Int32} {x5 : Int32} {res : (Int32 × Int32 × Int32 × MW) ⊕ (Int32 × MW)} (hf : fM_liar_L20 w x1 x2 x3 x4 x5 = some res) (kc : ∀ (y3 : Int32) (y4 : Int32) (y5 : Int32) (w1 : MW), res = .inl (y3, y4, y5, w1) → ∀ (H : Heap) (locs : List Loc), GG X (MP X a w1 ++ rest) s.heap H locs → ∀ (ls : Array Slot), lv_has ls 7 [(0, .ref (a 0)), (1, .int x1), (2, .int x2), (3, .int y3), (4, .int y4), (5, .int y5)] → W p l e (RMw 9 0 0 200) s m args below meth c H locs 0 0 Q (F0 m 20 ls [])) (ke59 : ∀ (y3 : Int32) (w1 : MW), res = .inr (y3, w1) → ∀ (H : Heap) (locs : List Loc), GG X (MP X a w1 ++ rest) s.heap H locs → ∀ (ls : Array Slot), lv_has ls 7 [(3, .int y3)] → W p l e (RMw 9 0 0 200) s m args below meth c H locs 0 0 Q (F0 m 59 ls [])) {H : Heap} {locs : List Loc} (hG : GG X (MP X a w ++ rest) s.heap H locs) {ls : Array Slot} (hl : lv_has ls 7 [(0, .ref (a 0)), (1, .int x1), (2, .int x2), (3, .int x3), (4, .int x4), (5, .int x5)]) : W p l e (RMw 9 0 0 200) s m args below meth c H locs 0 0 Q (F0 m 20 ls []) := by
  have hx := B.1
  have hb := B.2.1
  unfold fM_liar_L20 at hf
  refine lv_iload hx hb dX4_liar_20 (lv_at hl 5 rfl) ?_
  refine lv_iload_n hx hb dX4_liar_22 rfl (lv_at hl 2 rfl) ?_
  refine lv_icmp_ge (tgt := 59) hx hb dX4_liar_23 (by decide) (fun c_1 => ?_) (fun c_1 => ?_)
  · have hf := ifp c_1 hf
    exact ke59 _ _ (Option.some.inj hf).symm _ _ hG _ (lv_sub hl [3] rfl)
  · have hf := ifn c_1 hf
    refine lv_aload_n hx hb dX4_liar_26 rfl (lv_at hl 0 rfl) ?_
    refine lv_iload_n hx hb dX4_liar_27 rfl (lv_at hl 1 rfl) ?_
    refine lv_iload_n hx hb dX4_liar_28 rfl (lv_at hl 2 rfl) ?_
    refine lv_iload hx hb dX4_liar_29 (lv_at hl 5 rfl) ?_
    obtain ⟨r_2, w_3, e_4, hf⟩ := b2s hf
    refine cM_fitting B hK hG e_4 ⟨Nat.le_of_ble_eq_true rfl, Nat.le_of_ble_eq_true rfl⟩ ⟨Nat.zero_le _, Nat.zero_le _⟩ hl.1 (Nat.le_of_ble_eq_true rfl) dX4_liar_31 (fun H locs hG => ?_)
    refine lv_istore (lv' := [(6, .int r_2), (0, .ref (a 0)), (1, .int x1), (2, .int x2), (3, .int x3), (4, .int x4), (5, .int x5)]) hx hb dX4_liar_34 hl (by decide) rfl (fun ls hl => ?_)
    refine lv_iload hx hb dX4_liar_36 (lv_at hl 0 rfl) ?_
    refine lv_iload hx hb dX4_liar_38 (lv_at hl 5 rfl) ?_
    refine lv_icmp_gt (tgt := 46) hx hb dX4_liar_40 (by decide) (fun c_5 => ?_) (fun c_5 => ?_)
    · have hf := ifp c_5 hf
      refine lv_iload hx hb dX4_liar_46 (lv_at hl 0 rfl) ?_
      refine lv_istore (lv' := [(4, .int r_2), (6, .int r_2), (0, .ref (a 0)), (1, .int x1), (2, .int x2), (3, .int x3), (5, .int x5)]) hx hb dX4_liar_48 hl (by decide) rfl (fun ls hl => ?_)
      refine lv_iload hx hb dX4_liar_50 (lv_at hl 6 rfl) ?_
      refine lv_istore_n (lv' := [(3, .int x5), (4, .int r_2), (6, .int r_2), (0, .ref (a 0)), (1, .int x1), (2, .int x2), (5, .int x5)]) hx hb dX4_liar_52 rfl hl (by decide) rfl (fun ls hl => ?_)
      obtain ⟨x_6, e_7, hf⟩ := bo hf
      refine w_iinc (k := 6) (lv' := [(5, .int x_6), (3, .int x5), (4, .int r_2), (6, .int r_2), (0, .ref (a 0)), (1, .int x1), (2, .int x2)]) e_7 hx hb dX4_liar_53 hl rfl (by decide) rfl (fun ls hl => ?_)
      refine lv_goto (tgt := 20) hx hb dX4_liar_56 (by decide) ?_
      exact kc _ _ _ _ (Option.some.inj hf).symm _ _ hG _ (lv_sub hl [4, 5, 6, 1, 2, 0] rfl)
    · have hf := ifn c_5 hf
      refine lv_goto (tgt := 53) hx hb dX4_liar_43 (by decide) ?_
      obtain ⟨x_8, e_9, hf⟩ := bo hf
      refine w_iinc (k := 6) (lv' := [(5, .int x_8), (6, .int r_2), (0, .ref (a 0)), (1, .int x1), (2, .int x2), (3, .int x3), (4, .int x4)]) e_9 hx hb dX4_liar_53 hl rfl (by decide) rfl (fun ls hl => ?_)
      refine lv_goto (tgt := 20) hx hb dX4_liar_56 (by decide) ?_
      exact kc _ _ _ _ (Option.some.inj hf).symm _ _ hG _ (lv_sub hl [2, 3, 4, 5, 6, 0] rfl)

set_option maxHeartbeats 4000000 in
theorem vM_liar_L20 (B : CallFix p m c cX4_liar 7 s args lw_all RX4) (hK : KK X s) {w : MW} {x1 : Int32} {x2 : Int32} {x3 : Int32} {x4 : Int32} {x5 : Int32} {res : Int32 × MW} (hf : lp (fun q : Int32 × Int32 × Int32 × MW => fM_liar_L20 q.2.2.2 x1 x2 q.1 q.2.1 q.2.2.1) (x3, x4, x5, w) = some res) (ke59 : ∀ (y3 : Int32) (w1 : MW), res = (y3, w1) → ∀ (H : Heap) (locs : List Loc), GG X (MP X a w1 ++ rest) s.heap H locs → ∀ (ls : Array Slot), lv_has ls 7 [(3, .int y3)] → W p l e (RMw 9 0 0 200) s m args below meth c H locs 0 0 Q (F0 m 59 ls [])) {H : Heap} {locs : List Loc} (hG : GG X (MP X a w ++ rest) s.heap H locs) {ls : Array Slot} (hl : lv_has ls 7 [(0, .ref (a 0)), (1, .int x1), (2, .int x2), (3, .int x3), (4, .int x4), (5, .int x5)]) : W p l e (RMw 9 0 0 200) s m args below meth c H locs 0 0 Q (F0 m 20 ls []) := by
  refine lp_ind (r := res) (P := fun q : Int32 × Int32 × Int32 × MW => ∀ (H : Heap) (locs : List Loc) (ls : Array Slot), GG X (MP X a q.2.2.2 ++ rest) s.heap H locs → lv_has ls 7 [(0, .ref (a 0)), (1, .int x1), (2, .int x2), (3, .int q.1), (4, .int q.2.1), (5, .int q.2.2.1)] → W p l e (RMw 9 0 0 200) s m args below meth c H locs 0 0 Q (F0 m 20 ls [])) ?_ ?_ _ hf _ _ _ hG hl
  · intro q hb H locs ls hG hl
    exact wM_liar_L20 B hK hb (fun _ _ _ _ h => by cases h) (fun z0 z1 h => ke59 z0 z1 (Sum.inr.inj h)) hG hl
  · intro q q2 hb ih H locs ls hG hl
    exact wM_liar_L20 B hK hb (fun z0 z1 z2 z3 h => by cases h; exact fun H locs hG ls hl => ih H locs ls hG hl) (fun _ _ h => by cases h) hG hl

noncomputable def fM_liar (w : MW) (x1 : Int32) (x2 : Int32) : Option (Int32 × MW) :=
  b2 (fM_fitting w x1 x2 (-1)) fun r_1 w_2 =>
  if r_1 ≤ 0 then
    (lp (fun q : Int32 × Int32 × Int32 × MW => fM_liar_L20 q.2.2.2 x1 x2 q.1 q.2.1 q.2.2.1) ((-1), (-1), 0, w_2)).bind (
      fun q_7 => (fun (y_5 : Int32) (w_6 : MW) =>
        some (y_5, w_6)
      ) q_7.1 q_7.2
    )
  else
    some ((-1), w_2)

set_option maxHeartbeats 4000000 in
theorem wM_liar (B : CallFix p m c cX4_liar 7 s args lw_all RX4) (hK : KK X s) {w : MW} {x1 : Int32} {x2 : Int32} {res : Int32 × MW} (hf : fM_liar w x1 x2 = some res) (kr : ∀ (r : Int32) (w1 : MW), res = (r, w1) → ∀ (H : Heap) (locs : List Loc), GG X (MP X a w1 ++ rest) s.heap H locs → ∀ (pc : Nat) (ls : Array Slot), decode cX4_liar pc = .ok (.ireturn, 1) → W p l e (RMw 9 0 0 200) s m args below meth c H locs 0 0 Q (F0 m pc ls [.int r])) {H : Heap} {locs : List Loc} (hG : GG X (MP X a w ++ rest) s.heap H locs) {ls : Array Slot} (hl : lv_has ls 7 [(0, .ref (a 0)), (1, .int x1), (2, .int x2)]) : W p l e (RMw 9 0 0 200) s m args below meth c H locs 0 0 Q (F0 m 0 ls []) := by
  have hx := B.1
  have hb := B.2.1
  unfold fM_liar at hf
  refine lv_aload_n hx hb dX4_liar_0 rfl (lv_at hl 0 rfl) ?_
  refine lv_iload_n hx hb dX4_liar_1 rfl (lv_at hl 1 rfl) ?_
  refine lv_iload_n hx hb dX4_liar_2 rfl (lv_at hl 2 rfl) ?_
  refine lv_iconst (v := (-1)) hx hb dX4_liar_3 (by decide) ?_
  obtain ⟨r_1, w_2, e_3, hf⟩ := b2s hf
  refine cM_fitting B hK hG e_3 ⟨Nat.le_of_ble_eq_true rfl, Nat.le_of_ble_eq_true rfl⟩ ⟨Nat.zero_le _, Nat.zero_le _⟩ hl.1 (Nat.le_of_ble_eq_true rfl) dX4_liar_4 (fun H locs hG => ?_)
  refine lv_if_le (tgt := 12) hx hb dX4_liar_7 (by decide) (fun c_4 => ?_) (fun c_4 => ?_)
  · have hf := ifp c_4 hf
    refine lv_iconst (v := (-1)) hx hb dX4_liar_12 (by decide) ?_
    refine lv_istore_n (lv' := [(3, .int (-1)), (0, .ref (a 0)), (1, .int x1), (2, .int x2)]) hx hb dX4_liar_13 rfl hl (by decide) rfl (fun ls hl => ?_)
    refine lv_iconst (v := (-1)) hx hb dX4_liar_14 (by decide) ?_
    refine lv_istore (lv' := [(4, .int (-1)), (3, .int (-1)), (0, .ref (a 0)), (1, .int x1), (2, .int x2)]) hx hb dX4_liar_15 hl (by decide) rfl (fun ls hl => ?_)
    refine lv_iconst (v := 0) hx hb dX4_liar_17 (by decide) ?_
    refine lv_istore (lv' := [(5, .int 0), (4, .int (-1)), (3, .int (-1)), (0, .ref (a 0)), (1, .int x1), (2, .int x2)]) hx hb dX4_liar_18 hl (by decide) rfl (fun ls hl => ?_)
    obtain ⟨⟨y_5, w_6⟩, e_8, hf⟩ := bo hf
    try dsimp only at hf
    refine vM_liar_L20 B hK e_8 ?_ hG (lv_sub hl [3, 4, 5, 2, 1, 0] rfl)
    intro z0 z1 hz
    cases hz
    intro H locs hG ls hl
    refine lv_iload_n hx hb dX4_liar_59 rfl (lv_at hl 0 rfl) ?_
    exact kr _ _ (Option.some.inj hf).symm _ _ hG _ _ dX4_liar_60
  · have hf := ifn c_4 hf
    refine lv_iconst (v := (-1)) hx hb dX4_liar_10 (by decide) ?_
    exact kr _ _ (Option.some.inj hf).symm _ _ hG _ _ dX4_liar_11

theorem tM_liar (l : Launch) (X : CX) (a : Nat → Nat) (rest : va_W) (w w' : MW) (x1 : Int32) (x2 : Int32) (r : Int32) (hf : fM_liar w x1 x2 = some (r, w')) : RW l yX4_liar cX4_liar 7 (some .int) 9 0 0 200 [.ref (a 0), .int x1, .int x2] X (MP X a w ++ rest) (MP X a w' ++ rest) (some (.int r)) := by
  refine RW.mk (by decide) (Nat.le_of_ble_eq_true rfl) ?_
  intro p e s m below meth c B hr hlk hK hG ls hl
  exact wM_liar B hK hf (fun r w h H locs hG pc ls hd => by cases h; exact w_iretW B hr hlk hG hd) hG hl
theorem cM_liar (B : CallFix p m c cc nL s args lw_all RX4) (hK : KK X s) (hG : GG X (MP X a w ++ rest) s.heap H locs) {x1 : Int32} {x2 : Int32} {r : Int32} {w' : MW} (hf : fM_liar w x1 x2 = some (r, w')) (hR : 9 + 1 ≤ R.frames ∧ 226 ≤ R.locals) (hcs : cells ≤ R.cells ∧ slots ≤ R.slots) (hl : ls.size = nL) (hcat : (st.map fun v => v.category).sum ≤ 8) (hdg : decode cc pc = .ok (.invokevirtual 274, 3)) (kk : ∀ (H1 : Heap) (locs1 : List Loc), GG X (MP X a w' ++ rest) s.heap H1 locs1 → W p l e R s m args below meth c H1 locs1 cells slots Q (F0 m (pc + 3) ls (.int r :: st))) : W p l e R s m args below meth c H locs cells slots Q (F0 m pc ls (.int x2 :: .int x1 :: .ref (a 0) :: st)) :=
  w_afterW (w_rV_RW (As := [.int x1, .int x2]) B hK hG (tM_liar l X a rest w w' x1 x2 r hf) (lw_V q1775 q1777 qs72 q91 q1778) 0 rfl rfl (n := 2) (by decide +kernel) hR hcs rfl hl rfl hcat hdg) hG.2.2 kk
end S_liar

section S_worstOf
variable {p : Program} {l : Launch} {e : Env} {R : Room} {s : State} {m : MethodId} {args : Array Value} {below : List Frame} {meth : Method} {c : Code} {H : Heap} {locs : List Loc} {cells slots : Nat} {Q : State → Prop} {cc : ByteArray} {nL pc : Nat} {ls : Array Slot} {st : List Value} {X : CX} {a : Nat → Nat} {w : MW} {rest : va_W}
noncomputable def fM_worstOf_L19 (w : MW) (x1 : Int32) (x2 : Int32) (x3 : Int32) (x4 : Int32) (x5 : Int32) (x6 : Int32) (x7 : Int32) : Option ((Int32 × Int32 × MW) ⊕ (Int32 × MW)) :=
  if 67 ≤ x7 then
    some (.inr (x6, w))
  else
    b2 (fM_fits w x1 x2 (-1) x7) fun r_2 w_3 =>
    if r_2 = 0 then
      (some (x7 + 1)).bind fun x_6 =>
      some (.inl (x6, x_6, w_3))
    else
      b2 (fM_armFor w_3 x3 x7) fun r_8 w_9 =>
      if r_8 = x5 then
        (some (x6 + 1)).bind fun x_14 =>
        (some (x7 + 1)).bind fun x_16 =>
        some (.inl (x_14, x_16, w_9))
      else
        (some (x7 + 1)).bind fun x_12 =>
        some (.inl (x6, x_12, w_9))

set_option maxHeartbeats 4000000 in
theorem wM_worstOf_L19 (B : CallFix p m c cX4_worstOf 8 s args lw_all RX4) (hK : KK X s) {w : MW} {x1 : Int32} {x2 : Int32} {x3 : Int32} {x4 : Int32} {x5 : Int32} {x6 : Int32} {x7 : Int32} {res : (Int32 × Int32 × MW) ⊕ (Int32 × MW)} (hf : fM_worstOf_L19 w x1 x2 x3 x4 x5 x6 x7 = some res) (kc : ∀ (y6 : Int32) (y7 : Int32) (w1 : MW), res = .inl (y6, y7, w1) → ∀ (H : Heap) (locs : List Loc), GG X (MP X a w1 ++ rest) s.heap H locs → ∀ (ls : Array Slot), lv_has ls 8 [(0, .ref (a 0)), (1, .int x1), (2, .int x2), (3, .int x3), (4, .int x4), (5, .int x5), (6, .int y6), (7, .int y7)] → W p l e (RMw 8 0 0 175) s m args below meth c H locs 0 0 Q (F0 m 19 ls [])) (ke59 : ∀ (y6 : Int32) (w1 : MW), res = .inr (y6, w1) → ∀ (H : Heap) (locs : List Loc), GG X (MP X a w1 ++ rest) s.heap H locs → ∀ (ls : Array Slot), lv_has ls 8 [(0, .ref (a 0)), (1, .int x1), (2, .int x2), (3, .int x3), (4, .int x4), (5, .int x5), (6, .int y6)] → W p l e (RMw 8 0 0 175) s m args below meth c H locs 0 0 Q (F0 m 59 ls [])) {H : Heap} {locs : List Loc} (hG : GG X (MP X a w ++ rest) s.heap H locs) {ls : Array Slot} (hl : lv_has ls 8 [(0, .ref (a 0)), (1, .int x1), (2, .int x2), (3, .int x3), (4, .int x4), (5, .int x5), (6, .int x6), (7, .int x7)]) : W p l e (RMw 8 0 0 175) s m args below meth c H locs 0 0 Q (F0 m 19 ls []) := by
  have hx := B.1
  have hb := B.2.1
  unfold fM_worstOf_L19 at hf
  refine lv_iload hx hb dX4_worstOf_19 (lv_at hl 7 rfl) ?_
  refine lv_bipush (v := 67) hx hb dX4_worstOf_21 (by decide) ?_
  refine lv_icmp_ge (tgt := 59) hx hb dX4_worstOf_23 (by decide) (fun c_1 => ?_) (fun c_1 => ?_)
  · have hf := ifp c_1 hf
    exact ke59 _ _ (Option.some.inj hf).symm _ _ hG _ (lv_sub hl [0, 1, 2, 3, 4, 5, 6] rfl)
  · have hf := ifn c_1 hf
    refine lv_aload_n hx hb dX4_worstOf_26 rfl (lv_at hl 0 rfl) ?_
    refine lv_iload_n hx hb dX4_worstOf_27 rfl (lv_at hl 1 rfl) ?_
    refine lv_iload_n hx hb dX4_worstOf_28 rfl (lv_at hl 2 rfl) ?_
    refine lv_iconst (v := (-1)) hx hb dX4_worstOf_29 (by decide) ?_
    refine lv_iload hx hb dX4_worstOf_30 (lv_at hl 7 rfl) ?_
    obtain ⟨r_2, w_3, e_4, hf⟩ := b2s hf
    refine cM_fits B hK hG e_4 ⟨Nat.le_of_ble_eq_true rfl, Nat.le_of_ble_eq_true rfl⟩ ⟨Nat.zero_le _, Nat.zero_le _⟩ hl.1 (Nat.le_of_ble_eq_true rfl) dX4_worstOf_32 (fun H locs hG => ?_)
    refine lv_if_eq (tgt := 53) hx hb dX4_worstOf_35 (by decide) (fun c_5 => ?_) (fun c_5 => ?_)
    · have hf := ifp c_5 hf
      obtain ⟨x_6, e_7, hf⟩ := bo hf
      refine w_iinc (k := 7) (lv' := [(7, .int x_6), (0, .ref (a 0)), (1, .int x1), (2, .int x2), (3, .int x3), (4, .int x4), (5, .int x5), (6, .int x6)]) e_7 hx hb dX4_worstOf_53 hl rfl (by decide) rfl (fun ls hl => ?_)
      refine lv_goto (tgt := 19) hx hb dX4_worstOf_56 (by decide) ?_
      exact kc _ _ _ (Option.some.inj hf).symm _ _ hG _ (lv_sub hl [1, 2, 3, 4, 5, 6, 7, 0] rfl)
    · have hf := ifn c_5 hf
      refine lv_aload_n hx hb dX4_worstOf_38 rfl (lv_at hl 0 rfl) ?_
      refine lv_iload_n hx hb dX4_worstOf_39 rfl (lv_at hl 3 rfl) ?_
      refine lv_iload hx hb dX4_worstOf_40 (lv_at hl 7 rfl) ?_
      obtain ⟨r_8, w_9, e_10, hf⟩ := b2s hf
      refine cM_armFor B hK hG e_10 ⟨Nat.le_of_ble_eq_true rfl, Nat.le_of_ble_eq_true rfl⟩ ⟨Nat.zero_le _, Nat.zero_le _⟩ hl.1 (Nat.le_of_ble_eq_true rfl) dX4_worstOf_42 (fun H locs hG => ?_)
      refine lv_iload hx hb dX4_worstOf_45 (lv_at hl 5 rfl) ?_
      refine lv_icmp_ne (tgt := 53) hx hb dX4_worstOf_47 (by decide) (fun c_11 => ?_) (fun c_11 => ?_)
      · have hf := ifn c_11 hf
        obtain ⟨x_12, e_13, hf⟩ := bo hf
        refine w_iinc (k := 7) (lv' := [(7, .int x_12), (0, .ref (a 0)), (1, .int x1), (2, .int x2), (3, .int x3), (4, .int x4), (5, .int x5), (6, .int x6)]) e_13 hx hb dX4_worstOf_53 hl rfl (by decide) rfl (fun ls hl => ?_)
        refine lv_goto (tgt := 19) hx hb dX4_worstOf_56 (by decide) ?_
        exact kc _ _ _ (Option.some.inj hf).symm _ _ hG _ (lv_sub hl [1, 2, 3, 4, 5, 6, 7, 0] rfl)
      · have hf := ifp c_11 hf
        obtain ⟨x_14, e_15, hf⟩ := bo hf
        refine w_iinc (k := 6) (lv' := [(6, .int x_14), (0, .ref (a 0)), (1, .int x1), (2, .int x2), (3, .int x3), (4, .int x4), (5, .int x5), (7, .int x7)]) e_15 hx hb dX4_worstOf_50 hl rfl (by decide) rfl (fun ls hl => ?_)
        obtain ⟨x_16, e_17, hf⟩ := bo hf
        refine w_iinc (k := 7) (lv' := [(7, .int x_16), (6, .int x_14), (0, .ref (a 0)), (1, .int x1), (2, .int x2), (3, .int x3), (4, .int x4), (5, .int x5)]) e_17 hx hb dX4_worstOf_53 hl rfl (by decide) rfl (fun ls hl => ?_)
        refine lv_goto (tgt := 19) hx hb dX4_worstOf_56 (by decide) ?_
        exact kc _ _ _ (Option.some.inj hf).symm _ _ hG _ (lv_sub hl [2, 3, 4, 5, 6, 7, 1, 0] rfl)

set_option maxHeartbeats 4000000 in
theorem vM_worstOf_L19 (B : CallFix p m c cX4_worstOf 8 s args lw_all RX4) (hK : KK X s) {w : MW} {x1 : Int32} {x2 : Int32} {x3 : Int32} {x4 : Int32} {x5 : Int32} {x6 : Int32} {x7 : Int32} {res : Int32 × MW} (hf : lp (fun q : Int32 × Int32 × MW => fM_worstOf_L19 q.2.2 x1 x2 x3 x4 x5 q.1 q.2.1) (x6, x7, w) = some res) (ke59 : ∀ (y6 : Int32) (w1 : MW), res = (y6, w1) → ∀ (H : Heap) (locs : List Loc), GG X (MP X a w1 ++ rest) s.heap H locs → ∀ (ls : Array Slot), lv_has ls 8 [(0, .ref (a 0)), (1, .int x1), (2, .int x2), (3, .int x3), (4, .int x4), (5, .int x5), (6, .int y6)] → W p l e (RMw 8 0 0 175) s m args below meth c H locs 0 0 Q (F0 m 59 ls [])) {H : Heap} {locs : List Loc} (hG : GG X (MP X a w ++ rest) s.heap H locs) {ls : Array Slot} (hl : lv_has ls 8 [(0, .ref (a 0)), (1, .int x1), (2, .int x2), (3, .int x3), (4, .int x4), (5, .int x5), (6, .int x6), (7, .int x7)]) : W p l e (RMw 8 0 0 175) s m args below meth c H locs 0 0 Q (F0 m 19 ls []) := by
  refine lp_ind (r := res) (P := fun q : Int32 × Int32 × MW => ∀ (H : Heap) (locs : List Loc) (ls : Array Slot), GG X (MP X a q.2.2 ++ rest) s.heap H locs → lv_has ls 8 [(0, .ref (a 0)), (1, .int x1), (2, .int x2), (3, .int x3), (4, .int x4), (5, .int x5), (6, .int q.1), (7, .int q.2.1)] → W p l e (RMw 8 0 0 175) s m args below meth c H locs 0 0 Q (F0 m 19 ls [])) ?_ ?_ _ hf _ _ _ hG hl
  · intro q hb H locs ls hG hl
    exact wM_worstOf_L19 B hK hb (fun _ _ _ h => by cases h) (fun z0 z1 h => ke59 z0 z1 (Sum.inr.inj h)) hG hl
  · intro q q2 hb ih H locs ls hG hl
    exact wM_worstOf_L19 B hK hb (fun z0 z1 z2 h => by cases h; exact fun H locs hG ls hl => ih H locs ls hG hl) (fun _ _ h => by cases h) hG hl

noncomputable def fM_worstOf_L6 (w : MW) (x1 : Int32) (x2 : Int32) (x3 : Int32) (x4 : Int32) (x5 : Int32) : Option ((Int32 × Int32 × MW) ⊕ (Int32 × MW)) :=
  if 9 ≤ x5 then
    some (.inr (x4, w))
  else
    (lp (fun q : Int32 × Int32 × MW => fM_worstOf_L19 q.2.2 x1 x2 x3 x4 x5 q.1 q.2.1) (0, 0, w)).bind (
      fun q_8 => (fun (y_2 : Int32) (w_3 : MW) =>
        (some (imax x4 y_2)).bind fun x_4 =>
        (some (x5 + 1)).bind fun x_6 =>
        some (.inl (x_4, x_6, w_3))
      ) q_8.1 q_8.2
    )

set_option maxHeartbeats 4000000 in
theorem wM_worstOf_L6 (B : CallFix p m c cX4_worstOf 8 s args lw_all RX4) (hK : KK X s) {w : MW} {x1 : Int32} {x2 : Int32} {x3 : Int32} {x4 : Int32} {x5 : Int32} {res : (Int32 × Int32 × MW) ⊕ (Int32 × MW)} (hf : fM_worstOf_L6 w x1 x2 x3 x4 x5 = some res) (kc : ∀ (y4 : Int32) (y5 : Int32) (w1 : MW), res = .inl (y4, y5, w1) → ∀ (H : Heap) (locs : List Loc), GG X (MP X a w1 ++ rest) s.heap H locs → ∀ (ls : Array Slot), lv_has ls 8 [(0, .ref (a 0)), (1, .int x1), (2, .int x2), (3, .int x3), (4, .int y4), (5, .int y5)] → W p l e (RMw 8 0 0 175) s m args below meth c H locs 0 0 Q (F0 m 6 ls [])) (ke74 : ∀ (y4 : Int32) (w1 : MW), res = .inr (y4, w1) → ∀ (H : Heap) (locs : List Loc), GG X (MP X a w1 ++ rest) s.heap H locs → ∀ (ls : Array Slot), lv_has ls 8 [(4, .int y4)] → W p l e (RMw 8 0 0 175) s m args below meth c H locs 0 0 Q (F0 m 74 ls [])) {H : Heap} {locs : List Loc} (hG : GG X (MP X a w ++ rest) s.heap H locs) {ls : Array Slot} (hl : lv_has ls 8 [(0, .ref (a 0)), (1, .int x1), (2, .int x2), (3, .int x3), (4, .int x4), (5, .int x5)]) : W p l e (RMw 8 0 0 175) s m args below meth c H locs 0 0 Q (F0 m 6 ls []) := by
  have hx := B.1
  have hb := B.2.1
  unfold fM_worstOf_L6 at hf
  refine lv_iload hx hb dX4_worstOf_6 (lv_at hl 5 rfl) ?_
  refine lv_bipush (v := 9) hx hb dX4_worstOf_8 (by decide) ?_
  refine lv_icmp_ge (tgt := 74) hx hb dX4_worstOf_10 (by decide) (fun c_1 => ?_) (fun c_1 => ?_)
  · have hf := ifp c_1 hf
    exact ke74 _ _ (Option.some.inj hf).symm _ _ hG _ (lv_sub hl [4] rfl)
  · have hf := ifn c_1 hf
    refine lv_iconst (v := 0) hx hb dX4_worstOf_13 (by decide) ?_
    refine lv_istore (lv' := [(6, .int 0), (0, .ref (a 0)), (1, .int x1), (2, .int x2), (3, .int x3), (4, .int x4), (5, .int x5)]) hx hb dX4_worstOf_14 hl (by decide) rfl (fun ls hl => ?_)
    refine lv_iconst (v := 0) hx hb dX4_worstOf_16 (by decide) ?_
    refine lv_istore (lv' := [(7, .int 0), (6, .int 0), (0, .ref (a 0)), (1, .int x1), (2, .int x2), (3, .int x3), (4, .int x4), (5, .int x5)]) hx hb dX4_worstOf_17 hl (by decide) rfl (fun ls hl => ?_)
    obtain ⟨⟨y_2, w_3⟩, e_9, hf⟩ := bo hf
    try dsimp only at hf
    refine vM_worstOf_L19 B hK e_9 ?_ hG (lv_sub hl [2, 3, 4, 5, 6, 7, 1, 0] rfl)
    intro z0 z1 hz
    cases hz
    intro H locs hG ls hl
    refine lv_iload hx hb dX4_worstOf_59 (lv_at hl 4 rfl) ?_
    refine lv_iload hx hb dX4_worstOf_61 (lv_at hl 6 rfl) ?_
    refine w_max B hl.1 q1774 q813 q104 q814 (Nat.le_of_ble_eq_true rfl) (Nat.le_of_ble_eq_true rfl) (Nat.le_of_ble_eq_true rfl) (Nat.zero_le _) (Nat.zero_le _) dX4_worstOf_63 ?_
    obtain ⟨x_4, e_5, hf⟩ := bo hf
    refine w_istore (lv' := [(4, .int x_4), (0, .ref (a 0)), (1, .int x1), (2, .int x2), (3, .int x3), (5, .int x5), (6, .int y_2)]) e_5 hx hb dX4_worstOf_66 hl (by decide) rfl (fun ls hl => ?_)
    obtain ⟨x_6, e_7, hf⟩ := bo hf
    refine w_iinc (k := 5) (lv' := [(5, .int x_6), (4, .int x_4), (0, .ref (a 0)), (1, .int x1), (2, .int x2), (3, .int x3), (6, .int y_2)]) e_7 hx hb dX4_worstOf_68 hl rfl (by decide) rfl (fun ls hl => ?_)
    refine lv_goto (tgt := 6) hx hb dX4_worstOf_71 (by decide) ?_
    exact kc _ _ _ (Option.some.inj hf).symm _ _ hG _ (lv_sub hl [2, 3, 4, 5, 1, 0] rfl)

set_option maxHeartbeats 4000000 in
theorem vM_worstOf_L6 (B : CallFix p m c cX4_worstOf 8 s args lw_all RX4) (hK : KK X s) {w : MW} {x1 : Int32} {x2 : Int32} {x3 : Int32} {x4 : Int32} {x5 : Int32} {res : Int32 × MW} (hf : lp (fun q : Int32 × Int32 × MW => fM_worstOf_L6 q.2.2 x1 x2 x3 q.1 q.2.1) (x4, x5, w) = some res) (ke74 : ∀ (y4 : Int32) (w1 : MW), res = (y4, w1) → ∀ (H : Heap) (locs : List Loc), GG X (MP X a w1 ++ rest) s.heap H locs → ∀ (ls : Array Slot), lv_has ls 8 [(4, .int y4)] → W p l e (RMw 8 0 0 175) s m args below meth c H locs 0 0 Q (F0 m 74 ls [])) {H : Heap} {locs : List Loc} (hG : GG X (MP X a w ++ rest) s.heap H locs) {ls : Array Slot} (hl : lv_has ls 8 [(0, .ref (a 0)), (1, .int x1), (2, .int x2), (3, .int x3), (4, .int x4), (5, .int x5)]) : W p l e (RMw 8 0 0 175) s m args below meth c H locs 0 0 Q (F0 m 6 ls []) := by
  refine lp_ind (r := res) (P := fun q : Int32 × Int32 × MW => ∀ (H : Heap) (locs : List Loc) (ls : Array Slot), GG X (MP X a q.2.2 ++ rest) s.heap H locs → lv_has ls 8 [(0, .ref (a 0)), (1, .int x1), (2, .int x2), (3, .int x3), (4, .int q.1), (5, .int q.2.1)] → W p l e (RMw 8 0 0 175) s m args below meth c H locs 0 0 Q (F0 m 6 ls [])) ?_ ?_ _ hf _ _ _ hG hl
  · intro q hb H locs ls hG hl
    exact wM_worstOf_L6 B hK hb (fun _ _ _ h => by cases h) (fun z0 z1 h => ke74 z0 z1 (Sum.inr.inj h)) hG hl
  · intro q q2 hb ih H locs ls hG hl
    exact wM_worstOf_L6 B hK hb (fun z0 z1 z2 h => by cases h; exact fun H locs hG ls hl => ih H locs ls hG hl) (fun _ _ h => by cases h) hG hl

noncomputable def fM_worstOf (w : MW) (x1 : Int32) (x2 : Int32) (x3 : Int32) : Option (Int32 × MW) :=
  (lp (fun q : Int32 × Int32 × MW => fM_worstOf_L6 q.2.2 x1 x2 x3 q.1 q.2.1) (0, (-1), w)).bind (
    fun q_3 => (fun (y_1 : Int32) (w_2 : MW) =>
      some (y_1, w_2)
    ) q_3.1 q_3.2
  )

set_option maxHeartbeats 4000000 in
theorem wM_worstOf (B : CallFix p m c cX4_worstOf 8 s args lw_all RX4) (hK : KK X s) {w : MW} {x1 : Int32} {x2 : Int32} {x3 : Int32} {res : Int32 × MW} (hf : fM_worstOf w x1 x2 x3 = some res) (kr : ∀ (r : Int32) (w1 : MW), res = (r, w1) → ∀ (H : Heap) (locs : List Loc), GG X (MP X a w1 ++ rest) s.heap H locs → ∀ (pc : Nat) (ls : Array Slot), decode cX4_worstOf pc = .ok (.ireturn, 1) → W p l e (RMw 8 0 0 175) s m args below meth c H locs 0 0 Q (F0 m pc ls [.int r])) {H : Heap} {locs : List Loc} (hG : GG X (MP X a w ++ rest) s.heap H locs) {ls : Array Slot} (hl : lv_has ls 8 [(0, .ref (a 0)), (1, .int x1), (2, .int x2), (3, .int x3)]) : W p l e (RMw 8 0 0 175) s m args below meth c H locs 0 0 Q (F0 m 0 ls []) := by
  have hx := B.1
  have hb := B.2.1
  unfold fM_worstOf at hf
  refine lv_iconst (v := 0) hx hb dX4_worstOf_0 (by decide) ?_
  refine lv_istore (lv' := [(4, .int 0), (0, .ref (a 0)), (1, .int x1), (2, .int x2), (3, .int x3)]) hx hb dX4_worstOf_1 hl (by decide) rfl (fun ls hl => ?_)
  refine lv_iconst (v := (-1)) hx hb dX4_worstOf_3 (by decide) ?_
  refine lv_istore (lv' := [(5, .int (-1)), (4, .int 0), (0, .ref (a 0)), (1, .int x1), (2, .int x2), (3, .int x3)]) hx hb dX4_worstOf_4 hl (by decide) rfl (fun ls hl => ?_)
  obtain ⟨⟨y_1, w_2⟩, e_4, hf⟩ := bo hf
  try dsimp only at hf
  refine vM_worstOf_L6 B hK e_4 ?_ hG (lv_sub hl [2, 3, 4, 5, 1, 0] rfl)
  intro z0 z1 hz
  cases hz
  intro H locs hG ls hl
  refine lv_iload hx hb dX4_worstOf_74 (lv_at hl 0 rfl) ?_
  exact kr _ _ (Option.some.inj hf).symm _ _ hG _ _ dX4_worstOf_76

theorem tM_worstOf (l : Launch) (X : CX) (a : Nat → Nat) (rest : va_W) (w w' : MW) (x1 : Int32) (x2 : Int32) (x3 : Int32) (r : Int32) (hf : fM_worstOf w x1 x2 x3 = some (r, w')) : RW l yX4_worstOf cX4_worstOf 8 (some .int) 8 0 0 175 [.ref (a 0), .int x1, .int x2, .int x3] X (MP X a w ++ rest) (MP X a w' ++ rest) (some (.int r)) := by
  refine RW.mk (by decide) (Nat.le_of_ble_eq_true rfl) ?_
  intro p e s m below meth c B hr hlk hK hG ls hl
  exact wM_worstOf B hK hf (fun r w h H locs hG pc ls hd => by cases h; exact w_iretW B hr hlk hG hd) hG hl
theorem cM_worstOf (B : CallFix p m c cc nL s args lw_all RX4) (hK : KK X s) (hG : GG X (MP X a w ++ rest) s.heap H locs) {x1 : Int32} {x2 : Int32} {x3 : Int32} {r : Int32} {w' : MW} (hf : fM_worstOf w x1 x2 x3 = some (r, w')) (hR : 8 + 1 ≤ R.frames ∧ 202 ≤ R.locals) (hcs : cells ≤ R.cells ∧ slots ≤ R.slots) (hl : ls.size = nL) (hcat : (st.map fun v => v.category).sum ≤ 8) (hdg : decode cc pc = .ok (.invokevirtual 268, 3)) (kk : ∀ (H1 : Heap) (locs1 : List Loc), GG X (MP X a w' ++ rest) s.heap H1 locs1 → W p l e R s m args below meth c H1 locs1 cells slots Q (F0 m (pc + 3) ls (.int r :: st))) : W p l e R s m args below meth c H locs cells slots Q (F0 m pc ls (.int x3 :: .int x2 :: .int x1 :: .ref (a 0) :: st)) :=
  w_afterW (w_rV_RW (As := [.int x1, .int x2, .int x3]) B hK hG (tM_worstOf l X a rest w w' x1 x2 x3 r hf) (lw_V q1770 q1772 qs71 q91 q1773) 0 rfl rfl (n := 3) (by decide +kernel) hR hcs rfl hl rfl hcat hdg) hG.2.2 kk
end S_worstOf

section S_asked
variable {p : Program} {l : Launch} {e : Env} {R : Room} {s : State} {m : MethodId} {args : Array Value} {below : List Frame} {meth : Method} {c : Code} {H : Heap} {locs : List Loc} {cells slots : Nat} {Q : State → Prop} {cc : ByteArray} {nL pc : Nat} {ls : Array Slot} {st : List Value} {X : CX} {a : Nat → Nat} {w : MW} {rest : va_W}
noncomputable def fM_asked_J55_L21 (w : MW) (x1 : Int32) (x2 : Int32) (x5 : Int32) (x6 : Int32) : Option ((Int32 × Int32 × Int32 × MW) ⊕ (Int32 × MW)) :=
  (some (x5 + 1)).bind fun x_1 =>
  some (.inl (x5, x6, x_1, w))

set_option maxHeartbeats 4000000 in
theorem wM_asked_J55_L21 (B : CallFix p m c cX4_asked 7 s args lw_all RX4) (hK : KK X s) {w : MW} {x1 : Int32} {x2 : Int32} {x5 : Int32} {x6 : Int32} {res : (Int32 × Int32 × Int32 × MW) ⊕ (Int32 × MW)} (hf : fM_asked_J55_L21 w x1 x2 x5 x6 = some res) (kc : ∀ (y3 : Int32) (y4 : Int32) (y5 : Int32) (w1 : MW), res = .inl (y3, y4, y5, w1) → ∀ (H : Heap) (locs : List Loc), GG X (MP X a w1 ++ rest) s.heap H locs → ∀ (ls : Array Slot), lv_has ls 7 [(0, .ref (a 0)), (1, .int x1), (2, .int x2), (3, .int y3), (4, .int y4), (5, .int y5)] → W p l e (RMw 9 0 0 202) s m args below meth c H locs 0 0 Q (F0 m 21 ls [])) (ke68 : ∀ (y3 : Int32) (w1 : MW), res = .inr (y3, w1) → ∀ (H : Heap) (locs : List Loc), GG X (MP X a w1 ++ rest) s.heap H locs → ∀ (ls : Array Slot), lv_has ls 7 [(3, .int y3)] → W p l e (RMw 9 0 0 202) s m args below meth c H locs 0 0 Q (F0 m 68 ls [])) {H : Heap} {locs : List Loc} (hG : GG X (MP X a w ++ rest) s.heap H locs) {ls : Array Slot} (hl : lv_has ls 7 [(0, .ref (a 0)), (1, .int x1), (2, .int x2), (5, .int x5), (6, .int x6)]) : W p l e (RMw 9 0 0 202) s m args below meth c H locs 0 0 Q (F0 m 55 ls []) := by
  have hx := B.1
  have hb := B.2.1
  unfold fM_asked_J55_L21 at hf
  refine lv_iload hx hb dX4_asked_55 (lv_at hl 4 rfl) ?_
  refine lv_istore (lv' := [(4, .int x6), (0, .ref (a 0)), (1, .int x1), (2, .int x2), (5, .int x5), (6, .int x6)]) hx hb dX4_asked_57 hl (by decide) rfl (fun ls hl => ?_)
  refine lv_iload hx hb dX4_asked_59 (lv_at hl 4 rfl) ?_
  refine lv_istore_n (lv' := [(3, .int x5), (4, .int x6), (0, .ref (a 0)), (1, .int x1), (2, .int x2), (5, .int x5), (6, .int x6)]) hx hb dX4_asked_61 rfl hl (by decide) rfl (fun ls hl => ?_)
  obtain ⟨x_1, e_2, hf⟩ := bo hf
  refine w_iinc (k := 5) (lv' := [(5, .int x_1), (3, .int x5), (4, .int x6), (0, .ref (a 0)), (1, .int x1), (2, .int x2), (6, .int x6)]) e_2 hx hb dX4_asked_62 hl rfl (by decide) rfl (fun ls hl => ?_)
  refine lv_goto (tgt := 21) hx hb dX4_asked_65 (by decide) ?_
  exact kc _ _ _ _ (Option.some.inj hf).symm _ _ hG _ (lv_sub hl [3, 4, 5, 1, 2, 0] rfl)

noncomputable def fM_asked_L21 (w : MW) (x1 : Int32) (x2 : Int32) (x3 : Int32) (x4 : Int32) (x5 : Int32) : Option ((Int32 × Int32 × Int32 × MW) ⊕ (Int32 × MW)) :=
  if (w.1 3) ≤ x5 then
    some (.inr (x3, w))
  else
    b2 (fM_worstOf w x1 x2 x5) fun r_2 w_3 =>
    if x3 = (-1) then
      fM_asked_J55_L21 w_3 x1 x2 x5 r_2
    else
      if r_2 < x4 then
        fM_asked_J55_L21 w_3 x1 x2 x5 r_2
      else
        (some (x5 + 1)).bind fun x_7 =>
        some (.inl (x3, x4, x_7, w_3))

set_option maxHeartbeats 4000000 in
theorem wM_asked_L21 (B : CallFix p m c cX4_asked 7 s args lw_all RX4) (hK : KK X s) {w : MW} {x1 : Int32} {x2 : Int32} {x3 : Int32} {x4 : Int32} {x5 : Int32} {res : (Int32 × Int32 × Int32 × MW) ⊕ (Int32 × MW)} (hf : fM_asked_L21 w x1 x2 x3 x4 x5 = some res) (kc : ∀ (y3 : Int32) (y4 : Int32) (y5 : Int32) (w1 : MW), res = .inl (y3, y4, y5, w1) → ∀ (H : Heap) (locs : List Loc), GG X (MP X a w1 ++ rest) s.heap H locs → ∀ (ls : Array Slot), lv_has ls 7 [(0, .ref (a 0)), (1, .int x1), (2, .int x2), (3, .int y3), (4, .int y4), (5, .int y5)] → W p l e (RMw 9 0 0 202) s m args below meth c H locs 0 0 Q (F0 m 21 ls [])) (ke68 : ∀ (y3 : Int32) (w1 : MW), res = .inr (y3, w1) → ∀ (H : Heap) (locs : List Loc), GG X (MP X a w1 ++ rest) s.heap H locs → ∀ (ls : Array Slot), lv_has ls 7 [(3, .int y3)] → W p l e (RMw 9 0 0 202) s m args below meth c H locs 0 0 Q (F0 m 68 ls [])) {H : Heap} {locs : List Loc} (hG : GG X (MP X a w ++ rest) s.heap H locs) {ls : Array Slot} (hl : lv_has ls 7 [(0, .ref (a 0)), (1, .int x1), (2, .int x2), (3, .int x3), (4, .int x4), (5, .int x5)]) : W p l e (RMw 9 0 0 202) s m args below meth c H locs 0 0 Q (F0 m 21 ls []) := by
  have hx := B.1
  have hb := B.2.1
  unfold fM_asked_L21 at hf
  refine lv_iload hx hb dX4_asked_21 (lv_at hl 5 rfl) ?_
  refine lv_aload_n hx hb dX4_asked_23 rfl (lv_at hl 0 rfl) ?_
  refine mo_g3 B hK hG.1 dX4_asked_24 ?_
  refine lv_icmp_ge (tgt := 68) hx hb dX4_asked_27 (by decide) (fun c_1 => ?_) (fun c_1 => ?_)
  · have hf := ifp c_1 hf
    exact ke68 _ _ (Option.some.inj hf).symm _ _ hG _ (lv_sub hl [3] rfl)
  · have hf := ifn c_1 hf
    refine lv_aload_n hx hb dX4_asked_30 rfl (lv_at hl 0 rfl) ?_
    refine lv_iload_n hx hb dX4_asked_31 rfl (lv_at hl 1 rfl) ?_
    refine lv_iload_n hx hb dX4_asked_32 rfl (lv_at hl 2 rfl) ?_
    refine lv_iload hx hb dX4_asked_33 (lv_at hl 5 rfl) ?_
    obtain ⟨r_2, w_3, e_4, hf⟩ := b2s hf
    refine cM_worstOf B hK hG e_4 ⟨Nat.le_of_ble_eq_true rfl, Nat.le_of_ble_eq_true rfl⟩ ⟨Nat.zero_le _, Nat.zero_le _⟩ hl.1 (Nat.le_of_ble_eq_true rfl) dX4_asked_35 (fun H locs hG => ?_)
    refine lv_istore (lv' := [(6, .int r_2), (0, .ref (a 0)), (1, .int x1), (2, .int x2), (3, .int x3), (4, .int x4), (5, .int x5)]) hx hb dX4_asked_38 hl (by decide) rfl (fun ls hl => ?_)
    refine lv_iload_n hx hb dX4_asked_40 rfl (lv_at hl 4 rfl) ?_
    refine lv_iconst (v := (-1)) hx hb dX4_asked_41 (by decide) ?_
    refine lv_icmp_eq (tgt := 55) hx hb dX4_asked_42 (by decide) (fun c_5 => ?_) (fun c_5 => ?_)
    · have hf := ifp c_5 hf
      exact wM_asked_J55_L21 B hK hf kc ke68 hG (lv_sub hl [1, 2, 3, 6, 0] rfl)
    · have hf := ifn c_5 hf
      refine lv_iload hx hb dX4_asked_45 (lv_at hl 0 rfl) ?_
      refine lv_iload hx hb dX4_asked_47 (lv_at hl 5 rfl) ?_
      refine lv_icmp_lt (tgt := 55) hx hb dX4_asked_49 (by decide) (fun c_6 => ?_) (fun c_6 => ?_)
      · have hf := ifp c_6 hf
        exact wM_asked_J55_L21 B hK hf kc ke68 hG (lv_sub hl [1, 2, 3, 6, 0] rfl)
      · have hf := ifn c_6 hf
        refine lv_goto (tgt := 62) hx hb dX4_asked_52 (by decide) ?_
        obtain ⟨x_7, e_8, hf⟩ := bo hf
        refine w_iinc (k := 6) (lv' := [(5, .int x_7), (6, .int r_2), (0, .ref (a 0)), (1, .int x1), (2, .int x2), (3, .int x3), (4, .int x4)]) e_8 hx hb dX4_asked_62 hl rfl (by decide) rfl (fun ls hl => ?_)
        refine lv_goto (tgt := 21) hx hb dX4_asked_65 (by decide) ?_
        exact kc _ _ _ _ (Option.some.inj hf).symm _ _ hG _ (lv_sub hl [2, 3, 4, 5, 6, 0] rfl)

set_option maxHeartbeats 4000000 in
theorem vM_asked_L21 (B : CallFix p m c cX4_asked 7 s args lw_all RX4) (hK : KK X s) {w : MW} {x1 : Int32} {x2 : Int32} {x3 : Int32} {x4 : Int32} {x5 : Int32} {res : Int32 × MW} (hf : lp (fun q : Int32 × Int32 × Int32 × MW => fM_asked_L21 q.2.2.2 x1 x2 q.1 q.2.1 q.2.2.1) (x3, x4, x5, w) = some res) (ke68 : ∀ (y3 : Int32) (w1 : MW), res = (y3, w1) → ∀ (H : Heap) (locs : List Loc), GG X (MP X a w1 ++ rest) s.heap H locs → ∀ (ls : Array Slot), lv_has ls 7 [(3, .int y3)] → W p l e (RMw 9 0 0 202) s m args below meth c H locs 0 0 Q (F0 m 68 ls [])) {H : Heap} {locs : List Loc} (hG : GG X (MP X a w ++ rest) s.heap H locs) {ls : Array Slot} (hl : lv_has ls 7 [(0, .ref (a 0)), (1, .int x1), (2, .int x2), (3, .int x3), (4, .int x4), (5, .int x5)]) : W p l e (RMw 9 0 0 202) s m args below meth c H locs 0 0 Q (F0 m 21 ls []) := by
  refine lp_ind (r := res) (P := fun q : Int32 × Int32 × Int32 × MW => ∀ (H : Heap) (locs : List Loc) (ls : Array Slot), GG X (MP X a q.2.2.2 ++ rest) s.heap H locs → lv_has ls 7 [(0, .ref (a 0)), (1, .int x1), (2, .int x2), (3, .int q.1), (4, .int q.2.1), (5, .int q.2.2.1)] → W p l e (RMw 9 0 0 202) s m args below meth c H locs 0 0 Q (F0 m 21 ls [])) ?_ ?_ _ hf _ _ _ hG hl
  · intro q hb H locs ls hG hl
    exact wM_asked_L21 B hK hb (fun _ _ _ _ h => by cases h) (fun z0 z1 h => ke68 z0 z1 (Sum.inr.inj h)) hG hl
  · intro q q2 hb ih H locs ls hG hl
    exact wM_asked_L21 B hK hb (fun z0 z1 z2 z3 h => by cases h; exact fun H locs hG ls hl => ih H locs ls hG hl) (fun _ _ h => by cases h) hG hl

noncomputable def fM_asked (w : MW) (x1 : Int32) (x2 : Int32) : Option (Int32 × MW) :=
  b2 (fM_fitting w x1 x2 (-1)) fun r_1 w_2 =>
  if 2 ≤ r_1 then
    (lp (fun q : Int32 × Int32 × Int32 × MW => fM_asked_L21 q.2.2.2 x1 x2 q.1 q.2.1 q.2.2.1) ((-1), 0, 0, w_2)).bind (
      fun q_7 => (fun (y_5 : Int32) (w_6 : MW) =>
        some (y_5, w_6)
      ) q_7.1 q_7.2
    )
  else
    some ((-1), w_2)

set_option maxHeartbeats 4000000 in
theorem wM_asked (B : CallFix p m c cX4_asked 7 s args lw_all RX4) (hK : KK X s) {w : MW} {x1 : Int32} {x2 : Int32} {res : Int32 × MW} (hf : fM_asked w x1 x2 = some res) (kr : ∀ (r : Int32) (w1 : MW), res = (r, w1) → ∀ (H : Heap) (locs : List Loc), GG X (MP X a w1 ++ rest) s.heap H locs → ∀ (pc : Nat) (ls : Array Slot), decode cX4_asked pc = .ok (.ireturn, 1) → W p l e (RMw 9 0 0 202) s m args below meth c H locs 0 0 Q (F0 m pc ls [.int r])) {H : Heap} {locs : List Loc} (hG : GG X (MP X a w ++ rest) s.heap H locs) {ls : Array Slot} (hl : lv_has ls 7 [(0, .ref (a 0)), (1, .int x1), (2, .int x2)]) : W p l e (RMw 9 0 0 202) s m args below meth c H locs 0 0 Q (F0 m 0 ls []) := by
  have hx := B.1
  have hb := B.2.1
  unfold fM_asked at hf
  refine lv_aload_n hx hb dX4_asked_0 rfl (lv_at hl 0 rfl) ?_
  refine lv_iload_n hx hb dX4_asked_1 rfl (lv_at hl 1 rfl) ?_
  refine lv_iload_n hx hb dX4_asked_2 rfl (lv_at hl 2 rfl) ?_
  refine lv_iconst (v := (-1)) hx hb dX4_asked_3 (by decide) ?_
  obtain ⟨r_1, w_2, e_3, hf⟩ := b2s hf
  refine cM_fitting B hK hG e_3 ⟨Nat.le_of_ble_eq_true rfl, Nat.le_of_ble_eq_true rfl⟩ ⟨Nat.zero_le _, Nat.zero_le _⟩ hl.1 (Nat.le_of_ble_eq_true rfl) dX4_asked_4 (fun H locs hG => ?_)
  refine lv_iconst (v := 2) hx hb dX4_asked_7 (by decide) ?_
  refine lv_icmp_ge (tgt := 13) hx hb dX4_asked_8 (by decide) (fun c_4 => ?_) (fun c_4 => ?_)
  · have hf := ifp c_4 hf
    refine lv_iconst (v := (-1)) hx hb dX4_asked_13 (by decide) ?_
    refine lv_istore_n (lv' := [(3, .int (-1)), (0, .ref (a 0)), (1, .int x1), (2, .int x2)]) hx hb dX4_asked_14 rfl hl (by decide) rfl (fun ls hl => ?_)
    refine lv_iconst (v := 0) hx hb dX4_asked_15 (by decide) ?_
    refine lv_istore (lv' := [(4, .int 0), (3, .int (-1)), (0, .ref (a 0)), (1, .int x1), (2, .int x2)]) hx hb dX4_asked_16 hl (by decide) rfl (fun ls hl => ?_)
    refine lv_iconst (v := 0) hx hb dX4_asked_18 (by decide) ?_
    refine lv_istore (lv' := [(5, .int 0), (4, .int 0), (3, .int (-1)), (0, .ref (a 0)), (1, .int x1), (2, .int x2)]) hx hb dX4_asked_19 hl (by decide) rfl (fun ls hl => ?_)
    obtain ⟨⟨y_5, w_6⟩, e_8, hf⟩ := bo hf
    try dsimp only at hf
    refine vM_asked_L21 B hK e_8 ?_ hG (lv_sub hl [3, 4, 5, 2, 1, 0] rfl)
    intro z0 z1 hz
    cases hz
    intro H locs hG ls hl
    refine lv_iload_n hx hb dX4_asked_68 rfl (lv_at hl 0 rfl) ?_
    exact kr _ _ (Option.some.inj hf).symm _ _ hG _ _ dX4_asked_69
  · have hf := ifn c_4 hf
    refine lv_iconst (v := (-1)) hx hb dX4_asked_11 (by decide) ?_
    exact kr _ _ (Option.some.inj hf).symm _ _ hG _ _ dX4_asked_12

theorem tM_asked (l : Launch) (X : CX) (a : Nat → Nat) (rest : va_W) (w w' : MW) (x1 : Int32) (x2 : Int32) (r : Int32) (hf : fM_asked w x1 x2 = some (r, w')) : RW l yX4_asked cX4_asked 7 (some .int) 9 0 0 202 [.ref (a 0), .int x1, .int x2] X (MP X a w ++ rest) (MP X a w' ++ rest) (some (.int r)) := by
  refine RW.mk (by decide) (Nat.le_of_ble_eq_true rfl) ?_
  intro p e s m below meth c B hr hlk hK hG ls hl
  exact wM_asked B hK hf (fun r w h H locs hG pc ls hd => by cases h; exact w_iretW B hr hlk hG hd) hG hl
theorem cM_asked (B : CallFix p m c cc nL s args lw_all RX4) (hK : KK X s) (hG : GG X (MP X a w ++ rest) s.heap H locs) {x1 : Int32} {x2 : Int32} {r : Int32} {w' : MW} (hf : fM_asked w x1 x2 = some (r, w')) (hR : 9 + 1 ≤ R.frames ∧ 228 ≤ R.locals) (hcs : cells ≤ R.cells ∧ slots ≤ R.slots) (hl : ls.size = nL) (hcat : (st.map fun v => v.category).sum ≤ 8) (hdg : decode cc pc = .ok (.invokevirtual 271, 3)) (kk : ∀ (H1 : Heap) (locs1 : List Loc), GG X (MP X a w' ++ rest) s.heap H1 locs1 → W p l e R s m args below meth c H1 locs1 cells slots Q (F0 m (pc + 3) ls (.int r :: st))) : W p l e R s m args below meth c H locs cells slots Q (F0 m pc ls (.int x2 :: .int x1 :: .ref (a 0) :: st)) :=
  w_afterW (w_rV_RW (As := [.int x1, .int x2]) B hK hG (tM_asked l X a rest w w' x1 x2 r hf) (lw_V q1766 q1768 qs70 q91 q1769) 0 rfl rfl (n := 2) (by decide +kernel) hR hcs rfl hl rfl hcat hdg) hG.2.2 kk
end S_asked

section S_of
variable {p : Program} {l : Launch} {e : Env} {R : Room} {s : State} {m : MethodId} {args : Array Value} {below : List Frame} {meth : Method} {c : Code} {H : Heap} {locs : List Loc} {cells slots : Nat} {Q : State → Prop} {cc : ByteArray} {nL pc : Nat} {ls : Array Slot} {st : List Value} {X : CX} {a : Nat → Nat} {w : MW} {rest : va_W}
noncomputable def fM_of_J26 (w : MW)  : Option (Int32 × MW) :=
  b2 (fM_no w (-2)) fun r_1 w_2 =>
  some (r_1, w_2)

set_option maxHeartbeats 4000000 in
theorem wM_of_J26 (B : CallFix p m c cX4_of 5 s args lw_all RX4) (hK : KK X s) {w : MW}  {res : Int32 × MW} (hf : fM_of_J26 w  = some res) (kr : ∀ (r : Int32) (w1 : MW), res = (r, w1) → ∀ (H : Heap) (locs : List Loc), GG X (MP X a w1 ++ rest) s.heap H locs → ∀ (pc : Nat) (ls : Array Slot), decode cX4_of pc = .ok (.ireturn, 1) → W p l e (RMw 10 0 0 228) s m args below meth c H locs 0 0 Q (F0 m pc ls [.int r])) {H : Heap} {locs : List Loc} (hG : GG X (MP X a w ++ rest) s.heap H locs) {ls : Array Slot} (hl : lv_has ls 5 [(0, .ref (a 0))]) : W p l e (RMw 10 0 0 228) s m args below meth c H locs 0 0 Q (F0 m 26 ls []) := by
  have hx := B.1
  have hb := B.2.1
  unfold fM_of_J26 at hf
  refine lv_aload_n hx hb dX4_of_26 rfl (lv_at hl 0 rfl) ?_
  refine lv_bipush (v := (-2)) hx hb dX4_of_27 (by decide) ?_
  obtain ⟨r_1, w_2, e_3, hf⟩ := b2s hf
  refine cM_no B hK hG e_3 ⟨Nat.le_of_ble_eq_true rfl, Nat.le_of_ble_eq_true rfl⟩ ⟨Nat.zero_le _, Nat.zero_le _⟩ hl.1 (Nat.le_of_ble_eq_true rfl) dX4_of_29 (fun H locs hG => ?_)
  exact kr _ _ (Option.some.inj hf).symm _ _ hG _ _ dX4_of_32

noncomputable def fM_of (w : MW) (x1 : Int32) (x2 : Int32) (x3 : Int32) : Option (Int32 × MW) :=
  (fM_isShelf x1).bind fun r_1 =>
  if r_1 = 0 then
    fM_of_J26 w 
  else
    (fM_within x2 0 20).bind fun r_4 =>
    if r_4 = 0 then
      fM_of_J26 w 
    else
      (fM_within x3 0 1).bind fun r_7 =>
      if r_7 = 0 then
        fM_of_J26 w 
      else
        (fM_noPairs w x1 x2).bind fun r_10 =>
        if 0 ≤ r_10 then
          if x3 = 0 then
            b2 (fM_asked w x1 x2) fun r_17 w_18 =>
            some (r_17, w_18)
          else
            b2 (fM_liar w x1 x2) fun r_14 w_15 =>
            some (r_14, w_15)
        else
          b2 (fM_no w r_10) fun r_20 w_21 =>
          some (r_20, w_21)

set_option maxHeartbeats 4000000 in
theorem wM_of (B : CallFix p m c cX4_of 5 s args lw_all RX4) (hK : KK X s) {w : MW} {x1 : Int32} {x2 : Int32} {x3 : Int32} {res : Int32 × MW} (hf : fM_of w x1 x2 x3 = some res) (kr : ∀ (r : Int32) (w1 : MW), res = (r, w1) → ∀ (H : Heap) (locs : List Loc), GG X (MP X a w1 ++ rest) s.heap H locs → ∀ (pc : Nat) (ls : Array Slot), decode cX4_of pc = .ok (.ireturn, 1) → W p l e (RMw 10 0 0 228) s m args below meth c H locs 0 0 Q (F0 m pc ls [.int r])) {H : Heap} {locs : List Loc} (hG : GG X (MP X a w ++ rest) s.heap H locs) {ls : Array Slot} (hl : lv_has ls 5 [(0, .ref (a 0)), (1, .int x1), (2, .int x2), (3, .int x3)]) : W p l e (RMw 10 0 0 228) s m args below meth c H locs 0 0 Q (F0 m 0 ls []) := by
  have hx := B.1
  have hb := B.2.1
  unfold fM_of at hf
  refine lv_iload_n hx hb dX4_of_0 rfl (lv_at hl 1 rfl) ?_
  obtain ⟨r_1, e_2, hf⟩ := bo hf
  refine cM_isShelf B e_2 ⟨Nat.le_of_ble_eq_true rfl, Nat.le_of_ble_eq_true rfl⟩ ⟨Nat.zero_le _, Nat.zero_le _⟩ hl.1 (Nat.le_of_ble_eq_true rfl) dX4_of_1 ?_
  refine lv_if_eq (tgt := 26) hx hb dX4_of_4 (by decide) (fun c_3 => ?_) (fun c_3 => ?_)
  · have hf := ifp c_3 hf
    exact wM_of_J26 B hK hf kr hG (lv_sub hl [0] rfl)
  · have hf := ifn c_3 hf
    refine lv_iload_n hx hb dX4_of_7 rfl (lv_at hl 2 rfl) ?_
    refine lv_iconst (v := 0) hx hb dX4_of_8 (by decide) ?_
    refine lv_bipush (v := 20) hx hb dX4_of_9 (by decide) ?_
    obtain ⟨r_4, e_5, hf⟩ := bo hf
    refine cM_within B e_5 ⟨Nat.le_of_ble_eq_true rfl, Nat.le_of_ble_eq_true rfl⟩ ⟨Nat.zero_le _, Nat.zero_le _⟩ hl.1 (Nat.le_of_ble_eq_true rfl) dX4_of_11 ?_
    refine lv_if_eq (tgt := 26) hx hb dX4_of_14 (by decide) (fun c_6 => ?_) (fun c_6 => ?_)
    · have hf := ifp c_6 hf
      exact wM_of_J26 B hK hf kr hG (lv_sub hl [0] rfl)
    · have hf := ifn c_6 hf
      refine lv_iload_n hx hb dX4_of_17 rfl (lv_at hl 3 rfl) ?_
      refine lv_iconst (v := 0) hx hb dX4_of_18 (by decide) ?_
      refine lv_iconst (v := 1) hx hb dX4_of_19 (by decide) ?_
      obtain ⟨r_7, e_8, hf⟩ := bo hf
      refine cM_within B e_8 ⟨Nat.le_of_ble_eq_true rfl, Nat.le_of_ble_eq_true rfl⟩ ⟨Nat.zero_le _, Nat.zero_le _⟩ hl.1 (Nat.le_of_ble_eq_true rfl) dX4_of_20 ?_
      refine lv_if_ne (tgt := 33) hx hb dX4_of_23 (by decide) (fun c_9 => ?_) (fun c_9 => ?_)
      · have hf := ifn c_9 hf
        refine lv_aload_n hx hb dX4_of_33 rfl (lv_at hl 0 rfl) ?_
        refine lv_iload_n hx hb dX4_of_34 rfl (lv_at hl 1 rfl) ?_
        refine lv_iload_n hx hb dX4_of_35 rfl (lv_at hl 2 rfl) ?_
        obtain ⟨r_10, e_11, hf⟩ := bo hf
        refine cM_noPairs B hK hG.2.2 hG.1 e_11 ⟨Nat.le_of_ble_eq_true rfl, Nat.le_of_ble_eq_true rfl⟩ ⟨Nat.zero_le _, Nat.zero_le _⟩ hl.1 (Nat.le_of_ble_eq_true rfl) dX4_of_36 ?_
        refine lv_istore (lv' := [(4, .int r_10), (0, .ref (a 0)), (1, .int x1), (2, .int x2), (3, .int x3)]) hx hb dX4_of_39 hl (by decide) rfl (fun ls hl => ?_)
        refine lv_iload hx hb dX4_of_41 (lv_at hl 0 rfl) ?_
        refine lv_if_ge (tgt := 53) hx hb dX4_of_43 (by decide) (fun c_12 => ?_) (fun c_12 => ?_)
        · have hf := ifp c_12 hf
          refine lv_iload_n hx hb dX4_of_53 rfl (lv_at hl 4 rfl) ?_
          refine lv_if_ne (tgt := 66) hx hb dX4_of_54 (by decide) (fun c_13 => ?_) (fun c_13 => ?_)
          · have hf := ifn c_13 hf
            refine lv_aload_n hx hb dX4_of_66 rfl (lv_at hl 1 rfl) ?_
            refine lv_iload_n hx hb dX4_of_67 rfl (lv_at hl 2 rfl) ?_
            refine lv_iload_n hx hb dX4_of_68 rfl (lv_at hl 3 rfl) ?_
            obtain ⟨r_14, w_15, e_16, hf⟩ := b2s hf
            refine cM_liar B hK hG e_16 ⟨Nat.le_of_ble_eq_true rfl, Nat.le_of_ble_eq_true rfl⟩ ⟨Nat.zero_le _, Nat.zero_le _⟩ hl.1 (Nat.le_of_ble_eq_true rfl) dX4_of_69 (fun H locs hG => ?_)
            exact kr _ _ (Option.some.inj hf).symm _ _ hG _ _ dX4_of_72
          · have hf := ifp c_13 hf
            refine lv_aload_n hx hb dX4_of_57 rfl (lv_at hl 1 rfl) ?_
            refine lv_iload_n hx hb dX4_of_58 rfl (lv_at hl 2 rfl) ?_
            refine lv_iload_n hx hb dX4_of_59 rfl (lv_at hl 3 rfl) ?_
            obtain ⟨r_17, w_18, e_19, hf⟩ := b2s hf
            refine cM_asked B hK hG e_19 ⟨Nat.le_of_ble_eq_true rfl, Nat.le_of_ble_eq_true rfl⟩ ⟨Nat.zero_le _, Nat.zero_le _⟩ hl.1 (Nat.le_of_ble_eq_true rfl) dX4_of_60 (fun H locs hG => ?_)
            refine lv_goto (tgt := 72) hx hb dX4_of_63 (by decide) ?_
            exact kr _ _ (Option.some.inj hf).symm _ _ hG _ _ dX4_of_72
        · have hf := ifn c_12 hf
          refine lv_aload_n hx hb dX4_of_46 rfl (lv_at hl 1 rfl) ?_
          refine lv_iload hx hb dX4_of_47 (lv_at hl 0 rfl) ?_
          obtain ⟨r_20, w_21, e_22, hf⟩ := b2s hf
          refine cM_no B hK hG e_22 ⟨Nat.le_of_ble_eq_true rfl, Nat.le_of_ble_eq_true rfl⟩ ⟨Nat.zero_le _, Nat.zero_le _⟩ hl.1 (Nat.le_of_ble_eq_true rfl) dX4_of_49 (fun H locs hG => ?_)
          exact kr _ _ (Option.some.inj hf).symm _ _ hG _ _ dX4_of_52
      · have hf := ifp c_9 hf
        exact wM_of_J26 B hK hf kr hG (lv_sub hl [0] rfl)

theorem tM_of (l : Launch) (X : CX) (a : Nat → Nat) (rest : va_W) (w w' : MW) (x1 : Int32) (x2 : Int32) (x3 : Int32) (r : Int32) (hf : fM_of w x1 x2 x3 = some (r, w')) : RW l yX4_of cX4_of 5 (some .int) 10 0 0 228 [.ref (a 0), .int x1, .int x2, .int x3] X (MP X a w ++ rest) (MP X a w' ++ rest) (some (.int r)) := by
  refine RW.mk (by decide) (Nat.le_of_ble_eq_true rfl) ?_
  intro p e s m below meth c B hr hlk hK hG ls hl
  exact wM_of B hK hf (fun r w h H locs hG pc ls hd => by cases h; exact w_iretW B hr hlk hG hd) hG hl
end S_of

section S_kinds
variable {p : Program} {l : Launch} {e : Env} {R : Room} {s : State} {m : MethodId} {args : Array Value} {below : List Frame} {meth : Method} {c : Code} {H : Heap} {locs : List Loc} {cells slots : Nat} {Q : State → Prop} {cc : ByteArray} {nL pc : Nat} {ls : Array Slot} {st : List Value} {X : CX} {a : Nat → Nat} {w : MW} {rest : va_W}
noncomputable def fM_kinds_J19 (w : MW)  : Option (Int32 × MW) :=
  b2 (fM_no w (-2)) fun r_1 w_2 =>
  some (r_1, w_2)

set_option maxHeartbeats 4000000 in
theorem wM_kinds_J19 (B : CallFix p m c cX4_kinds 6 s args lw_all RX4) (hK : KK X s) {w : MW}  {res : Int32 × MW} (hf : fM_kinds_J19 w  = some res) (kr : ∀ (r : Int32) (w1 : MW), res = (r, w1) → ∀ (H : Heap) (locs : List Loc), GG X (MP X a w1 ++ rest) s.heap H locs → ∀ (pc : Nat) (ls : Array Slot), decode cX4_kinds pc = .ok (.ireturn, 1) → W p l e (RMw 6 0 0 128) s m args below meth c H locs 0 0 Q (F0 m pc ls [.int r])) {H : Heap} {locs : List Loc} (hG : GG X (MP X a w ++ rest) s.heap H locs) {ls : Array Slot} (hl : lv_has ls 6 [(0, .ref (a 0))]) : W p l e (RMw 6 0 0 128) s m args below meth c H locs 0 0 Q (F0 m 19 ls []) := by
  have hx := B.1
  have hb := B.2.1
  unfold fM_kinds_J19 at hf
  refine lv_aload_n hx hb dX4_kinds_19 rfl (lv_at hl 0 rfl) ?_
  refine lv_bipush (v := (-2)) hx hb dX4_kinds_20 (by decide) ?_
  obtain ⟨r_1, w_2, e_3, hf⟩ := b2s hf
  refine cM_no B hK hG e_3 ⟨Nat.le_of_ble_eq_true rfl, Nat.le_of_ble_eq_true rfl⟩ ⟨Nat.zero_le _, Nat.zero_le _⟩ hl.1 (Nat.le_of_ble_eq_true rfl) dX4_kinds_22 (fun H locs hG => ?_)
  exact kr _ _ (Option.some.inj hf).symm _ _ hG _ _ dX4_kinds_25

noncomputable def fM_kinds_L43 (w : MW) (x1 : Int32) (x2 : Int32) (x3 : Int32) (x4 : Int32) (x5 : Int32) : Option ((Int32 × Int32 × MW) ⊕ (Int32 × MW)) :=
  if 6 ≤ x5 then
    some (.inr (x4, w))
  else
    (mst w 4 9 x1 x5).bind fun w_2 =>
    (fM_armOf w_2 x1).bind fun r_4 =>
    if r_4 = x2 then
      (some (x4 ||| (ishl 1 x5))).bind fun x_9 =>
      (some (x5 + 1)).bind fun x_11 =>
      some (.inl (x_9, x_11, w_2))
    else
      (some (x5 + 1)).bind fun x_7 =>
      some (.inl (x4, x_7, w_2))

set_option maxHeartbeats 4000000 in
theorem wM_kinds_L43 (B : CallFix p m c cX4_kinds 6 s args lw_all RX4) (hK : KK X s) {w : MW} {x1 : Int32} {x2 : Int32} {x3 : Int32} {x4 : Int32} {x5 : Int32} {res : (Int32 × Int32 × MW) ⊕ (Int32 × MW)} (hf : fM_kinds_L43 w x1 x2 x3 x4 x5 = some res) (kc : ∀ (y4 : Int32) (y5 : Int32) (w1 : MW), res = .inl (y4, y5, w1) → ∀ (H : Heap) (locs : List Loc), GG X (MP X a w1 ++ rest) s.heap H locs → ∀ (ls : Array Slot), lv_has ls 6 [(0, .ref (a 0)), (1, .int x1), (2, .int x2), (3, .int x3), (4, .int y4), (5, .int y5)] → W p l e (RMw 6 0 0 128) s m args below meth c H locs 0 0 Q (F0 m 43 ls [])) (ke82 : ∀ (y4 : Int32) (w1 : MW), res = .inr (y4, w1) → ∀ (H : Heap) (locs : List Loc), GG X (MP X a w1 ++ rest) s.heap H locs → ∀ (ls : Array Slot), lv_has ls 6 [(0, .ref (a 0)), (1, .int x1), (3, .int x3), (4, .int y4)] → W p l e (RMw 6 0 0 128) s m args below meth c H locs 0 0 Q (F0 m 82 ls [])) {H : Heap} {locs : List Loc} (hG : GG X (MP X a w ++ rest) s.heap H locs) {ls : Array Slot} (hl : lv_has ls 6 [(0, .ref (a 0)), (1, .int x1), (2, .int x2), (3, .int x3), (4, .int x4), (5, .int x5)]) : W p l e (RMw 6 0 0 128) s m args below meth c H locs 0 0 Q (F0 m 43 ls []) := by
  have hx := B.1
  have hb := B.2.1
  unfold fM_kinds_L43 at hf
  refine lv_iload hx hb dX4_kinds_43 (lv_at hl 5 rfl) ?_
  refine lv_bipush (v := 6) hx hb dX4_kinds_45 (by decide) ?_
  refine lv_icmp_ge (tgt := 82) hx hb dX4_kinds_47 (by decide) (fun c_1 => ?_) (fun c_1 => ?_)
  · have hf := ifp c_1 hf
    exact ke82 _ _ (Option.some.inj hf).symm _ _ hG _ (lv_sub hl [0, 1, 3, 4] rfl)
  · have hf := ifn c_1 hf
    refine lv_aload_n hx hb dX4_kinds_50 rfl (lv_at hl 0 rfl) ?_
    refine mo_g4 B hK hG.1 dX4_kinds_51 ?_
    refine lv_iload_n hx hb dX4_kinds_54 rfl (lv_at hl 1 rfl) ?_
    refine lv_iload hx hb dX4_kinds_55 (lv_at hl 5 rfl) ?_
    obtain ⟨w_2, e_3, hf⟩ := bo hf
    refine mo_st4 B hK hG e_3 dX4_kinds_57 (fun H locs hG => ?_)
    refine lv_aload_n hx hb dX4_kinds_58 rfl (lv_at hl 0 rfl) ?_
    refine lv_iload_n hx hb dX4_kinds_59 rfl (lv_at hl 1 rfl) ?_
    obtain ⟨r_4, e_5, hf⟩ := bo hf
    refine cM_armOf B hK hG.2.2 hG.1 e_5 ⟨Nat.le_of_ble_eq_true rfl, Nat.le_of_ble_eq_true rfl⟩ ⟨Nat.zero_le _, Nat.zero_le _⟩ hl.1 (Nat.le_of_ble_eq_true rfl) dX4_kinds_60 ?_
    refine lv_iload_n hx hb dX4_kinds_63 rfl (lv_at hl 2 rfl) ?_
    refine lv_icmp_ne (tgt := 76) hx hb dX4_kinds_64 (by decide) (fun c_6 => ?_) (fun c_6 => ?_)
    · have hf := ifn c_6 hf
      obtain ⟨x_7, e_8, hf⟩ := bo hf
      refine w_iinc (k := 5) (lv' := [(5, .int x_7), (0, .ref (a 0)), (1, .int x1), (2, .int x2), (3, .int x3), (4, .int x4)]) e_8 hx hb dX4_kinds_76 hl rfl (by decide) rfl (fun ls hl => ?_)
      refine lv_goto (tgt := 43) hx hb dX4_kinds_79 (by decide) ?_
      exact kc _ _ _ (Option.some.inj hf).symm _ _ hG _ (lv_sub hl [1, 2, 3, 4, 5, 0] rfl)
    · have hf := ifp c_6 hf
      refine lv_iload hx hb dX4_kinds_67 (lv_at hl 4 rfl) ?_
      refine lv_iconst (v := 1) hx hb dX4_kinds_69 (by decide) ?_
      refine lv_iload hx hb dX4_kinds_70 (lv_at hl 5 rfl) ?_
      refine w_ishl hx hb dX4_kinds_72 ?_
      refine lv_ior hx hb dX4_kinds_73 ?_
      obtain ⟨x_9, e_10, hf⟩ := bo hf
      refine w_istore (lv' := [(4, .int x_9), (0, .ref (a 0)), (1, .int x1), (2, .int x2), (3, .int x3), (5, .int x5)]) e_10 hx hb dX4_kinds_74 hl (by decide) rfl (fun ls hl => ?_)
      obtain ⟨x_11, e_12, hf⟩ := bo hf
      refine w_iinc (k := 5) (lv' := [(5, .int x_11), (4, .int x_9), (0, .ref (a 0)), (1, .int x1), (2, .int x2), (3, .int x3)]) e_12 hx hb dX4_kinds_76 hl rfl (by decide) rfl (fun ls hl => ?_)
      refine lv_goto (tgt := 43) hx hb dX4_kinds_79 (by decide) ?_
      exact kc _ _ _ (Option.some.inj hf).symm _ _ hG _ (lv_sub hl [2, 3, 4, 5, 1, 0] rfl)

set_option maxHeartbeats 4000000 in
theorem vM_kinds_L43 (B : CallFix p m c cX4_kinds 6 s args lw_all RX4) (hK : KK X s) {w : MW} {x1 : Int32} {x2 : Int32} {x3 : Int32} {x4 : Int32} {x5 : Int32} {res : Int32 × MW} (hf : lp (fun q : Int32 × Int32 × MW => fM_kinds_L43 q.2.2 x1 x2 x3 q.1 q.2.1) (x4, x5, w) = some res) (ke82 : ∀ (y4 : Int32) (w1 : MW), res = (y4, w1) → ∀ (H : Heap) (locs : List Loc), GG X (MP X a w1 ++ rest) s.heap H locs → ∀ (ls : Array Slot), lv_has ls 6 [(0, .ref (a 0)), (1, .int x1), (3, .int x3), (4, .int y4)] → W p l e (RMw 6 0 0 128) s m args below meth c H locs 0 0 Q (F0 m 82 ls [])) {H : Heap} {locs : List Loc} (hG : GG X (MP X a w ++ rest) s.heap H locs) {ls : Array Slot} (hl : lv_has ls 6 [(0, .ref (a 0)), (1, .int x1), (2, .int x2), (3, .int x3), (4, .int x4), (5, .int x5)]) : W p l e (RMw 6 0 0 128) s m args below meth c H locs 0 0 Q (F0 m 43 ls []) := by
  refine lp_ind (r := res) (P := fun q : Int32 × Int32 × MW => ∀ (H : Heap) (locs : List Loc) (ls : Array Slot), GG X (MP X a q.2.2 ++ rest) s.heap H locs → lv_has ls 6 [(0, .ref (a 0)), (1, .int x1), (2, .int x2), (3, .int x3), (4, .int q.1), (5, .int q.2.1)] → W p l e (RMw 6 0 0 128) s m args below meth c H locs 0 0 Q (F0 m 43 ls [])) ?_ ?_ _ hf _ _ _ hG hl
  · intro q hb H locs ls hG hl
    exact wM_kinds_L43 B hK hb (fun _ _ _ h => by cases h) (fun z0 z1 h => ke82 z0 z1 (Sum.inr.inj h)) hG hl
  · intro q q2 hb ih H locs ls hG hl
    exact wM_kinds_L43 B hK hb (fun z0 z1 z2 h => by cases h; exact fun H locs hG ls hl => ih H locs ls hG hl) (fun _ _ h => by cases h) hG hl

noncomputable def fM_kinds (w : MW) (x1 : Int32) (x2 : Int32) : Option (Int32 × MW) :=
  (fM_isPost w (x1.toInt64)).bind fun r_1 =>
  if r_1 = 0 then
    fM_kinds_J19 w 
  else
    (fM_within x2 (-1) 8).bind fun r_4 =>
    if r_4 = 0 then
      fM_kinds_J19 w 
    else
      (fM_asThingsAre w ).bind fun w_7 =>
      (rd (w_7.2.1 4) 9 x1).bind fun v_9 =>
      (lp (fun q : Int32 × Int32 × MW => fM_kinds_L43 q.2.2 x1 x2 v_9 q.1 q.2.1) (0, 0, w_7)).bind (
        fun q_15 => (fun (y_11 : Int32) (w_12 : MW) =>
          (mst w_12 4 9 x1 v_9).bind fun w_13 =>
          some (y_11, w_13)
        ) q_15.1 q_15.2
      )

set_option maxHeartbeats 4000000 in
theorem wM_kinds (B : CallFix p m c cX4_kinds 6 s args lw_all RX4) (hK : KK X s) {w : MW} {x1 : Int32} {x2 : Int32} {res : Int32 × MW} (hf : fM_kinds w x1 x2 = some res) (kr : ∀ (r : Int32) (w1 : MW), res = (r, w1) → ∀ (H : Heap) (locs : List Loc), GG X (MP X a w1 ++ rest) s.heap H locs → ∀ (pc : Nat) (ls : Array Slot), decode cX4_kinds pc = .ok (.ireturn, 1) → W p l e (RMw 6 0 0 128) s m args below meth c H locs 0 0 Q (F0 m pc ls [.int r])) {H : Heap} {locs : List Loc} (hG : GG X (MP X a w ++ rest) s.heap H locs) {ls : Array Slot} (hl : lv_has ls 6 [(0, .ref (a 0)), (1, .int x1), (2, .int x2)]) : W p l e (RMw 6 0 0 128) s m args below meth c H locs 0 0 Q (F0 m 0 ls []) := by
  have hx := B.1
  have hb := B.2.1
  unfold fM_kinds at hf
  refine lv_aload_n hx hb dX4_kinds_0 rfl (lv_at hl 0 rfl) ?_
  refine lv_iload_n hx hb dX4_kinds_1 rfl (lv_at hl 1 rfl) ?_
  refine lv_i2l hx hb dX4_kinds_2 rfl ?_
  obtain ⟨r_1, e_2, hf⟩ := bo hf
  refine cM_isPost B hK hG.2.2 hG.1 e_2 ⟨Nat.le_of_ble_eq_true rfl, Nat.le_of_ble_eq_true rfl⟩ ⟨Nat.zero_le _, Nat.zero_le _⟩ hl.1 (Nat.le_of_ble_eq_true rfl) dX4_kinds_3 ?_
  refine lv_if_eq (tgt := 19) hx hb dX4_kinds_6 (by decide) (fun c_3 => ?_) (fun c_3 => ?_)
  · have hf := ifp c_3 hf
    exact wM_kinds_J19 B hK hf kr hG (lv_sub hl [0] rfl)
  · have hf := ifn c_3 hf
    refine lv_iload_n hx hb dX4_kinds_9 rfl (lv_at hl 2 rfl) ?_
    refine lv_iconst (v := (-1)) hx hb dX4_kinds_10 (by decide) ?_
    refine lv_bipush (v := 8) hx hb dX4_kinds_11 (by decide) ?_
    obtain ⟨r_4, e_5, hf⟩ := bo hf
    refine cM_within B e_5 ⟨Nat.le_of_ble_eq_true rfl, Nat.le_of_ble_eq_true rfl⟩ ⟨Nat.zero_le _, Nat.zero_le _⟩ hl.1 (Nat.le_of_ble_eq_true rfl) dX4_kinds_13 ?_
    refine lv_if_ne (tgt := 26) hx hb dX4_kinds_16 (by decide) (fun c_6 => ?_) (fun c_6 => ?_)
    · have hf := ifn c_6 hf
      refine lv_aload_n hx hb dX4_kinds_26 rfl (lv_at hl 0 rfl) ?_
      obtain ⟨w_7, e_8, hf⟩ := bo hf
      refine cM_asThingsAre B hK hG e_8 ⟨Nat.le_of_ble_eq_true rfl, Nat.le_of_ble_eq_true rfl⟩ ⟨Nat.zero_le _, Nat.zero_le _⟩ hl.1 (Nat.le_of_ble_eq_true rfl) dX4_kinds_27 (fun H locs hG => ?_)
      refine lv_aload_n hx hb dX4_kinds_30 rfl (lv_at hl 0 rfl) ?_
      refine mo_g4 B hK hG.1 dX4_kinds_31 ?_
      refine lv_iload_n hx hb dX4_kinds_34 rfl (lv_at hl 1 rfl) ?_
      obtain ⟨v_9, e_10, hf⟩ := bo hf
      refine mo_ld4 B hK hG.1 e_10 dX4_kinds_35 ?_
      refine lv_istore_n (lv' := [(3, .int v_9), (0, .ref (a 0)), (1, .int x1), (2, .int x2)]) hx hb dX4_kinds_36 rfl hl (by decide) rfl (fun ls hl => ?_)
      refine lv_iconst (v := 0) hx hb dX4_kinds_37 (by decide) ?_
      refine lv_istore (lv' := [(4, .int 0), (3, .int v_9), (0, .ref (a 0)), (1, .int x1), (2, .int x2)]) hx hb dX4_kinds_38 hl (by decide) rfl (fun ls hl => ?_)
      refine lv_iconst (v := 0) hx hb dX4_kinds_40 (by decide) ?_
      refine lv_istore (lv' := [(5, .int 0), (4, .int 0), (3, .int v_9), (0, .ref (a 0)), (1, .int x1), (2, .int x2)]) hx hb dX4_kinds_41 hl (by decide) rfl (fun ls hl => ?_)
      obtain ⟨⟨y_11, w_12⟩, e_16, hf⟩ := bo hf
      try dsimp only at hf
      refine vM_kinds_L43 B hK e_16 ?_ hG (lv_sub hl [3, 4, 5, 2, 1, 0] rfl)
      intro z0 z1 hz
      cases hz
      intro H locs hG ls hl
      refine lv_aload_n hx hb dX4_kinds_82 rfl (lv_at hl 0 rfl) ?_
      refine mo_g4 B hK hG.1 dX4_kinds_83 ?_
      refine lv_iload_n hx hb dX4_kinds_86 rfl (lv_at hl 1 rfl) ?_
      refine lv_iload_n hx hb dX4_kinds_87 rfl (lv_at hl 2 rfl) ?_
      obtain ⟨w_13, e_14, hf⟩ := bo hf
      refine mo_st4 B hK hG e_14 dX4_kinds_88 (fun H locs hG => ?_)
      refine lv_iload hx hb dX4_kinds_89 (lv_at hl 3 rfl) ?_
      exact kr _ _ (Option.some.inj hf).symm _ _ hG _ _ dX4_kinds_91
    · have hf := ifp c_6 hf
      exact wM_kinds_J19 B hK hf kr hG (lv_sub hl [0] rfl)

theorem tM_kinds (l : Launch) (X : CX) (a : Nat → Nat) (rest : va_W) (w w' : MW) (x1 : Int32) (x2 : Int32) (r : Int32) (hf : fM_kinds w x1 x2 = some (r, w')) : RW l yX4_kinds cX4_kinds 6 (some .int) 6 0 0 128 [.ref (a 0), .int x1, .int x2] X (MP X a w ++ rest) (MP X a w' ++ rest) (some (.int r)) := by
  refine RW.mk (by decide) (Nat.le_of_ble_eq_true rfl) ?_
  intro p e s m below meth c B hr hlk hK hG ls hl
  exact wM_kinds B hK hf (fun r w h H locs hG pc ls hd => by cases h; exact w_iretW B hr hlk hG hd) hG hl
end S_kinds

section S_allPosts
variable {p : Program} {l : Launch} {e : Env} {R : Room} {s : State} {m : MethodId} {args : Array Value} {below : List Frame} {meth : Method} {c : Code} {H : Heap} {locs : List Loc} {cells slots : Nat} {Q : State → Prop} {cc : ByteArray} {nL pc : Nat} {ls : Array Slot} {st : List Value} {X : CX} {a : Nat → Nat} {w : MW} {rest : va_W}
noncomputable def fM_allPosts (w : MW)  : Option (Int32) :=
  some ((ishl 1 (w.1 3)) - 1)

set_option maxHeartbeats 4000000 in
theorem wM_allPosts (B : CallFix p m c cX4_allPosts 1 s args lw_all RX4) (hK : KK X s) {w : MW} (hP : va_P X.2.2.1 vwCl (MP X a w ++ rest) s.heap)  {res : Int32} (hf : fM_allPosts w  = some res) (kr : ∀ (r : Int32), res = r → ∀ (pc : Nat) (ls : Array Slot), decode cX4_allPosts pc = .ok (.ireturn, 1) → W p l e (RM 0 0) s m args below meth c s.heap [] 0 0 Q (F0 m pc ls [.int r])) {ls : Array Slot} (hl : lv_has ls 1 [(0, .ref (a 0))]) : W p l e (RM 0 0) s m args below meth c s.heap [] 0 0 Q (F0 m 0 ls []) := by
  have hx := B.1
  have hb := B.2.1
  unfold fM_allPosts at hf
  refine lv_iconst (v := 1) hx hb dX4_allPosts_0 (by decide) ?_
  refine lv_aload_n hx hb dX4_allPosts_1 rfl (lv_at hl 0 rfl) ?_
  refine mo_g3 B hK hP dX4_allPosts_2 ?_
  refine w_ishl hx hb dX4_allPosts_5 ?_
  refine lv_iconst (v := 1) hx hb dX4_allPosts_6 (by decide) ?_
  refine lv_isub hx hb dX4_allPosts_7 ?_
  exact kr _ (Option.some.inj hf).symm _ _ dX4_allPosts_8

theorem tM_allPosts (l : Launch) (X : CX) (a : Nat → Nat) (rest : va_W) (w : MW)  (r : Int32) (hf : fM_allPosts w  = some r) : RO l yX4_allPosts cX4_allPosts 1 (some .int) 0 0 [.ref (a 0)] X (MP X a w ++ rest) (some (.int r)) := by
  refine RO.mk (by decide) (Nat.le_of_ble_eq_true rfl) ?_
  intro p e s m below meth c B hr hlk hK hP ls hl
  exact wM_allPosts B hK hP hf (fun r h pc ls hd => by cases h; exact w_iretR B hr hlk rfl hd) hl
theorem cM_allPosts (B : CallFix p m c cc nL s args lw_all RX4) (hK : KK X s) (hS : va_S (Az X) s.heap H locs) (hP : va_P X.2.2.1 vwCl (MP X a w ++ rest) H)  {r : Int32} (hf : fM_allPosts w  = some r) (hR : 0 + 1 ≤ R.frames ∧ 20 ≤ R.locals) (hcs : cells ≤ R.cells ∧ slots ≤ R.slots) (hl : ls.size = nL) (hcat : (st.map fun v => v.category).sum ≤ 8) (hdg : decode cc pc = .ok (.invokevirtual 283, 3)) (kk : W p l e R s m args below meth c H locs cells slots Q (F0 m (pc + 3) ls (.int r :: st))) : W p l e R s m args below meth c H locs cells slots Q (F0 m pc ls (.ref (a 0) :: st)) :=
  w_afterR (w_rV_RO (As := []) B hK hS hP (tM_allPosts l X a rest w  r hf) (lw_V q1791 q1793 qs74 q91 q1794) 0 rfl rfl (n := 0) (by decide +kernel) hR hcs rfl hl rfl hcat hdg) kk
end S_allPosts

section S_isAlike
variable {p : Program} {l : Launch} {e : Env} {R : Room} {s : State} {m : MethodId} {args : Array Value} {below : List Frame} {meth : Method} {c : Code} {H : Heap} {locs : List Loc} {cells slots : Nat} {Q : State → Prop} {cc : ByteArray} {nL pc : Nat} {ls : Array Slot} {st : List Value} {X : CX} {a : Nat → Nat} {w : MW} {rest : va_W}
noncomputable def fM_isAlike_L3 (w : MW) (x1 : Int32) (x2 : Int32) (x3 : Int32) (x4 : Int32) : Option ((Int32 × MW) ⊕ (((MW) ⊕ MW))) :=
  if (w.1 3) ≤ x4 then
    some (.inr (.inl w))
  else
    if ((ishr x1 x4) &&& 1) = 1 then
      b2 (fM_armFor w x4 x2) fun r_5 w_6 =>
      b2 (fM_armFor w_6 x4 x3) fun r_8 w_9 =>
      if r_5 = r_8 then
        (some (x4 + 1)).bind fun x_12 =>
        some (.inl (x_12, w_9))
      else
        some (.inr (.inr w_9))
    else
      (some (x4 + 1)).bind fun x_3 =>
      some (.inl (x_3, w))

set_option maxHeartbeats 4000000 in
theorem wM_isAlike_L3 (B : CallFix p m c cX4_isAlike 5 s args lw_all RX4) (hK : KK X s) {w : MW} {x1 : Int32} {x2 : Int32} {x3 : Int32} {x4 : Int32} {res : (Int32 × MW) ⊕ (((MW) ⊕ MW))} (hf : fM_isAlike_L3 w x1 x2 x3 x4 = some res) (kc : ∀ (y4 : Int32) (w1 : MW), res = .inl (y4, w1) → ∀ (H : Heap) (locs : List Loc), GG X (MP X a w1 ++ rest) s.heap H locs → ∀ (ls : Array Slot), lv_has ls 5 [(0, .ref (a 0)), (1, .int x1), (2, .int x2), (3, .int x3), (4, .int y4)] → W p l e (RMw 7 0 0 150) s m args below meth c H locs 0 0 Q (F0 m 3 ls [])) (ke47 : ∀ (w1 : MW), res = .inr (.inl w1) → ∀ (H : Heap) (locs : List Loc), GG X (MP X a w1 ++ rest) s.heap H locs → ∀ (ls : Array Slot), lv_has ls 5 [] → W p l e (RMw 7 0 0 150) s m args below meth c H locs 0 0 Q (F0 m 47 ls [])) (ke39 : ∀ (w1 : MW), res = .inr (.inr w1) → ∀ (H : Heap) (locs : List Loc), GG X (MP X a w1 ++ rest) s.heap H locs → ∀ (ls : Array Slot), lv_has ls 5 [] → W p l e (RMw 7 0 0 150) s m args below meth c H locs 0 0 Q (F0 m 39 ls [])) {H : Heap} {locs : List Loc} (hG : GG X (MP X a w ++ rest) s.heap H locs) {ls : Array Slot} (hl : lv_has ls 5 [(0, .ref (a 0)), (1, .int x1), (2, .int x2), (3, .int x3), (4, .int x4)]) : W p l e (RMw 7 0 0 150) s m args below meth c H locs 0 0 Q (F0 m 3 ls []) := by
  have hx := B.1
  have hb := B.2.1
  unfold fM_isAlike_L3 at hf
  refine lv_iload hx hb dX4_isAlike_3 (lv_at hl 4 rfl) ?_
  refine lv_aload_n hx hb dX4_isAlike_5 rfl (lv_at hl 0 rfl) ?_
  refine mo_g3 B hK hG.1 dX4_isAlike_6 ?_
  refine lv_icmp_ge (tgt := 47) hx hb dX4_isAlike_9 (by decide) (fun c_1 => ?_) (fun c_1 => ?_)
  · have hf := ifp c_1 hf
    exact ke47 _ (Option.some.inj hf).symm _ _ hG _ (lv_sub hl [] rfl)
  · have hf := ifn c_1 hf
    refine lv_iload_n hx hb dX4_isAlike_12 rfl (lv_at hl 1 rfl) ?_
    refine lv_iload hx hb dX4_isAlike_13 (lv_at hl 4 rfl) ?_
    refine w_ishr hx hb dX4_isAlike_15 ?_
    refine lv_iconst (v := 1) hx hb dX4_isAlike_16 (by decide) ?_
    refine lv_iand hx hb dX4_isAlike_17 ?_
    refine lv_iconst (v := 1) hx hb dX4_isAlike_18 (by decide) ?_
    refine lv_icmp_ne (tgt := 41) hx hb dX4_isAlike_19 (by decide) (fun c_2 => ?_) (fun c_2 => ?_)
    · have hf := ifn c_2 hf
      obtain ⟨x_3, e_4, hf⟩ := bo hf
      refine w_iinc (k := 4) (lv' := [(4, .int x_3), (0, .ref (a 0)), (1, .int x1), (2, .int x2), (3, .int x3)]) e_4 hx hb dX4_isAlike_41 hl rfl (by decide) rfl (fun ls hl => ?_)
      refine lv_goto (tgt := 3) hx hb dX4_isAlike_44 (by decide) ?_
      exact kc _ _ (Option.some.inj hf).symm _ _ hG _ (lv_sub hl [1, 2, 3, 4, 0] rfl)
    · have hf := ifp c_2 hf
      refine lv_aload_n hx hb dX4_isAlike_22 rfl (lv_at hl 0 rfl) ?_
      refine lv_iload hx hb dX4_isAlike_23 (lv_at hl 4 rfl) ?_
      refine lv_iload_n hx hb dX4_isAlike_25 rfl (lv_at hl 2 rfl) ?_
      obtain ⟨r_5, w_6, e_7, hf⟩ := b2s hf
      refine cM_armFor B hK hG e_7 ⟨Nat.le_of_ble_eq_true rfl, Nat.le_of_ble_eq_true rfl⟩ ⟨Nat.zero_le _, Nat.zero_le _⟩ hl.1 (Nat.le_of_ble_eq_true rfl) dX4_isAlike_26 (fun H locs hG => ?_)
      refine lv_aload_n hx hb dX4_isAlike_29 rfl (lv_at hl 0 rfl) ?_
      refine lv_iload hx hb dX4_isAlike_30 (lv_at hl 4 rfl) ?_
      refine lv_iload_n hx hb dX4_isAlike_32 rfl (lv_at hl 3 rfl) ?_
      obtain ⟨r_8, w_9, e_10, hf⟩ := b2s hf
      refine cM_armFor B hK hG e_10 ⟨Nat.le_of_ble_eq_true rfl, Nat.le_of_ble_eq_true rfl⟩ ⟨Nat.zero_le _, Nat.zero_le _⟩ hl.1 (Nat.le_of_ble_eq_true rfl) dX4_isAlike_33 (fun H locs hG => ?_)
      refine lv_icmp_eq (tgt := 41) hx hb dX4_isAlike_36 (by decide) (fun c_11 => ?_) (fun c_11 => ?_)
      · have hf := ifp c_11 hf
        obtain ⟨x_12, e_13, hf⟩ := bo hf
        refine w_iinc (k := 4) (lv' := [(4, .int x_12), (0, .ref (a 0)), (1, .int x1), (2, .int x2), (3, .int x3)]) e_13 hx hb dX4_isAlike_41 hl rfl (by decide) rfl (fun ls hl => ?_)
        refine lv_goto (tgt := 3) hx hb dX4_isAlike_44 (by decide) ?_
        exact kc _ _ (Option.some.inj hf).symm _ _ hG _ (lv_sub hl [1, 2, 3, 4, 0] rfl)
      · have hf := ifn c_11 hf
        exact ke39 _ (Option.some.inj hf).symm _ _ hG _ (lv_sub hl [] rfl)

set_option maxHeartbeats 4000000 in
theorem vM_isAlike_L3 (B : CallFix p m c cX4_isAlike 5 s args lw_all RX4) (hK : KK X s) {w : MW} {x1 : Int32} {x2 : Int32} {x3 : Int32} {x4 : Int32} {res : ((MW) ⊕ MW)} (hf : lp (fun q : Int32 × MW => fM_isAlike_L3 q.2 x1 x2 x3 q.1) (x4, w) = some res) (ke47 : ∀ (w1 : MW), res = (.inl w1) → ∀ (H : Heap) (locs : List Loc), GG X (MP X a w1 ++ rest) s.heap H locs → ∀ (ls : Array Slot), lv_has ls 5 [] → W p l e (RMw 7 0 0 150) s m args below meth c H locs 0 0 Q (F0 m 47 ls [])) (ke39 : ∀ (w1 : MW), res = (.inr w1) → ∀ (H : Heap) (locs : List Loc), GG X (MP X a w1 ++ rest) s.heap H locs → ∀ (ls : Array Slot), lv_has ls 5 [] → W p l e (RMw 7 0 0 150) s m args below meth c H locs 0 0 Q (F0 m 39 ls [])) {H : Heap} {locs : List Loc} (hG : GG X (MP X a w ++ rest) s.heap H locs) {ls : Array Slot} (hl : lv_has ls 5 [(0, .ref (a 0)), (1, .int x1), (2, .int x2), (3, .int x3), (4, .int x4)]) : W p l e (RMw 7 0 0 150) s m args below meth c H locs 0 0 Q (F0 m 3 ls []) := by
  refine lp_ind (r := res) (P := fun q : Int32 × MW => ∀ (H : Heap) (locs : List Loc) (ls : Array Slot), GG X (MP X a q.2 ++ rest) s.heap H locs → lv_has ls 5 [(0, .ref (a 0)), (1, .int x1), (2, .int x2), (3, .int x3), (4, .int q.1)] → W p l e (RMw 7 0 0 150) s m args below meth c H locs 0 0 Q (F0 m 3 ls [])) ?_ ?_ _ hf _ _ _ hG hl
  · intro q hb H locs ls hG hl
    exact wM_isAlike_L3 B hK hb (fun _ _ h => by cases h) (fun z0 h => ke47 z0 (Sum.inr.inj h)) (fun z0 h => ke39 z0 (Sum.inr.inj h)) hG hl
  · intro q q2 hb ih H locs ls hG hl
    exact wM_isAlike_L3 B hK hb (fun z0 z1 h => by cases h; exact fun H locs hG ls hl => ih H locs ls hG hl) (fun _ h => by cases h) (fun _ h => by cases h) hG hl

noncomputable def fM_isAlike (w : MW) (x1 : Int32) (x2 : Int32) (x3 : Int32) : Option (Int32 × MW) :=
  (lp (fun q : Int32 × MW => fM_isAlike_L3 q.2 x1 x2 x3 q.1) (0, w)).bind
    (Sum.elim (
      fun q_3 => (fun (w_1 : MW) =>
        some (1, w_1)
      ) q_3
    )
      (
        fun q_4 => (fun (w_2 : MW) =>
          some (0, w_2)
        ) q_4
      )
    )

set_option maxHeartbeats 4000000 in
theorem wM_isAlike (B : CallFix p m c cX4_isAlike 5 s args lw_all RX4) (hK : KK X s) {w : MW} {x1 : Int32} {x2 : Int32} {x3 : Int32} {res : Int32 × MW} (hf : fM_isAlike w x1 x2 x3 = some res) (kr : ∀ (r : Int32) (w1 : MW), res = (r, w1) → narrow .boolean (.int r) = .int r → ∀ (H : Heap) (locs : List Loc), GG X (MP X a w1 ++ rest) s.heap H locs → ∀ (pc : Nat) (ls : Array Slot), decode cX4_isAlike pc = .ok (.ireturn, 1) → W p l e (RMw 7 0 0 150) s m args below meth c H locs 0 0 Q (F0 m pc ls [.int r])) {H : Heap} {locs : List Loc} (hG : GG X (MP X a w ++ rest) s.heap H locs) {ls : Array Slot} (hl : lv_has ls 5 [(0, .ref (a 0)), (1, .int x1), (2, .int x2), (3, .int x3)]) : W p l e (RMw 7 0 0 150) s m args below meth c H locs 0 0 Q (F0 m 0 ls []) := by
  have hx := B.1
  have hb := B.2.1
  unfold fM_isAlike at hf
  refine lv_iconst (v := 0) hx hb dX4_isAlike_0 (by decide) ?_
  refine lv_istore (lv' := [(4, .int 0), (0, .ref (a 0)), (1, .int x1), (2, .int x2), (3, .int x3)]) hx hb dX4_isAlike_1 hl (by decide) rfl (fun ls hl => ?_)
  rcases bs hf with ⟨w_1, e_5, hf⟩ | ⟨w_2, e_5, hf⟩
  · try dsimp only at hf
    refine vM_isAlike_L3 B hK e_5 ?_ (fun _ h => by cases h) hG (lv_sub hl [1, 2, 3, 4, 0] rfl)
    intro z0 hz
    cases hz
    intro H locs hG ls hl
    refine lv_iconst (v := 1) hx hb dX4_isAlike_47 (by decide) ?_
    exact kr _ _ (Option.some.inj hf).symm (by decide) _ _ hG _ _ dX4_isAlike_48
  · try dsimp only at hf
    refine vM_isAlike_L3 B hK e_5 (fun _ h => by cases h) ?_ hG (lv_sub hl [1, 2, 3, 4, 0] rfl)
    intro z0 hz
    cases hz
    intro H locs hG ls hl
    refine lv_iconst (v := 0) hx hb dX4_isAlike_39 (by decide) ?_
    exact kr _ _ (Option.some.inj hf).symm (by decide) _ _ hG _ _ dX4_isAlike_40

theorem tM_isAlike (l : Launch) (X : CX) (a : Nat → Nat) (rest : va_W) (w w' : MW) (x1 : Int32) (x2 : Int32) (x3 : Int32) (r : Int32) (hf : fM_isAlike w x1 x2 x3 = some (r, w')) : RW l yX4_isAlike cX4_isAlike 5 (some .boolean) 7 0 0 150 [.ref (a 0), .int x1, .int x2, .int x3] X (MP X a w ++ rest) (MP X a w' ++ rest) (some (.int r)) := by
  refine RW.mk (by decide) (Nat.le_of_ble_eq_true rfl) ?_
  intro p e s m below meth c B hr hlk hK hG ls hl
  exact wM_isAlike B hK hf (fun r w h hn H locs hG pc ls hd => by cases h; exact w_zretW B hr hlk hn hG hd) hG hl
theorem cM_isAlike (B : CallFix p m c cc nL s args lw_all RX4) (hK : KK X s) (hG : GG X (MP X a w ++ rest) s.heap H locs) {x1 : Int32} {x2 : Int32} {x3 : Int32} {r : Int32} {w' : MW} (hf : fM_isAlike w x1 x2 x3 = some (r, w')) (hR : 7 + 1 ≤ R.frames ∧ 174 ≤ R.locals) (hcs : cells ≤ R.cells ∧ slots ≤ R.slots) (hl : ls.size = nL) (hcat : (st.map fun v => v.category).sum ≤ 8) (hdg : decode cc pc = .ok (.invokevirtual 277, 3)) (kk : ∀ (H1 : Heap) (locs1 : List Loc), GG X (MP X a w' ++ rest) s.heap H1 locs1 → W p l e R s m args below meth c H1 locs1 cells slots Q (F0 m (pc + 3) ls (.int r :: st))) : W p l e R s m args below meth c H locs cells slots Q (F0 m pc ls (.int x3 :: .int x2 :: .int x1 :: .ref (a 0) :: st)) :=
  w_afterW (w_rV_RW (As := [.int x1, .int x2, .int x3]) B hK hG (tM_isAlike l X a rest w w' x1 x2 x3 r hf) (lw_V q1799 q1801 qs76 q91 q1802) 0 rfl rfl (n := 3) (by decide +kernel) hR hcs rfl hl rfl hcat hdg) hG.2.2 kk
end S_isAlike

section S_groups
variable {p : Program} {l : Launch} {e : Env} {R : Room} {s : State} {m : MethodId} {args : Array Value} {below : List Frame} {meth : Method} {c : Code} {H : Heap} {locs : List Loc} {cells slots : Nat} {Q : State → Prop} {cc : ByteArray} {nL pc : Nat} {ls : Array Slot} {st : List Value} {X : CX} {a : Nat → Nat} {w : MW} {rest : va_W}
noncomputable def fM_groups_L24 (w : MW) (x1 : Int32) (x2 : Int32) (x3 : Int32) (x4 : Int32) : Option ((Int32 × MW) ⊕ (Int32 × MW)) :=
  if x3 ≤ x4 then
    some (.inr (x4, w))
  else
    (fM_isDry w x4).bind fun r_2 =>
    if r_2 = 0 then
      (some (x4 + 1)).bind fun x_5 =>
      some (.inl (x_5, w))
    else
      b2 (fM_isAlike w x1 x3 x4) fun r_7 w_8 =>
      if r_7 = 0 then
        (some (x4 + 1)).bind fun x_11 =>
        some (.inl (x_11, w_8))
      else
        some (.inr (x4, w_8))

set_option maxHeartbeats 4000000 in
theorem wM_groups_L24 (B : CallFix p m c cX4_groups 5 s args lw_all RX4) (hK : KK X s) {w : MW} {x1 : Int32} {x2 : Int32} {x3 : Int32} {x4 : Int32} {res : (Int32 × MW) ⊕ (Int32 × MW)} (hf : fM_groups_L24 w x1 x2 x3 x4 = some res) (kc : ∀ (y4 : Int32) (w1 : MW), res = .inl (y4, w1) → ∀ (H : Heap) (locs : List Loc), GG X (MP X a w1 ++ rest) s.heap H locs → ∀ (ls : Array Slot), lv_has ls 5 [(0, .ref (a 0)), (1, .int x1), (2, .int x2), (3, .int x3), (4, .int y4)] → W p l e (RMw 8 0 0 174) s m args below meth c H locs 0 0 Q (F0 m 24 ls [])) (ke56 : ∀ (y4 : Int32) (w1 : MW), res = .inr (y4, w1) → ∀ (H : Heap) (locs : List Loc), GG X (MP X a w1 ++ rest) s.heap H locs → ∀ (ls : Array Slot), lv_has ls 5 [(0, .ref (a 0)), (1, .int x1), (2, .int x2), (3, .int x3), (4, .int y4)] → W p l e (RMw 8 0 0 174) s m args below meth c H locs 0 0 Q (F0 m 56 ls [])) {H : Heap} {locs : List Loc} (hG : GG X (MP X a w ++ rest) s.heap H locs) {ls : Array Slot} (hl : lv_has ls 5 [(0, .ref (a 0)), (1, .int x1), (2, .int x2), (3, .int x3), (4, .int x4)]) : W p l e (RMw 8 0 0 174) s m args below meth c H locs 0 0 Q (F0 m 24 ls []) := by
  have hx := B.1
  have hb := B.2.1
  unfold fM_groups_L24 at hf
  refine lv_iload hx hb dX4_groups_24 (lv_at hl 4 rfl) ?_
  refine lv_iload_n hx hb dX4_groups_26 rfl (lv_at hl 3 rfl) ?_
  refine lv_icmp_ge (tgt := 56) hx hb dX4_groups_27 (by decide) (fun c_1 => ?_) (fun c_1 => ?_)
  · have hf := ifp c_1 hf
    exact ke56 _ _ (Option.some.inj hf).symm _ _ hG _ hl
  · have hf := ifn c_1 hf
    refine lv_aload_n hx hb dX4_groups_30 rfl (lv_at hl 0 rfl) ?_
    refine lv_iload hx hb dX4_groups_31 (lv_at hl 4 rfl) ?_
    obtain ⟨r_2, e_3, hf⟩ := bo hf
    refine cM_isDry B hK hG.2.2 hG.1 e_3 ⟨Nat.le_of_ble_eq_true rfl, Nat.le_of_ble_eq_true rfl⟩ ⟨Nat.zero_le _, Nat.zero_le _⟩ hl.1 (Nat.le_of_ble_eq_true rfl) dX4_groups_33 ?_
    refine lv_if_eq (tgt := 50) hx hb dX4_groups_36 (by decide) (fun c_4 => ?_) (fun c_4 => ?_)
    · have hf := ifp c_4 hf
      obtain ⟨x_5, e_6, hf⟩ := bo hf
      refine w_iinc (k := 4) (lv' := [(4, .int x_5), (0, .ref (a 0)), (1, .int x1), (2, .int x2), (3, .int x3)]) e_6 hx hb dX4_groups_50 hl rfl (by decide) rfl (fun ls hl => ?_)
      refine lv_goto (tgt := 24) hx hb dX4_groups_53 (by decide) ?_
      exact kc _ _ (Option.some.inj hf).symm _ _ hG _ (lv_sub hl [1, 2, 3, 4, 0] rfl)
    · have hf := ifn c_4 hf
      refine lv_aload_n hx hb dX4_groups_39 rfl (lv_at hl 0 rfl) ?_
      refine lv_iload_n hx hb dX4_groups_40 rfl (lv_at hl 1 rfl) ?_
      refine lv_iload_n hx hb dX4_groups_41 rfl (lv_at hl 3 rfl) ?_
      refine lv_iload hx hb dX4_groups_42 (lv_at hl 4 rfl) ?_
      obtain ⟨r_7, w_8, e_9, hf⟩ := b2s hf
      refine cM_isAlike B hK hG e_9 ⟨Nat.le_of_ble_eq_true rfl, Nat.le_of_ble_eq_true rfl⟩ ⟨Nat.zero_le _, Nat.zero_le _⟩ hl.1 (Nat.le_of_ble_eq_true rfl) dX4_groups_44 (fun H locs hG => ?_)
      refine lv_if_ne (tgt := 56) hx hb dX4_groups_47 (by decide) (fun c_10 => ?_) (fun c_10 => ?_)
      · have hf := ifn c_10 hf
        exact ke56 _ _ (Option.some.inj hf).symm _ _ hG _ hl
      · have hf := ifp c_10 hf
        obtain ⟨x_11, e_12, hf⟩ := bo hf
        refine w_iinc (k := 4) (lv' := [(4, .int x_11), (0, .ref (a 0)), (1, .int x1), (2, .int x2), (3, .int x3)]) e_12 hx hb dX4_groups_50 hl rfl (by decide) rfl (fun ls hl => ?_)
        refine lv_goto (tgt := 24) hx hb dX4_groups_53 (by decide) ?_
        exact kc _ _ (Option.some.inj hf).symm _ _ hG _ (lv_sub hl [1, 2, 3, 4, 0] rfl)

set_option maxHeartbeats 4000000 in
theorem vM_groups_L24 (B : CallFix p m c cX4_groups 5 s args lw_all RX4) (hK : KK X s) {w : MW} {x1 : Int32} {x2 : Int32} {x3 : Int32} {x4 : Int32} {res : Int32 × MW} (hf : lp (fun q : Int32 × MW => fM_groups_L24 q.2 x1 x2 x3 q.1) (x4, w) = some res) (ke56 : ∀ (y4 : Int32) (w1 : MW), res = (y4, w1) → ∀ (H : Heap) (locs : List Loc), GG X (MP X a w1 ++ rest) s.heap H locs → ∀ (ls : Array Slot), lv_has ls 5 [(0, .ref (a 0)), (1, .int x1), (2, .int x2), (3, .int x3), (4, .int y4)] → W p l e (RMw 8 0 0 174) s m args below meth c H locs 0 0 Q (F0 m 56 ls [])) {H : Heap} {locs : List Loc} (hG : GG X (MP X a w ++ rest) s.heap H locs) {ls : Array Slot} (hl : lv_has ls 5 [(0, .ref (a 0)), (1, .int x1), (2, .int x2), (3, .int x3), (4, .int x4)]) : W p l e (RMw 8 0 0 174) s m args below meth c H locs 0 0 Q (F0 m 24 ls []) := by
  refine lp_ind (r := res) (P := fun q : Int32 × MW => ∀ (H : Heap) (locs : List Loc) (ls : Array Slot), GG X (MP X a q.2 ++ rest) s.heap H locs → lv_has ls 5 [(0, .ref (a 0)), (1, .int x1), (2, .int x2), (3, .int x3), (4, .int q.1)] → W p l e (RMw 8 0 0 174) s m args below meth c H locs 0 0 Q (F0 m 24 ls [])) ?_ ?_ _ hf _ _ _ hG hl
  · intro q hb H locs ls hG hl
    exact wM_groups_L24 B hK hb (fun _ _ h => by cases h) (fun z0 z1 h => ke56 z0 z1 (Sum.inr.inj h)) hG hl
  · intro q q2 hb ih H locs ls hG hl
    exact wM_groups_L24 B hK hb (fun z0 z1 h => by cases h; exact fun H locs hG ls hl => ih H locs ls hG hl) (fun _ _ h => by cases h) hG hl

noncomputable def fM_groups_J81_L4 (w : MW) (x1 : Int32) (x2 : Int32) (x3 : Int32) (t1 : Int32) (t2 : Int32) : Option ((Int32 × Int32 × MW) ⊕ (Int32 × MW)) :=
  (mst w 27 67 t1 t2).bind fun w_1 =>
  (some (x3 + 1)).bind fun x_3 =>
  some (.inl (x2, x_3, w_1))

set_option maxHeartbeats 4000000 in
theorem wM_groups_J81_L4 (B : CallFix p m c cX4_groups 5 s args lw_all RX4) (hK : KK X s) {w : MW} {x1 : Int32} {x2 : Int32} {x3 : Int32} {t1 : Int32} {t2 : Int32} {res : (Int32 × Int32 × MW) ⊕ (Int32 × MW)} (hf : fM_groups_J81_L4 w x1 x2 x3 t1 t2 = some res) (kc : ∀ (y2 : Int32) (y3 : Int32) (w1 : MW), res = .inl (y2, y3, w1) → ∀ (H : Heap) (locs : List Loc), GG X (MP X a w1 ++ rest) s.heap H locs → ∀ (ls : Array Slot), lv_has ls 5 [(0, .ref (a 0)), (1, .int x1), (2, .int y2), (3, .int y3)] → W p l e (RMw 8 0 0 174) s m args below meth c H locs 0 0 Q (F0 m 4 ls [])) (ke88 : ∀ (y2 : Int32) (w1 : MW), res = .inr (y2, w1) → ∀ (H : Heap) (locs : List Loc), GG X (MP X a w1 ++ rest) s.heap H locs → ∀ (ls : Array Slot), lv_has ls 5 [(2, .int y2)] → W p l e (RMw 8 0 0 174) s m args below meth c H locs 0 0 Q (F0 m 88 ls [])) {H : Heap} {locs : List Loc} (hG : GG X (MP X a w ++ rest) s.heap H locs) {ls : Array Slot} (hl : lv_has ls 5 [(0, .ref (a 0)), (1, .int x1), (2, .int x2), (3, .int x3)]) : W p l e (RMw 8 0 0 174) s m args below meth c H locs 0 0 Q (F0 m 81 ls [.int t2, .int t1, .ref (a 27)]) := by
  have hx := B.1
  have hb := B.2.1
  unfold fM_groups_J81_L4 at hf
  obtain ⟨w_1, e_2, hf⟩ := bo hf
  refine mo_st27 B hK hG e_2 dX4_groups_81 (fun H locs hG => ?_)
  obtain ⟨x_3, e_4, hf⟩ := bo hf
  refine w_iinc (k := 3) (lv' := [(3, .int x_3), (0, .ref (a 0)), (1, .int x1), (2, .int x2)]) e_4 hx hb dX4_groups_82 hl rfl (by decide) rfl (fun ls hl => ?_)
  refine lv_goto (tgt := 4) hx hb dX4_groups_85 (by decide) ?_
  exact kc _ _ _ (Option.some.inj hf).symm _ _ hG _ (lv_sub hl [1, 2, 3, 0] rfl)

noncomputable def fM_groups_J56_L4 (w : MW) (x1 : Int32) (x2 : Int32) (x3 : Int32) (x4 : Int32) : Option ((Int32 × Int32 × MW) ⊕ (Int32 × MW)) :=
  if x4 = x3 then
    (some (x2 + 1)).bind fun x_4 =>
    fM_groups_J81_L4 w x1 x_4 x3 x3 x2
  else
    (rd (w.2.1 27) 67 x4).bind fun v_2 =>
    fM_groups_J81_L4 w x1 x2 x3 x3 v_2

set_option maxHeartbeats 4000000 in
theorem wM_groups_J56_L4 (B : CallFix p m c cX4_groups 5 s args lw_all RX4) (hK : KK X s) {w : MW} {x1 : Int32} {x2 : Int32} {x3 : Int32} {x4 : Int32} {res : (Int32 × Int32 × MW) ⊕ (Int32 × MW)} (hf : fM_groups_J56_L4 w x1 x2 x3 x4 = some res) (kc : ∀ (y2 : Int32) (y3 : Int32) (w1 : MW), res = .inl (y2, y3, w1) → ∀ (H : Heap) (locs : List Loc), GG X (MP X a w1 ++ rest) s.heap H locs → ∀ (ls : Array Slot), lv_has ls 5 [(0, .ref (a 0)), (1, .int x1), (2, .int y2), (3, .int y3)] → W p l e (RMw 8 0 0 174) s m args below meth c H locs 0 0 Q (F0 m 4 ls [])) (ke88 : ∀ (y2 : Int32) (w1 : MW), res = .inr (y2, w1) → ∀ (H : Heap) (locs : List Loc), GG X (MP X a w1 ++ rest) s.heap H locs → ∀ (ls : Array Slot), lv_has ls 5 [(2, .int y2)] → W p l e (RMw 8 0 0 174) s m args below meth c H locs 0 0 Q (F0 m 88 ls [])) {H : Heap} {locs : List Loc} (hG : GG X (MP X a w ++ rest) s.heap H locs) {ls : Array Slot} (hl : lv_has ls 5 [(0, .ref (a 0)), (1, .int x1), (2, .int x2), (3, .int x3), (4, .int x4)]) : W p l e (RMw 8 0 0 174) s m args below meth c H locs 0 0 Q (F0 m 56 ls []) := by
  have hx := B.1
  have hb := B.2.1
  unfold fM_groups_J56_L4 at hf
  refine lv_aload_n hx hb dX4_groups_56 rfl (lv_at hl 0 rfl) ?_
  refine mo_g27 B hK hG.1 dX4_groups_57 ?_
  refine lv_iload_n hx hb dX4_groups_60 rfl (lv_at hl 3 rfl) ?_
  refine lv_iload hx hb dX4_groups_61 (lv_at hl 4 rfl) ?_
  refine lv_iload_n hx hb dX4_groups_63 rfl (lv_at hl 3 rfl) ?_
  refine lv_icmp_ne (tgt := 74) hx hb dX4_groups_64 (by decide) (fun c_1 => ?_) (fun c_1 => ?_)
  · have hf := ifn c_1 hf
    refine lv_aload_n hx hb dX4_groups_74 rfl (lv_at hl 0 rfl) ?_
    refine mo_g27 B hK hG.1 dX4_groups_75 ?_
    refine lv_iload hx hb dX4_groups_78 (lv_at hl 4 rfl) ?_
    obtain ⟨v_2, e_3, hf⟩ := bo hf
    refine mo_ld27 B hK hG.1 e_3 dX4_groups_80 ?_
    exact wM_groups_J81_L4 B hK hf kc ke88 hG (lv_sub hl [0, 1, 2, 3] rfl)
  · have hf := ifp c_1 hf
    refine lv_iload_n hx hb dX4_groups_67 rfl (lv_at hl 2 rfl) ?_
    obtain ⟨x_4, e_5, hf⟩ := bo hf
    refine w_iinc (k := 2) (lv' := [(2, .int x_4), (0, .ref (a 0)), (1, .int x1), (3, .int x3), (4, .int x4)]) e_5 hx hb dX4_groups_68 hl rfl (by decide) rfl (fun ls hl => ?_)
    refine lv_goto (tgt := 81) hx hb dX4_groups_71 (by decide) ?_
    exact wM_groups_J81_L4 B hK hf kc ke88 hG (lv_sub hl [1, 2, 0, 3] rfl)

noncomputable def fM_groups_L4 (w : MW) (x1 : Int32) (x2 : Int32) (x3 : Int32) : Option ((Int32 × Int32 × MW) ⊕ (Int32 × MW)) :=
  if 67 ≤ x3 then
    some (.inr (x2, w))
  else
    (fM_isDry w x3).bind fun r_2 =>
    if r_2 = 0 then
      (some (x3 + 1)).bind fun x_9 =>
      some (.inl (x2, x_9, w))
    else
      (lp (fun q : Int32 × MW => fM_groups_L24 q.2 x1 x2 x3 q.1) (0, w)).bind (
        fun q_7 => (fun (y_5 : Int32) (w_6 : MW) =>
          fM_groups_J56_L4 w_6 x1 x2 x3 y_5
        ) q_7.1 q_7.2
      )

set_option maxHeartbeats 4000000 in
theorem wM_groups_L4 (B : CallFix p m c cX4_groups 5 s args lw_all RX4) (hK : KK X s) {w : MW} {x1 : Int32} {x2 : Int32} {x3 : Int32} {res : (Int32 × Int32 × MW) ⊕ (Int32 × MW)} (hf : fM_groups_L4 w x1 x2 x3 = some res) (kc : ∀ (y2 : Int32) (y3 : Int32) (w1 : MW), res = .inl (y2, y3, w1) → ∀ (H : Heap) (locs : List Loc), GG X (MP X a w1 ++ rest) s.heap H locs → ∀ (ls : Array Slot), lv_has ls 5 [(0, .ref (a 0)), (1, .int x1), (2, .int y2), (3, .int y3)] → W p l e (RMw 8 0 0 174) s m args below meth c H locs 0 0 Q (F0 m 4 ls [])) (ke88 : ∀ (y2 : Int32) (w1 : MW), res = .inr (y2, w1) → ∀ (H : Heap) (locs : List Loc), GG X (MP X a w1 ++ rest) s.heap H locs → ∀ (ls : Array Slot), lv_has ls 5 [(2, .int y2)] → W p l e (RMw 8 0 0 174) s m args below meth c H locs 0 0 Q (F0 m 88 ls [])) {H : Heap} {locs : List Loc} (hG : GG X (MP X a w ++ rest) s.heap H locs) {ls : Array Slot} (hl : lv_has ls 5 [(0, .ref (a 0)), (1, .int x1), (2, .int x2), (3, .int x3)]) : W p l e (RMw 8 0 0 174) s m args below meth c H locs 0 0 Q (F0 m 4 ls []) := by
  have hx := B.1
  have hb := B.2.1
  unfold fM_groups_L4 at hf
  refine lv_iload_n hx hb dX4_groups_4 rfl (lv_at hl 3 rfl) ?_
  refine lv_bipush (v := 67) hx hb dX4_groups_5 (by decide) ?_
  refine lv_icmp_ge (tgt := 88) hx hb dX4_groups_7 (by decide) (fun c_1 => ?_) (fun c_1 => ?_)
  · have hf := ifp c_1 hf
    exact ke88 _ _ (Option.some.inj hf).symm _ _ hG _ (lv_sub hl [2] rfl)
  · have hf := ifn c_1 hf
    refine lv_aload_n hx hb dX4_groups_10 rfl (lv_at hl 0 rfl) ?_
    refine lv_iload_n hx hb dX4_groups_11 rfl (lv_at hl 3 rfl) ?_
    obtain ⟨r_2, e_3, hf⟩ := bo hf
    refine cM_isDry B hK hG.2.2 hG.1 e_3 ⟨Nat.le_of_ble_eq_true rfl, Nat.le_of_ble_eq_true rfl⟩ ⟨Nat.zero_le _, Nat.zero_le _⟩ hl.1 (Nat.le_of_ble_eq_true rfl) dX4_groups_12 ?_
    refine lv_if_ne (tgt := 21) hx hb dX4_groups_15 (by decide) (fun c_4 => ?_) (fun c_4 => ?_)
    · have hf := ifn c_4 hf
      refine lv_iconst (v := 0) hx hb dX4_groups_21 (by decide) ?_
      refine lv_istore (lv' := [(4, .int 0), (0, .ref (a 0)), (1, .int x1), (2, .int x2), (3, .int x3)]) hx hb dX4_groups_22 hl (by decide) rfl (fun ls hl => ?_)
      obtain ⟨⟨y_5, w_6⟩, e_8, hf⟩ := bo hf
      try dsimp only at hf
      refine vM_groups_L24 B hK e_8 ?_ hG (lv_sub hl [1, 2, 3, 4, 0] rfl)
      intro z0 z1 hz
      cases hz
      intro H locs hG ls hl
      exact wM_groups_J56_L4 B hK hf kc ke88 hG hl
    · have hf := ifp c_4 hf
      refine lv_goto (tgt := 82) hx hb dX4_groups_18 (by decide) ?_
      obtain ⟨x_9, e_10, hf⟩ := bo hf
      refine w_iinc (k := 3) (lv' := [(3, .int x_9), (0, .ref (a 0)), (1, .int x1), (2, .int x2)]) e_10 hx hb dX4_groups_82 hl rfl (by decide) rfl (fun ls hl => ?_)
      refine lv_goto (tgt := 4) hx hb dX4_groups_85 (by decide) ?_
      exact kc _ _ _ (Option.some.inj hf).symm _ _ hG _ (lv_sub hl [1, 2, 3, 0] rfl)

set_option maxHeartbeats 4000000 in
theorem vM_groups_L4 (B : CallFix p m c cX4_groups 5 s args lw_all RX4) (hK : KK X s) {w : MW} {x1 : Int32} {x2 : Int32} {x3 : Int32} {res : Int32 × MW} (hf : lp (fun q : Int32 × Int32 × MW => fM_groups_L4 q.2.2 x1 q.1 q.2.1) (x2, x3, w) = some res) (ke88 : ∀ (y2 : Int32) (w1 : MW), res = (y2, w1) → ∀ (H : Heap) (locs : List Loc), GG X (MP X a w1 ++ rest) s.heap H locs → ∀ (ls : Array Slot), lv_has ls 5 [(2, .int y2)] → W p l e (RMw 8 0 0 174) s m args below meth c H locs 0 0 Q (F0 m 88 ls [])) {H : Heap} {locs : List Loc} (hG : GG X (MP X a w ++ rest) s.heap H locs) {ls : Array Slot} (hl : lv_has ls 5 [(0, .ref (a 0)), (1, .int x1), (2, .int x2), (3, .int x3)]) : W p l e (RMw 8 0 0 174) s m args below meth c H locs 0 0 Q (F0 m 4 ls []) := by
  refine lp_ind (r := res) (P := fun q : Int32 × Int32 × MW => ∀ (H : Heap) (locs : List Loc) (ls : Array Slot), GG X (MP X a q.2.2 ++ rest) s.heap H locs → lv_has ls 5 [(0, .ref (a 0)), (1, .int x1), (2, .int q.1), (3, .int q.2.1)] → W p l e (RMw 8 0 0 174) s m args below meth c H locs 0 0 Q (F0 m 4 ls [])) ?_ ?_ _ hf _ _ _ hG hl
  · intro q hb H locs ls hG hl
    exact wM_groups_L4 B hK hb (fun _ _ _ h => by cases h) (fun z0 z1 h => ke88 z0 z1 (Sum.inr.inj h)) hG hl
  · intro q q2 hb ih H locs ls hG hl
    exact wM_groups_L4 B hK hb (fun z0 z1 z2 h => by cases h; exact fun H locs hG ls hl => ih H locs ls hG hl) (fun _ _ h => by cases h) hG hl

noncomputable def fM_groups (w : MW) (x1 : Int32) : Option (Int32 × MW) :=
  (lp (fun q : Int32 × Int32 × MW => fM_groups_L4 q.2.2 x1 q.1 q.2.1) (0, 0, w)).bind (
    fun q_3 => (fun (y_1 : Int32) (w_2 : MW) =>
      some (y_1, w_2)
    ) q_3.1 q_3.2
  )

set_option maxHeartbeats 4000000 in
theorem wM_groups (B : CallFix p m c cX4_groups 5 s args lw_all RX4) (hK : KK X s) {w : MW} {x1 : Int32} {res : Int32 × MW} (hf : fM_groups w x1 = some res) (kr : ∀ (r : Int32) (w1 : MW), res = (r, w1) → ∀ (H : Heap) (locs : List Loc), GG X (MP X a w1 ++ rest) s.heap H locs → ∀ (pc : Nat) (ls : Array Slot), decode cX4_groups pc = .ok (.ireturn, 1) → W p l e (RMw 8 0 0 174) s m args below meth c H locs 0 0 Q (F0 m pc ls [.int r])) {H : Heap} {locs : List Loc} (hG : GG X (MP X a w ++ rest) s.heap H locs) {ls : Array Slot} (hl : lv_has ls 5 [(0, .ref (a 0)), (1, .int x1)]) : W p l e (RMw 8 0 0 174) s m args below meth c H locs 0 0 Q (F0 m 0 ls []) := by
  have hx := B.1
  have hb := B.2.1
  unfold fM_groups at hf
  refine lv_iconst (v := 0) hx hb dX4_groups_0 (by decide) ?_
  refine lv_istore_n (lv' := [(2, .int 0), (0, .ref (a 0)), (1, .int x1)]) hx hb dX4_groups_1 rfl hl (by decide) rfl (fun ls hl => ?_)
  refine lv_iconst (v := 0) hx hb dX4_groups_2 (by decide) ?_
  refine lv_istore_n (lv' := [(3, .int 0), (2, .int 0), (0, .ref (a 0)), (1, .int x1)]) hx hb dX4_groups_3 rfl hl (by decide) rfl (fun ls hl => ?_)
  obtain ⟨⟨y_1, w_2⟩, e_4, hf⟩ := bo hf
  try dsimp only at hf
  refine vM_groups_L4 B hK e_4 ?_ hG (lv_sub hl [2, 3, 1, 0] rfl)
  intro z0 z1 hz
  cases hz
  intro H locs hG ls hl
  refine lv_iload_n hx hb dX4_groups_88 rfl (lv_at hl 0 rfl) ?_
  exact kr _ _ (Option.some.inj hf).symm _ _ hG _ _ dX4_groups_89

theorem tM_groups (l : Launch) (X : CX) (a : Nat → Nat) (rest : va_W) (w w' : MW) (x1 : Int32) (r : Int32) (hf : fM_groups w x1 = some (r, w')) : RW l yX4_groups cX4_groups 5 (some .int) 8 0 0 174 [.ref (a 0), .int x1] X (MP X a w ++ rest) (MP X a w' ++ rest) (some (.int r)) := by
  refine RW.mk (by decide) (Nat.le_of_ble_eq_true rfl) ?_
  intro p e s m below meth c B hr hlk hK hG ls hl
  exact wM_groups B hK hf (fun r w h H locs hG pc ls hd => by cases h; exact w_iretW B hr hlk hG hd) hG hl
theorem cM_groups (B : CallFix p m c cc nL s args lw_all RX4) (hK : KK X s) (hG : GG X (MP X a w ++ rest) s.heap H locs) {x1 : Int32} {r : Int32} {w' : MW} (hf : fM_groups w x1 = some (r, w')) (hR : 8 + 1 ≤ R.frames ∧ 198 ≤ R.locals) (hcs : cells ≤ R.cells ∧ slots ≤ R.slots) (hl : ls.size = nL) (hcat : (st.map fun v => v.category).sum ≤ 8) (hdg : decode cc pc = .ok (.invokevirtual 286, 3)) (kk : ∀ (H1 : Heap) (locs1 : List Loc), GG X (MP X a w' ++ rest) s.heap H1 locs1 → W p l e R s m args below meth c H1 locs1 cells slots Q (F0 m (pc + 3) ls (.int r :: st))) : W p l e R s m args below meth c H locs cells slots Q (F0 m pc ls (.int x1 :: .ref (a 0) :: st)) :=
  w_afterW (w_rV_RW (As := [.int x1]) B hK hG (tM_groups l X a rest w w' x1 r hf) (lw_V q1795 q1797 qs75 q91 q1798) 0 rfl rfl (n := 1) (by decide +kernel) hR hcs rfl hl rfl hcat hdg) hG.2.2 kk
end S_groups

section S_sizeOf
variable {p : Program} {l : Launch} {e : Env} {R : Room} {s : State} {m : MethodId} {args : Array Value} {below : List Frame} {meth : Method} {c : Code} {H : Heap} {locs : List Loc} {cells slots : Nat} {Q : State → Prop} {cc : ByteArray} {nL pc : Nat} {ls : Array Slot} {st : List Value} {X : CX} {a : Nat → Nat} {w : MW} {rest : va_W}
noncomputable def fM_sizeOf_L4 (w : MW) (x1 : Int32) (x2 : Int32) (x3 : Int32) : Option ((Int32 × Int32) ⊕ (Int32)) :=
  if 67 ≤ x3 then
    some (.inr x2)
  else
    (fM_isDry w x3).bind fun r_2 =>
    if r_2 = 0 then
      (some (x3 + 1)).bind fun x_5 =>
      some (.inl (x2, x_5))
    else
      (rd (w.2.1 27) 67 x3).bind fun v_7 =>
      if v_7 = x1 then
        (some (x2 + 1)).bind fun x_12 =>
        (some (x3 + 1)).bind fun x_14 =>
        some (.inl (x_12, x_14))
      else
        (some (x3 + 1)).bind fun x_10 =>
        some (.inl (x2, x_10))

set_option maxHeartbeats 4000000 in
theorem wM_sizeOf_L4 (B : CallFix p m c cX4_sizeOf 4 s args lw_all RX4) (hK : KK X s) {w : MW} (hP : va_P X.2.2.1 vwCl (MP X a w ++ rest) s.heap) {x1 : Int32} {x2 : Int32} {x3 : Int32} {res : (Int32 × Int32) ⊕ (Int32)} (hf : fM_sizeOf_L4 w x1 x2 x3 = some res) (kc : ∀ (y2 : Int32) (y3 : Int32), res = .inl (y2, y3) → ∀ (ls : Array Slot), lv_has ls 4 [(0, .ref (a 0)), (1, .int x1), (2, .int y2), (3, .int y3)] → W p l e (RM 2 43) s m args below meth c s.heap [] 0 0 Q (F0 m 4 ls [])) (ke37 : ∀ (y2 : Int32), res = .inr y2 → ∀ (ls : Array Slot), lv_has ls 4 [(2, .int y2)] → W p l e (RM 2 43) s m args below meth c s.heap [] 0 0 Q (F0 m 37 ls [])) {ls : Array Slot} (hl : lv_has ls 4 [(0, .ref (a 0)), (1, .int x1), (2, .int x2), (3, .int x3)]) : W p l e (RM 2 43) s m args below meth c s.heap [] 0 0 Q (F0 m 4 ls []) := by
  have hx := B.1
  have hb := B.2.1
  unfold fM_sizeOf_L4 at hf
  refine lv_iload_n hx hb dX4_sizeOf_4 rfl (lv_at hl 3 rfl) ?_
  refine lv_bipush (v := 67) hx hb dX4_sizeOf_5 (by decide) ?_
  refine lv_icmp_ge (tgt := 37) hx hb dX4_sizeOf_7 (by decide) (fun c_1 => ?_) (fun c_1 => ?_)
  · have hf := ifp c_1 hf
    exact ke37 _ (Option.some.inj hf).symm _ (lv_sub hl [2] rfl)
  · have hf := ifn c_1 hf
    refine lv_aload_n hx hb dX4_sizeOf_10 rfl (lv_at hl 0 rfl) ?_
    refine lv_iload_n hx hb dX4_sizeOf_11 rfl (lv_at hl 3 rfl) ?_
    obtain ⟨r_2, e_3, hf⟩ := bo hf
    refine cM_isDry B hK va_S.rf hP e_3 ⟨Nat.le_of_ble_eq_true rfl, Nat.le_of_ble_eq_true rfl⟩ ⟨Nat.zero_le _, Nat.zero_le _⟩ hl.1 (Nat.le_of_ble_eq_true rfl) dX4_sizeOf_12 ?_
    refine lv_if_eq (tgt := 31) hx hb dX4_sizeOf_15 (by decide) (fun c_4 => ?_) (fun c_4 => ?_)
    · have hf := ifp c_4 hf
      obtain ⟨x_5, e_6, hf⟩ := bo hf
      refine w_iinc (k := 3) (lv' := [(3, .int x_5), (0, .ref (a 0)), (1, .int x1), (2, .int x2)]) e_6 hx hb dX4_sizeOf_31 hl rfl (by decide) rfl (fun ls hl => ?_)
      refine lv_goto (tgt := 4) hx hb dX4_sizeOf_34 (by decide) ?_
      exact kc _ _ (Option.some.inj hf).symm _ (lv_sub hl [1, 2, 3, 0] rfl)
    · have hf := ifn c_4 hf
      refine lv_aload_n hx hb dX4_sizeOf_18 rfl (lv_at hl 0 rfl) ?_
      refine mo_g27 B hK hP dX4_sizeOf_19 ?_
      refine lv_iload_n hx hb dX4_sizeOf_22 rfl (lv_at hl 3 rfl) ?_
      obtain ⟨v_7, e_8, hf⟩ := bo hf
      refine mo_ld27 B hK hP e_8 dX4_sizeOf_23 ?_
      refine lv_iload_n hx hb dX4_sizeOf_24 rfl (lv_at hl 1 rfl) ?_
      refine lv_icmp_ne (tgt := 31) hx hb dX4_sizeOf_25 (by decide) (fun c_9 => ?_) (fun c_9 => ?_)
      · have hf := ifn c_9 hf
        obtain ⟨x_10, e_11, hf⟩ := bo hf
        refine w_iinc (k := 3) (lv' := [(3, .int x_10), (0, .ref (a 0)), (1, .int x1), (2, .int x2)]) e_11 hx hb dX4_sizeOf_31 hl rfl (by decide) rfl (fun ls hl => ?_)
        refine lv_goto (tgt := 4) hx hb dX4_sizeOf_34 (by decide) ?_
        exact kc _ _ (Option.some.inj hf).symm _ (lv_sub hl [1, 2, 3, 0] rfl)
      · have hf := ifp c_9 hf
        obtain ⟨x_12, e_13, hf⟩ := bo hf
        refine w_iinc (k := 2) (lv' := [(2, .int x_12), (0, .ref (a 0)), (1, .int x1), (3, .int x3)]) e_13 hx hb dX4_sizeOf_28 hl rfl (by decide) rfl (fun ls hl => ?_)
        obtain ⟨x_14, e_15, hf⟩ := bo hf
        refine w_iinc (k := 3) (lv' := [(3, .int x_14), (2, .int x_12), (0, .ref (a 0)), (1, .int x1)]) e_15 hx hb dX4_sizeOf_31 hl rfl (by decide) rfl (fun ls hl => ?_)
        refine lv_goto (tgt := 4) hx hb dX4_sizeOf_34 (by decide) ?_
        exact kc _ _ (Option.some.inj hf).symm _ (lv_sub hl [2, 3, 1, 0] rfl)

set_option maxHeartbeats 4000000 in
theorem vM_sizeOf_L4 (B : CallFix p m c cX4_sizeOf 4 s args lw_all RX4) (hK : KK X s) {w : MW} (hP : va_P X.2.2.1 vwCl (MP X a w ++ rest) s.heap) {x1 : Int32} {x2 : Int32} {x3 : Int32} {res : Int32} (hf : lp (fun q : Int32 × Int32 => fM_sizeOf_L4 w x1 q.1 q.2) (x2, x3) = some res) (ke37 : ∀ (y2 : Int32), res = y2 → ∀ (ls : Array Slot), lv_has ls 4 [(2, .int y2)] → W p l e (RM 2 43) s m args below meth c s.heap [] 0 0 Q (F0 m 37 ls [])) {ls : Array Slot} (hl : lv_has ls 4 [(0, .ref (a 0)), (1, .int x1), (2, .int x2), (3, .int x3)]) : W p l e (RM 2 43) s m args below meth c s.heap [] 0 0 Q (F0 m 4 ls []) := by
  refine lp_ind (r := res) (P := fun q : Int32 × Int32 => ∀ (ls : Array Slot), lv_has ls 4 [(0, .ref (a 0)), (1, .int x1), (2, .int q.1), (3, .int q.2)] → W p l e (RM 2 43) s m args below meth c s.heap [] 0 0 Q (F0 m 4 ls [])) ?_ ?_ _ hf _ hl
  · intro q hb ls hl
    exact wM_sizeOf_L4 B hK hP hb (fun _ _ h => by cases h) (fun z0 h => ke37 z0 (Sum.inr.inj h)) hl
  · intro q q2 hb ih ls hl
    exact wM_sizeOf_L4 B hK hP hb (fun z0 z1 h => by cases h; exact fun ls hl => ih ls hl) (fun _ h => by cases h) hl

noncomputable def fM_sizeOf (w : MW) (x1 : Int32) : Option (Int32) :=
  (lp (fun q : Int32 × Int32 => fM_sizeOf_L4 w x1 q.1 q.2) (0, 0)).bind (
    fun q_2 => (fun (y_1 : Int32) =>
      some y_1
    ) q_2
  )

set_option maxHeartbeats 4000000 in
theorem wM_sizeOf (B : CallFix p m c cX4_sizeOf 4 s args lw_all RX4) (hK : KK X s) {w : MW} (hP : va_P X.2.2.1 vwCl (MP X a w ++ rest) s.heap) {x1 : Int32} {res : Int32} (hf : fM_sizeOf w x1 = some res) (kr : ∀ (r : Int32), res = r → ∀ (pc : Nat) (ls : Array Slot), decode cX4_sizeOf pc = .ok (.ireturn, 1) → W p l e (RM 2 43) s m args below meth c s.heap [] 0 0 Q (F0 m pc ls [.int r])) {ls : Array Slot} (hl : lv_has ls 4 [(0, .ref (a 0)), (1, .int x1)]) : W p l e (RM 2 43) s m args below meth c s.heap [] 0 0 Q (F0 m 0 ls []) := by
  have hx := B.1
  have hb := B.2.1
  unfold fM_sizeOf at hf
  refine lv_iconst (v := 0) hx hb dX4_sizeOf_0 (by decide) ?_
  refine lv_istore_n (lv' := [(2, .int 0), (0, .ref (a 0)), (1, .int x1)]) hx hb dX4_sizeOf_1 rfl hl (by decide) rfl (fun ls hl => ?_)
  refine lv_iconst (v := 0) hx hb dX4_sizeOf_2 (by decide) ?_
  refine lv_istore_n (lv' := [(3, .int 0), (2, .int 0), (0, .ref (a 0)), (1, .int x1)]) hx hb dX4_sizeOf_3 rfl hl (by decide) rfl (fun ls hl => ?_)
  obtain ⟨y_1, e_3, hf⟩ := bo hf
  try dsimp only at hf
  refine vM_sizeOf_L4 B hK hP e_3 ?_ (lv_sub hl [2, 3, 1, 0] rfl)
  intro z0 hz
  cases hz
  intro ls hl
  refine lv_iload_n hx hb dX4_sizeOf_37 rfl (lv_at hl 0 rfl) ?_
  exact kr _ (Option.some.inj hf).symm _ _ dX4_sizeOf_38

theorem tM_sizeOf (l : Launch) (X : CX) (a : Nat → Nat) (rest : va_W) (w : MW) (x1 : Int32) (r : Int32) (hf : fM_sizeOf w x1 = some r) : RO l yX4_sizeOf cX4_sizeOf 4 (some .int) 2 43 [.ref (a 0), .int x1] X (MP X a w ++ rest) (some (.int r)) := by
  refine RO.mk (by decide) (Nat.le_of_ble_eq_true rfl) ?_
  intro p e s m below meth c B hr hlk hK hP ls hl
  exact wM_sizeOf B hK hP hf (fun r h pc ls hd => by cases h; exact w_iretR B hr hlk rfl hd) hl
theorem cM_sizeOf (B : CallFix p m c cc nL s args lw_all RX4) (hK : KK X s) (hS : va_S (Az X) s.heap H locs) (hP : va_P X.2.2.1 vwCl (MP X a w ++ rest) H) {x1 : Int32} {r : Int32} (hf : fM_sizeOf w x1 = some r) (hR : 2 + 1 ≤ R.frames ∧ 66 ≤ R.locals) (hcs : cells ≤ R.cells ∧ slots ≤ R.slots) (hl : ls.size = nL) (hcat : (st.map fun v => v.category).sum ≤ 8) (hdg : decode cc pc = .ok (.invokevirtual 289, 3)) (kk : W p l e R s m args below meth c H locs cells slots Q (F0 m (pc + 3) ls (.int r :: st))) : W p l e R s m args below meth c H locs cells slots Q (F0 m pc ls (.int x1 :: .ref (a 0) :: st)) :=
  w_afterR (w_rV_RO (As := [.int x1]) B hK hS hP (tM_sizeOf l X a rest w x1 r hf) (lw_V q1803 q1805 qs77 q91 q1806) 0 rfl rfl (n := 1) (by decide +kernel) hR hcs rfl hl rfl hcat hdg) kk
end S_sizeOf

section S_blind
variable {p : Program} {l : Launch} {e : Env} {R : Room} {s : State} {m : MethodId} {args : Array Value} {below : List Frame} {meth : Method} {c : Code} {H : Heap} {locs : List Loc} {cells slots : Nat} {Q : State → Prop} {cc : ByteArray} {nL pc : Nat} {ls : Array Slot} {st : List Value} {X : CX} {a : Nat → Nat} {w : MW} {rest : va_W}
noncomputable def fM_blind_L19 (w : MW) (x1 : Int32) (x2 : Int32) (x3 : Int32) (x4 : Int32) : Option ((Int32 × Int32 × MW) ⊕ (Int32 × MW)) :=
  if (w.1 3) ≤ x4 then
    some (.inr (x3, w))
  else
    if x3 = 0 then
      some (.inr (x3, w))
    else
      b2 (fM_armFor w x4 x2) fun r_3 w_4 =>
      if r_3 = (-1) then
        (some (x4 + 1)).bind fun x_9 =>
        some (.inl (1, x_9, w_4))
      else
        (some (x4 + 1)).bind fun x_7 =>
        some (.inl (0, x_7, w_4))

set_option maxHeartbeats 4000000 in
theorem wM_blind_L19 (B : CallFix p m c cX4_blind 5 s args lw_all RX4) (hK : KK X s) {w : MW} {x1 : Int32} {x2 : Int32} {x3 : Int32} {x4 : Int32} {res : (Int32 × Int32 × MW) ⊕ (Int32 × MW)} (hf : fM_blind_L19 w x1 x2 x3 x4 = some res) (kc : ∀ (y3 : Int32) (y4 : Int32) (w1 : MW), res = .inl (y3, y4, w1) → ∀ (H : Heap) (locs : List Loc), GG X (MP X a w1 ++ rest) s.heap H locs → ∀ (ls : Array Slot), lv_has ls 5 [(0, .ref (a 0)), (1, .int x1), (2, .int x2), (3, .int y3), (4, .int y4)] → W p l e (RMw 7 0 0 150) s m args below meth c H locs 0 0 Q (F0 m 19 ls [])) (ke55 : ∀ (y3 : Int32) (w1 : MW), res = .inr (y3, w1) → ∀ (H : Heap) (locs : List Loc), GG X (MP X a w1 ++ rest) s.heap H locs → ∀ (ls : Array Slot), lv_has ls 5 [(0, .ref (a 0)), (1, .int x1), (2, .int x2), (3, .int y3)] → W p l e (RMw 7 0 0 150) s m args below meth c H locs 0 0 Q (F0 m 55 ls [])) {H : Heap} {locs : List Loc} (hG : GG X (MP X a w ++ rest) s.heap H locs) {ls : Array Slot} (hl : lv_has ls 5 [(0, .ref (a 0)), (1, .int x1), (2, .int x2), (3, .int x3), (4, .int x4)]) : W p l e (RMw 7 0 0 150) s m args below meth c H locs 0 0 Q (F0 m 19 ls []) := by
  have hx := B.1
  have hb := B.2.1
  unfold fM_blind_L19 at hf
  refine lv_iload hx hb dX4_blind_19 (lv_at hl 4 rfl) ?_
  refine lv_aload_n hx hb dX4_blind_21 rfl (lv_at hl 0 rfl) ?_
  refine mo_g3 B hK hG.1 dX4_blind_22 ?_
  refine lv_icmp_ge (tgt := 55) hx hb dX4_blind_25 (by decide) (fun c_1 => ?_) (fun c_1 => ?_)
  · have hf := ifp c_1 hf
    exact ke55 _ _ (Option.some.inj hf).symm _ _ hG _ (lv_sub hl [0, 1, 2, 3] rfl)
  · have hf := ifn c_1 hf
    refine lv_iload_n hx hb dX4_blind_28 rfl (lv_at hl 3 rfl) ?_
    refine lv_if_eq (tgt := 55) hx hb dX4_blind_29 (by decide) (fun c_2 => ?_) (fun c_2 => ?_)
    · have hf := ifp c_2 hf
      exact ke55 _ _ (Option.some.inj hf).symm _ _ hG _ (lv_sub hl [0, 1, 2, 3] rfl)
    · have hf := ifn c_2 hf
      refine lv_aload_n hx hb dX4_blind_32 rfl (lv_at hl 0 rfl) ?_
      refine lv_iload hx hb dX4_blind_33 (lv_at hl 4 rfl) ?_
      refine lv_iload_n hx hb dX4_blind_35 rfl (lv_at hl 2 rfl) ?_
      obtain ⟨r_3, w_4, e_5, hf⟩ := b2s hf
      refine cM_armFor B hK hG e_5 ⟨Nat.le_of_ble_eq_true rfl, Nat.le_of_ble_eq_true rfl⟩ ⟨Nat.zero_le _, Nat.zero_le _⟩ hl.1 (Nat.le_of_ble_eq_true rfl) dX4_blind_36 (fun H locs hG => ?_)
      refine lv_iconst (v := (-1)) hx hb dX4_blind_39 (by decide) ?_
      refine lv_icmp_ne (tgt := 47) hx hb dX4_blind_40 (by decide) (fun c_6 => ?_) (fun c_6 => ?_)
      · have hf := ifn c_6 hf
        refine lv_iconst (v := 0) hx hb dX4_blind_47 (by decide) ?_
        refine lv_istore_n (lv' := [(3, .int 0), (0, .ref (a 0)), (1, .int x1), (2, .int x2), (4, .int x4)]) hx hb dX4_blind_48 rfl hl (by decide) rfl (fun ls hl => ?_)
        obtain ⟨x_7, e_8, hf⟩ := bo hf
        refine w_iinc (k := 4) (lv' := [(4, .int x_7), (3, .int 0), (0, .ref (a 0)), (1, .int x1), (2, .int x2)]) e_8 hx hb dX4_blind_49 hl rfl (by decide) rfl (fun ls hl => ?_)
        refine lv_goto (tgt := 19) hx hb dX4_blind_52 (by decide) ?_
        exact kc _ _ _ (Option.some.inj hf).symm _ _ hG _ (lv_sub hl [2, 3, 4, 1, 0] rfl)
      · have hf := ifp c_6 hf
        refine lv_iconst (v := 1) hx hb dX4_blind_43 (by decide) ?_
        refine lv_goto (tgt := 48) hx hb dX4_blind_44 (by decide) ?_
        refine lv_istore_n (lv' := [(3, .int 1), (0, .ref (a 0)), (1, .int x1), (2, .int x2), (4, .int x4)]) hx hb dX4_blind_48 rfl hl (by decide) rfl (fun ls hl => ?_)
        obtain ⟨x_9, e_10, hf⟩ := bo hf
        refine w_iinc (k := 4) (lv' := [(4, .int x_9), (3, .int 1), (0, .ref (a 0)), (1, .int x1), (2, .int x2)]) e_10 hx hb dX4_blind_49 hl rfl (by decide) rfl (fun ls hl => ?_)
        refine lv_goto (tgt := 19) hx hb dX4_blind_52 (by decide) ?_
        exact kc _ _ _ (Option.some.inj hf).symm _ _ hG _ (lv_sub hl [2, 3, 4, 1, 0] rfl)

set_option maxHeartbeats 4000000 in
theorem vM_blind_L19 (B : CallFix p m c cX4_blind 5 s args lw_all RX4) (hK : KK X s) {w : MW} {x1 : Int32} {x2 : Int32} {x3 : Int32} {x4 : Int32} {res : Int32 × MW} (hf : lp (fun q : Int32 × Int32 × MW => fM_blind_L19 q.2.2 x1 x2 q.1 q.2.1) (x3, x4, w) = some res) (ke55 : ∀ (y3 : Int32) (w1 : MW), res = (y3, w1) → ∀ (H : Heap) (locs : List Loc), GG X (MP X a w1 ++ rest) s.heap H locs → ∀ (ls : Array Slot), lv_has ls 5 [(0, .ref (a 0)), (1, .int x1), (2, .int x2), (3, .int y3)] → W p l e (RMw 7 0 0 150) s m args below meth c H locs 0 0 Q (F0 m 55 ls [])) {H : Heap} {locs : List Loc} (hG : GG X (MP X a w ++ rest) s.heap H locs) {ls : Array Slot} (hl : lv_has ls 5 [(0, .ref (a 0)), (1, .int x1), (2, .int x2), (3, .int x3), (4, .int x4)]) : W p l e (RMw 7 0 0 150) s m args below meth c H locs 0 0 Q (F0 m 19 ls []) := by
  refine lp_ind (r := res) (P := fun q : Int32 × Int32 × MW => ∀ (H : Heap) (locs : List Loc) (ls : Array Slot), GG X (MP X a q.2.2 ++ rest) s.heap H locs → lv_has ls 5 [(0, .ref (a 0)), (1, .int x1), (2, .int x2), (3, .int q.1), (4, .int q.2.1)] → W p l e (RMw 7 0 0 150) s m args below meth c H locs 0 0 Q (F0 m 19 ls [])) ?_ ?_ _ hf _ _ _ hG hl
  · intro q hb H locs ls hG hl
    exact wM_blind_L19 B hK hb (fun _ _ _ h => by cases h) (fun z0 z1 h => ke55 z0 z1 (Sum.inr.inj h)) hG hl
  · intro q q2 hb ih H locs ls hG hl
    exact wM_blind_L19 B hK hb (fun z0 z1 z2 h => by cases h; exact fun H locs hG ls hl => ih H locs ls hG hl) (fun _ _ h => by cases h) hG hl

noncomputable def fM_blind_J55_L4 (w : MW) (x1 : Int32) (x2 : Int32) (x3 : Int32) : Option ((Int32 × Int32 × MW) ⊕ (Int32 × MW)) :=
  if x3 = 0 then
    (some (x2 + 1)).bind fun x_2 =>
    some (.inl (x1, x_2, w))
  else
    (some (x1 + 1)).bind fun x_4 =>
    (some (x2 + 1)).bind fun x_6 =>
    some (.inl (x_4, x_6, w))

set_option maxHeartbeats 4000000 in
theorem wM_blind_J55_L4 (B : CallFix p m c cX4_blind 5 s args lw_all RX4) (hK : KK X s) {w : MW} {x1 : Int32} {x2 : Int32} {x3 : Int32} {res : (Int32 × Int32 × MW) ⊕ (Int32 × MW)} (hf : fM_blind_J55_L4 w x1 x2 x3 = some res) (kc : ∀ (y1 : Int32) (y2 : Int32) (w1 : MW), res = .inl (y1, y2, w1) → ∀ (H : Heap) (locs : List Loc), GG X (MP X a w1 ++ rest) s.heap H locs → ∀ (ls : Array Slot), lv_has ls 5 [(0, .ref (a 0)), (1, .int y1), (2, .int y2)] → W p l e (RMw 7 0 0 150) s m args below meth c H locs 0 0 Q (F0 m 4 ls [])) (ke68 : ∀ (y1 : Int32) (w1 : MW), res = .inr (y1, w1) → ∀ (H : Heap) (locs : List Loc), GG X (MP X a w1 ++ rest) s.heap H locs → ∀ (ls : Array Slot), lv_has ls 5 [(1, .int y1)] → W p l e (RMw 7 0 0 150) s m args below meth c H locs 0 0 Q (F0 m 68 ls [])) {H : Heap} {locs : List Loc} (hG : GG X (MP X a w ++ rest) s.heap H locs) {ls : Array Slot} (hl : lv_has ls 5 [(0, .ref (a 0)), (1, .int x1), (2, .int x2), (3, .int x3)]) : W p l e (RMw 7 0 0 150) s m args below meth c H locs 0 0 Q (F0 m 55 ls []) := by
  have hx := B.1
  have hb := B.2.1
  unfold fM_blind_J55_L4 at hf
  refine lv_iload_n hx hb dX4_blind_55 rfl (lv_at hl 3 rfl) ?_
  refine lv_if_eq (tgt := 62) hx hb dX4_blind_56 (by decide) (fun c_1 => ?_) (fun c_1 => ?_)
  · have hf := ifp c_1 hf
    obtain ⟨x_2, e_3, hf⟩ := bo hf
    refine w_iinc (k := 2) (lv' := [(2, .int x_2), (0, .ref (a 0)), (1, .int x1), (3, .int x3)]) e_3 hx hb dX4_blind_62 hl rfl (by decide) rfl (fun ls hl => ?_)
    refine lv_goto (tgt := 4) hx hb dX4_blind_65 (by decide) ?_
    exact kc _ _ _ (Option.some.inj hf).symm _ _ hG _ (lv_sub hl [1, 2, 0] rfl)
  · have hf := ifn c_1 hf
    obtain ⟨x_4, e_5, hf⟩ := bo hf
    refine w_iinc (k := 1) (lv' := [(1, .int x_4), (0, .ref (a 0)), (2, .int x2), (3, .int x3)]) e_5 hx hb dX4_blind_59 hl rfl (by decide) rfl (fun ls hl => ?_)
    obtain ⟨x_6, e_7, hf⟩ := bo hf
    refine w_iinc (k := 2) (lv' := [(2, .int x_6), (1, .int x_4), (0, .ref (a 0)), (3, .int x3)]) e_7 hx hb dX4_blind_62 hl rfl (by decide) rfl (fun ls hl => ?_)
    refine lv_goto (tgt := 4) hx hb dX4_blind_65 (by decide) ?_
    exact kc _ _ _ (Option.some.inj hf).symm _ _ hG _ (lv_sub hl [2, 1, 0] rfl)

noncomputable def fM_blind_L4 (w : MW) (x1 : Int32) (x2 : Int32) : Option ((Int32 × Int32 × MW) ⊕ (Int32 × MW)) :=
  if 67 ≤ x2 then
    some (.inr (x1, w))
  else
    (fM_isDry w x2).bind fun r_2 =>
    (lp (fun q : Int32 × Int32 × MW => fM_blind_L19 q.2.2 x1 x2 q.1 q.2.1) (r_2, 0, w)).bind (
      fun q_6 => (fun (y_4 : Int32) (w_5 : MW) =>
        fM_blind_J55_L4 w_5 x1 x2 y_4
      ) q_6.1 q_6.2
    )

set_option maxHeartbeats 4000000 in
theorem wM_blind_L4 (B : CallFix p m c cX4_blind 5 s args lw_all RX4) (hK : KK X s) {w : MW} {x1 : Int32} {x2 : Int32} {res : (Int32 × Int32 × MW) ⊕ (Int32 × MW)} (hf : fM_blind_L4 w x1 x2 = some res) (kc : ∀ (y1 : Int32) (y2 : Int32) (w1 : MW), res = .inl (y1, y2, w1) → ∀ (H : Heap) (locs : List Loc), GG X (MP X a w1 ++ rest) s.heap H locs → ∀ (ls : Array Slot), lv_has ls 5 [(0, .ref (a 0)), (1, .int y1), (2, .int y2)] → W p l e (RMw 7 0 0 150) s m args below meth c H locs 0 0 Q (F0 m 4 ls [])) (ke68 : ∀ (y1 : Int32) (w1 : MW), res = .inr (y1, w1) → ∀ (H : Heap) (locs : List Loc), GG X (MP X a w1 ++ rest) s.heap H locs → ∀ (ls : Array Slot), lv_has ls 5 [(1, .int y1)] → W p l e (RMw 7 0 0 150) s m args below meth c H locs 0 0 Q (F0 m 68 ls [])) {H : Heap} {locs : List Loc} (hG : GG X (MP X a w ++ rest) s.heap H locs) {ls : Array Slot} (hl : lv_has ls 5 [(0, .ref (a 0)), (1, .int x1), (2, .int x2)]) : W p l e (RMw 7 0 0 150) s m args below meth c H locs 0 0 Q (F0 m 4 ls []) := by
  have hx := B.1
  have hb := B.2.1
  unfold fM_blind_L4 at hf
  refine lv_iload_n hx hb dX4_blind_4 rfl (lv_at hl 2 rfl) ?_
  refine lv_bipush (v := 67) hx hb dX4_blind_5 (by decide) ?_
  refine lv_icmp_ge (tgt := 68) hx hb dX4_blind_7 (by decide) (fun c_1 => ?_) (fun c_1 => ?_)
  · have hf := ifp c_1 hf
    exact ke68 _ _ (Option.some.inj hf).symm _ _ hG _ (lv_sub hl [1] rfl)
  · have hf := ifn c_1 hf
    refine lv_aload_n hx hb dX4_blind_10 rfl (lv_at hl 0 rfl) ?_
    refine lv_iload_n hx hb dX4_blind_11 rfl (lv_at hl 2 rfl) ?_
    obtain ⟨r_2, e_3, hf⟩ := bo hf
    refine cM_isDry B hK hG.2.2 hG.1 e_3 ⟨Nat.le_of_ble_eq_true rfl, Nat.le_of_ble_eq_true rfl⟩ ⟨Nat.zero_le _, Nat.zero_le _⟩ hl.1 (Nat.le_of_ble_eq_true rfl) dX4_blind_12 ?_
    refine lv_istore_n (lv' := [(3, .int r_2), (0, .ref (a 0)), (1, .int x1), (2, .int x2)]) hx hb dX4_blind_15 rfl hl (by decide) rfl (fun ls hl => ?_)
    refine lv_iconst (v := 0) hx hb dX4_blind_16 (by decide) ?_
    refine lv_istore (lv' := [(4, .int 0), (3, .int r_2), (0, .ref (a 0)), (1, .int x1), (2, .int x2)]) hx hb dX4_blind_17 hl (by decide) rfl (fun ls hl => ?_)
    obtain ⟨⟨y_4, w_5⟩, e_7, hf⟩ := bo hf
    try dsimp only at hf
    refine vM_blind_L19 B hK e_7 ?_ hG (lv_sub hl [2, 3, 4, 1, 0] rfl)
    intro z0 z1 hz
    cases hz
    intro H locs hG ls hl
    exact wM_blind_J55_L4 B hK hf kc ke68 hG hl

set_option maxHeartbeats 4000000 in
theorem vM_blind_L4 (B : CallFix p m c cX4_blind 5 s args lw_all RX4) (hK : KK X s) {w : MW} {x1 : Int32} {x2 : Int32} {res : Int32 × MW} (hf : lp (fun q : Int32 × Int32 × MW => fM_blind_L4 q.2.2 q.1 q.2.1) (x1, x2, w) = some res) (ke68 : ∀ (y1 : Int32) (w1 : MW), res = (y1, w1) → ∀ (H : Heap) (locs : List Loc), GG X (MP X a w1 ++ rest) s.heap H locs → ∀ (ls : Array Slot), lv_has ls 5 [(1, .int y1)] → W p l e (RMw 7 0 0 150) s m args below meth c H locs 0 0 Q (F0 m 68 ls [])) {H : Heap} {locs : List Loc} (hG : GG X (MP X a w ++ rest) s.heap H locs) {ls : Array Slot} (hl : lv_has ls 5 [(0, .ref (a 0)), (1, .int x1), (2, .int x2)]) : W p l e (RMw 7 0 0 150) s m args below meth c H locs 0 0 Q (F0 m 4 ls []) := by
  refine lp_ind (r := res) (P := fun q : Int32 × Int32 × MW => ∀ (H : Heap) (locs : List Loc) (ls : Array Slot), GG X (MP X a q.2.2 ++ rest) s.heap H locs → lv_has ls 5 [(0, .ref (a 0)), (1, .int q.1), (2, .int q.2.1)] → W p l e (RMw 7 0 0 150) s m args below meth c H locs 0 0 Q (F0 m 4 ls [])) ?_ ?_ _ hf _ _ _ hG hl
  · intro q hb H locs ls hG hl
    exact wM_blind_L4 B hK hb (fun _ _ _ h => by cases h) (fun z0 z1 h => ke68 z0 z1 (Sum.inr.inj h)) hG hl
  · intro q q2 hb ih H locs ls hG hl
    exact wM_blind_L4 B hK hb (fun z0 z1 z2 h => by cases h; exact fun H locs hG ls hl => ih H locs ls hG hl) (fun _ _ h => by cases h) hG hl

noncomputable def fM_blind (w : MW)  : Option (Int32 × MW) :=
  (lp (fun q : Int32 × Int32 × MW => fM_blind_L4 q.2.2 q.1 q.2.1) (0, 0, w)).bind (
    fun q_3 => (fun (y_1 : Int32) (w_2 : MW) =>
      some (y_1, w_2)
    ) q_3.1 q_3.2
  )

set_option maxHeartbeats 4000000 in
theorem wM_blind (B : CallFix p m c cX4_blind 5 s args lw_all RX4) (hK : KK X s) {w : MW}  {res : Int32 × MW} (hf : fM_blind w  = some res) (kr : ∀ (r : Int32) (w1 : MW), res = (r, w1) → ∀ (H : Heap) (locs : List Loc), GG X (MP X a w1 ++ rest) s.heap H locs → ∀ (pc : Nat) (ls : Array Slot), decode cX4_blind pc = .ok (.ireturn, 1) → W p l e (RMw 7 0 0 150) s m args below meth c H locs 0 0 Q (F0 m pc ls [.int r])) {H : Heap} {locs : List Loc} (hG : GG X (MP X a w ++ rest) s.heap H locs) {ls : Array Slot} (hl : lv_has ls 5 [(0, .ref (a 0))]) : W p l e (RMw 7 0 0 150) s m args below meth c H locs 0 0 Q (F0 m 0 ls []) := by
  have hx := B.1
  have hb := B.2.1
  unfold fM_blind at hf
  refine lv_iconst (v := 0) hx hb dX4_blind_0 (by decide) ?_
  refine lv_istore_n (lv' := [(1, .int 0), (0, .ref (a 0))]) hx hb dX4_blind_1 rfl hl (by decide) rfl (fun ls hl => ?_)
  refine lv_iconst (v := 0) hx hb dX4_blind_2 (by decide) ?_
  refine lv_istore_n (lv' := [(2, .int 0), (1, .int 0), (0, .ref (a 0))]) hx hb dX4_blind_3 rfl hl (by decide) rfl (fun ls hl => ?_)
  obtain ⟨⟨y_1, w_2⟩, e_4, hf⟩ := bo hf
  try dsimp only at hf
  refine vM_blind_L4 B hK e_4 ?_ hG (lv_sub hl [2, 1, 0] rfl)
  intro z0 z1 hz
  cases hz
  intro H locs hG ls hl
  refine lv_iload_n hx hb dX4_blind_68 rfl (lv_at hl 0 rfl) ?_
  exact kr _ _ (Option.some.inj hf).symm _ _ hG _ _ dX4_blind_69

theorem tM_blind (l : Launch) (X : CX) (a : Nat → Nat) (rest : va_W) (w w' : MW)  (r : Int32) (hf : fM_blind w  = some (r, w')) : RW l yX4_blind cX4_blind 5 (some .int) 7 0 0 150 [.ref (a 0)] X (MP X a w ++ rest) (MP X a w' ++ rest) (some (.int r)) := by
  refine RW.mk (by decide) (Nat.le_of_ble_eq_true rfl) ?_
  intro p e s m below meth c B hr hlk hK hG ls hl
  exact wM_blind B hK hf (fun r w h H locs hG pc ls hd => by cases h; exact w_iretW B hr hlk hG hd) hG hl
theorem cM_blind (B : CallFix p m c cc nL s args lw_all RX4) (hK : KK X s) (hG : GG X (MP X a w ++ rest) s.heap H locs)  {r : Int32} {w' : MW} (hf : fM_blind w  = some (r, w')) (hR : 7 + 1 ≤ R.frames ∧ 174 ≤ R.locals) (hcs : cells ≤ R.cells ∧ slots ≤ R.slots) (hl : ls.size = nL) (hcat : (st.map fun v => v.category).sum ≤ 8) (hdg : decode cc pc = .ok (.invokevirtual 280, 3)) (kk : ∀ (H1 : Heap) (locs1 : List Loc), GG X (MP X a w' ++ rest) s.heap H1 locs1 → W p l e R s m args below meth c H1 locs1 cells slots Q (F0 m (pc + 3) ls (.int r :: st))) : W p l e R s m args below meth c H locs cells slots Q (F0 m pc ls (.ref (a 0) :: st)) :=
  w_afterW (w_rV_RW (As := []) B hK hG (tM_blind l X a rest w w'  r hf) (lw_V q1787 q1789 qs73 q91 q1790) 0 rfl rfl (n := 0) (by decide +kernel) hR hcs rfl hl rfl hcat hdg) hG.2.2 kk
end S_blind
