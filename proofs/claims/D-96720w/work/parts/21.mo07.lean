set_option maxRecDepth 100000
section S_back
variable {p : Program} {l : Launch} {e : Env} {R : Room} {s : State} {m : MethodId} {args : Array Value} {below : List Frame} {meth : Method} {c : Code} {H : Heap} {locs : List Loc} {cells slots : Nat} {Q : State → Prop} {cc : ByteArray} {nL pc : Nat} {ls : Array Slot} {st : List Value} {X : CX} {a : Nat → Nat} {w : MW} {rest : va_W}
noncomputable def fM_back_L24 (w : MW) (x1 : Int32) : Option ((Int32 × MW) ⊕ (MW)) :=
  if 8 ≤ x1 then
    some (.inr w)
  else
    (rd (w.2.1 17) 8 x1).bind fun v_2 =>
    if v_2 < (10 + (w.1 3)) then
      (some (x1 + 1)).bind fun x_5 =>
      some (.inl (x_5, w))
    else
      (mst w 17 8 x1 (-1)).bind fun w_7 =>
      (some (x1 + 1)).bind fun x_9 =>
      some (.inl (x_9, w_7))

set_option maxHeartbeats 4000000 in
theorem wM_back_L24 (B : CallFix p m c cX4_back 2 s args lw_all RX4) (hK : KK X s) {w : MW} {x1 : Int32} {res : (Int32 × MW) ⊕ (MW)} (hf : fM_back_L24 w x1 = some res) (kc : ∀ (y1 : Int32) (w1 : MW), res = .inl (y1, w1) → ∀ (H : Heap) (locs : List Loc), GG X (MP X a w1 ++ rest) s.heap H locs → ∀ (ls : Array Slot), lv_has ls 2 [(0, .ref (a 0)), (1, .int y1)] → W p l e (RMw 1 0 0 22) s m args below meth c H locs 0 0 Q (F0 m 24 ls [])) (ke59 : ∀ (w1 : MW), res = .inr w1 → ∀ (H : Heap) (locs : List Loc), GG X (MP X a w1 ++ rest) s.heap H locs → ∀ (ls : Array Slot), lv_has ls 2 [] → W p l e (RMw 1 0 0 22) s m args below meth c H locs 0 0 Q (F0 m 59 ls [])) {H : Heap} {locs : List Loc} (hG : GG X (MP X a w ++ rest) s.heap H locs) {ls : Array Slot} (hl : lv_has ls 2 [(0, .ref (a 0)), (1, .int x1)]) : W p l e (RMw 1 0 0 22) s m args below meth c H locs 0 0 Q (F0 m 24 ls []) := by
  have hx := B.1
  have hb := B.2.1
  unfold fM_back_L24 at hf
  refine lv_iload_n hx hb dX4_back_24 rfl (lv_at hl 1 rfl) ?_
  refine lv_bipush (v := 8) hx hb dX4_back_25 (by decide) ?_
  refine lv_icmp_ge (tgt := 59) hx hb dX4_back_27 (by decide) (fun c_1 => ?_) (fun c_1 => ?_)
  · have hf := ifp c_1 hf
    exact ke59 _ (Option.some.inj hf).symm _ _ hG _ (lv_sub hl [] rfl)
  · have hf := ifn c_1 hf
    refine lv_aload_n hx hb dX4_back_30 rfl (lv_at hl 0 rfl) ?_
    refine mo_g17 B hK hG.1 dX4_back_31 ?_
    refine lv_iload_n hx hb dX4_back_34 rfl (lv_at hl 1 rfl) ?_
    obtain ⟨v_2, e_3, hf⟩ := bo hf
    refine mo_ld17 B hK hG.1 e_3 dX4_back_35 ?_
    refine lv_bipush (v := 10) hx hb dX4_back_36 (by decide) ?_
    refine lv_aload_n hx hb dX4_back_38 rfl (lv_at hl 0 rfl) ?_
    refine mo_g3 B hK hG.1 dX4_back_39 ?_
    refine lv_iadd hx hb dX4_back_42 ?_
    refine lv_icmp_lt (tgt := 53) hx hb dX4_back_43 (by decide) (fun c_4 => ?_) (fun c_4 => ?_)
    · have hf := ifp c_4 hf
      obtain ⟨x_5, e_6, hf⟩ := bo hf
      refine w_iinc (k := 1) (lv' := [(1, .int x_5), (0, .ref (a 0))]) e_6 hx hb dX4_back_53 hl rfl (by decide) rfl (fun ls hl => ?_)
      refine lv_goto (tgt := 24) hx hb dX4_back_56 (by decide) ?_
      exact kc _ _ (Option.some.inj hf).symm _ _ hG _ (lv_sub hl [1, 0] rfl)
    · have hf := ifn c_4 hf
      refine lv_aload_n hx hb dX4_back_46 rfl (lv_at hl 0 rfl) ?_
      refine mo_g17 B hK hG.1 dX4_back_47 ?_
      refine lv_iload_n hx hb dX4_back_50 rfl (lv_at hl 1 rfl) ?_
      refine lv_iconst (v := (-1)) hx hb dX4_back_51 (by decide) ?_
      obtain ⟨w_7, e_8, hf⟩ := bo hf
      refine mo_st17 B hK hG e_8 dX4_back_52 (fun H locs hG => ?_)
      obtain ⟨x_9, e_10, hf⟩ := bo hf
      refine w_iinc (k := 1) (lv' := [(1, .int x_9), (0, .ref (a 0))]) e_10 hx hb dX4_back_53 hl rfl (by decide) rfl (fun ls hl => ?_)
      refine lv_goto (tgt := 24) hx hb dX4_back_56 (by decide) ?_
      exact kc _ _ (Option.some.inj hf).symm _ _ hG _ (lv_sub hl [1, 0] rfl)

set_option maxHeartbeats 4000000 in
theorem vM_back_L24 (B : CallFix p m c cX4_back 2 s args lw_all RX4) (hK : KK X s) {w : MW} {x1 : Int32} {res : MW} (hf : lp (fun q : Int32 × MW => fM_back_L24 q.2 q.1) (x1, w) = some res) (ke59 : ∀ (w1 : MW), res = w1 → ∀ (H : Heap) (locs : List Loc), GG X (MP X a w1 ++ rest) s.heap H locs → ∀ (ls : Array Slot), lv_has ls 2 [] → W p l e (RMw 1 0 0 22) s m args below meth c H locs 0 0 Q (F0 m 59 ls [])) {H : Heap} {locs : List Loc} (hG : GG X (MP X a w ++ rest) s.heap H locs) {ls : Array Slot} (hl : lv_has ls 2 [(0, .ref (a 0)), (1, .int x1)]) : W p l e (RMw 1 0 0 22) s m args below meth c H locs 0 0 Q (F0 m 24 ls []) := by
  refine lp_ind (r := res) (P := fun q : Int32 × MW => ∀ (H : Heap) (locs : List Loc) (ls : Array Slot), GG X (MP X a q.2 ++ rest) s.heap H locs → lv_has ls 2 [(0, .ref (a 0)), (1, .int q.1)] → W p l e (RMw 1 0 0 22) s m args below meth c H locs 0 0 Q (F0 m 24 ls [])) ?_ ?_ _ hf _ _ _ hG hl
  · intro q hb H locs ls hG hl
    exact wM_back_L24 B hK hb (fun _ _ h => by cases h) (fun z0 h => ke59 z0 (Sum.inr.inj h)) hG hl
  · intro q q2 hb ih H locs ls hG hl
    exact wM_back_L24 B hK hb (fun z0 z1 h => by cases h; exact fun H locs hG ls hl => ih H locs ls hG hl) (fun _ h => by cases h) hG hl

noncomputable def fM_back (w : MW)  : Option (Int32 × MW) :=
  if (w.1 21) = 0 then
    b2 (fM_no w (-5)) fun r_7 w_8 =>
    some (r_7, w_8)
  else
    (fM_again_22 w ).bind fun w_2 =>
    (lp (fun q : Int32 × MW => fM_back_L24 q.2 q.1) (0, w_2)).bind (
      fun q_5 => (fun (w_4 : MW) =>
        some (1, w_4)
      ) q_5
    )

set_option maxHeartbeats 4000000 in
theorem wM_back (B : CallFix p m c cX4_back 2 s args lw_all RX4) (hK : KK X s) {w : MW}  {res : Int32 × MW} (hf : fM_back w  = some res) (kr : ∀ (r : Int32) (w1 : MW), res = (r, w1) → ∀ (H : Heap) (locs : List Loc), GG X (MP X a w1 ++ rest) s.heap H locs → ∀ (pc : Nat) (ls : Array Slot), decode cX4_back pc = .ok (.ireturn, 1) → W p l e (RMw 1 0 0 22) s m args below meth c H locs 0 0 Q (F0 m pc ls [.int r])) {H : Heap} {locs : List Loc} (hG : GG X (MP X a w ++ rest) s.heap H locs) {ls : Array Slot} (hl : lv_has ls 2 [(0, .ref (a 0))]) : W p l e (RMw 1 0 0 22) s m args below meth c H locs 0 0 Q (F0 m 0 ls []) := by
  have hx := B.1
  have hb := B.2.1
  unfold fM_back at hf
  refine lv_aload_n hx hb dX4_back_0 rfl (lv_at hl 0 rfl) ?_
  refine mo_g21 B hK hG.1 dX4_back_1 ?_
  refine lv_if_ne (tgt := 14) hx hb dX4_back_4 (by decide) (fun c_1 => ?_) (fun c_1 => ?_)
  · have hf := ifn c_1 hf
    refine lv_aload_n hx hb dX4_back_14 rfl (lv_at hl 0 rfl) ?_
    refine lv_aload_n hx hb dX4_back_15 rfl (lv_at hl 0 rfl) ?_
    refine mo_g22 B hK hG.1 dX4_back_16 ?_
    obtain ⟨w_2, e_3, hf⟩ := bo hf
    refine cM_again_22 B hK hG e_3 ⟨Nat.le_of_ble_eq_true rfl, Nat.le_of_ble_eq_true rfl⟩ ⟨Nat.zero_le _, Nat.zero_le _⟩ hl.1 (Nat.le_of_ble_eq_true rfl) dX4_back_19 (fun H locs hG => ?_)
    refine lv_iconst (v := 0) hx hb dX4_back_22 (by decide) ?_
    refine lv_istore_n (lv' := [(1, .int 0), (0, .ref (a 0))]) hx hb dX4_back_23 rfl hl (by decide) rfl (fun ls hl => ?_)
    obtain ⟨w_4, e_6, hf⟩ := bo hf
    try dsimp only at hf
    refine vM_back_L24 B hK e_6 ?_ hG (lv_sub hl [1, 0] rfl)
    intro z0 hz
    cases hz
    intro H locs hG ls hl
    refine lv_iconst (v := 1) hx hb dX4_back_59 (by decide) ?_
    exact kr _ _ (Option.some.inj hf).symm _ _ hG _ _ dX4_back_60
  · have hf := ifp c_1 hf
    refine lv_aload_n hx hb dX4_back_7 rfl (lv_at hl 0 rfl) ?_
    refine lv_bipush (v := (-5)) hx hb dX4_back_8 (by decide) ?_
    obtain ⟨r_7, w_8, e_9, hf⟩ := b2s hf
    refine cM_no B hK hG e_9 ⟨Nat.le_of_ble_eq_true rfl, Nat.le_of_ble_eq_true rfl⟩ ⟨Nat.zero_le _, Nat.zero_le _⟩ hl.1 (Nat.le_of_ble_eq_true rfl) dX4_back_10 (fun H locs hG => ?_)
    exact kr _ _ (Option.some.inj hf).symm _ _ hG _ _ dX4_back_13

theorem tM_back (l : Launch) (X : CX) (a : Nat → Nat) (rest : va_W) (w w' : MW)  (r : Int32) (hf : fM_back w  = some (r, w')) : RW l yX4_back cX4_back 2 (some .int) 1 0 0 22 [.ref (a 0)] X (MP X a w ++ rest) (MP X a w' ++ rest) (some (.int r)) := by
  refine RW.mk (by decide) (Nat.le_of_ble_eq_true rfl) ?_
  intro p e s m below meth c B hr hlk hK hG ls hl
  exact wM_back B hK hf (fun r w h H locs hG pc ls hd => by cases h; exact w_iretW B hr hlk hG hd) hG hl
end S_back

section S_status
variable {p : Program} {l : Launch} {e : Env} {R : Room} {s : State} {m : MethodId} {args : Array Value} {below : List Frame} {meth : Method} {c : Code} {H : Heap} {locs : List Loc} {cells slots : Nat} {Q : State → Prop} {cc : ByteArray} {nL pc : Nat} {ls : Array Slot} {st : List Value} {X : CX} {a : Nat → Nat} {w : MW} {rest : va_W}
noncomputable def fM_status_L84 (w : MW) (x2 : Int32) (x3 : Int32) : Option ((Int32 × Int32) ⊕ (Int32)) :=
  if 67 ≤ x3 then
    some (.inr x2)
  else
    (rd (w.2.1 1) 67 x3).bind fun v_2 =>
    if v_2 = 0 then
      (some (x3 + 1)).bind fun x_5 =>
      some (.inl (x2, x_5))
    else
      (some (x2 + 1)).bind fun x_7 =>
      (some (x3 + 1)).bind fun x_9 =>
      some (.inl (x_7, x_9))

set_option maxHeartbeats 4000000 in
theorem wM_status_L84 (B : CallFix p m c cX4_status 4 s args lw_all RX4) (hK : KK X s) {w : MW} (hP : va_P X.2.2.1 vwCl (MP X a w ++ rest) s.heap) {x2 : Int32} {x3 : Int32} {res : (Int32 × Int32) ⊕ (Int32)} (hf : fM_status_L84 w x2 x3 = some res) (kc : ∀ (y2 : Int32) (y3 : Int32), res = .inl (y2, y3) → ∀ (ls : Array Slot), lv_has ls 4 [(0, .ref (a 0)), (2, .int y2), (3, .int y3)] → W p l e (RM 2 43) s m args below meth c s.heap [] 0 0 Q (F0 m 84 ls [])) (ke108 : ∀ (y2 : Int32), res = .inr y2 → ∀ (ls : Array Slot), lv_has ls 4 [(2, .int y2)] → W p l e (RM 2 43) s m args below meth c s.heap [] 0 0 Q (F0 m 108 ls [])) {ls : Array Slot} (hl : lv_has ls 4 [(0, .ref (a 0)), (2, .int x2), (3, .int x3)]) : W p l e (RM 2 43) s m args below meth c s.heap [] 0 0 Q (F0 m 84 ls []) := by
  have hx := B.1
  have hb := B.2.1
  unfold fM_status_L84 at hf
  refine lv_iload_n hx hb dX4_status_84 rfl (lv_at hl 2 rfl) ?_
  refine lv_bipush (v := 67) hx hb dX4_status_85 (by decide) ?_
  refine lv_icmp_ge (tgt := 108) hx hb dX4_status_87 (by decide) (fun c_1 => ?_) (fun c_1 => ?_)
  · have hf := ifp c_1 hf
    exact ke108 _ (Option.some.inj hf).symm _ (lv_sub hl [1] rfl)
  · have hf := ifn c_1 hf
    refine lv_aload_n hx hb dX4_status_90 rfl (lv_at hl 0 rfl) ?_
    refine mo_g1 B hK hP dX4_status_91 ?_
    refine lv_iload_n hx hb dX4_status_94 rfl (lv_at hl 2 rfl) ?_
    obtain ⟨v_2, e_3, hf⟩ := bo hf
    refine mo_ld1 B hK hP e_3 dX4_status_95 ?_
    refine lv_if_eq (tgt := 102) hx hb dX4_status_96 (by decide) (fun c_4 => ?_) (fun c_4 => ?_)
    · have hf := ifp c_4 hf
      obtain ⟨x_5, e_6, hf⟩ := bo hf
      refine w_iinc (k := 2) (lv' := [(3, .int x_5), (0, .ref (a 0)), (2, .int x2)]) e_6 hx hb dX4_status_102 hl rfl (by decide) rfl (fun ls hl => ?_)
      refine lv_goto (tgt := 84) hx hb dX4_status_105 (by decide) ?_
      exact kc _ _ (Option.some.inj hf).symm _ (lv_sub hl [1, 2, 0] rfl)
    · have hf := ifn c_4 hf
      obtain ⟨x_7, e_8, hf⟩ := bo hf
      refine w_iinc (k := 1) (lv' := [(2, .int x_7), (0, .ref (a 0)), (3, .int x3)]) e_8 hx hb dX4_status_99 hl rfl (by decide) rfl (fun ls hl => ?_)
      obtain ⟨x_9, e_10, hf⟩ := bo hf
      refine w_iinc (k := 2) (lv' := [(3, .int x_9), (2, .int x_7), (0, .ref (a 0))]) e_10 hx hb dX4_status_102 hl rfl (by decide) rfl (fun ls hl => ?_)
      refine lv_goto (tgt := 84) hx hb dX4_status_105 (by decide) ?_
      exact kc _ _ (Option.some.inj hf).symm _ (lv_sub hl [2, 1, 0] rfl)

set_option maxHeartbeats 4000000 in
theorem vM_status_L84 (B : CallFix p m c cX4_status 4 s args lw_all RX4) (hK : KK X s) {w : MW} (hP : va_P X.2.2.1 vwCl (MP X a w ++ rest) s.heap) {x2 : Int32} {x3 : Int32} {res : Int32} (hf : lp (fun q : Int32 × Int32 => fM_status_L84 w q.1 q.2) (x2, x3) = some res) (ke108 : ∀ (y2 : Int32), res = y2 → ∀ (ls : Array Slot), lv_has ls 4 [(2, .int y2)] → W p l e (RM 2 43) s m args below meth c s.heap [] 0 0 Q (F0 m 108 ls [])) {ls : Array Slot} (hl : lv_has ls 4 [(0, .ref (a 0)), (2, .int x2), (3, .int x3)]) : W p l e (RM 2 43) s m args below meth c s.heap [] 0 0 Q (F0 m 84 ls []) := by
  refine lp_ind (r := res) (P := fun q : Int32 × Int32 => ∀ (ls : Array Slot), lv_has ls 4 [(0, .ref (a 0)), (2, .int q.1), (3, .int q.2)] → W p l e (RM 2 43) s m args below meth c s.heap [] 0 0 Q (F0 m 84 ls [])) ?_ ?_ _ hf _ hl
  · intro q hb ls hl
    exact wM_status_L84 B hK hP hb (fun _ _ h => by cases h) (fun z0 h => ke108 z0 (Sum.inr.inj h)) hl
  · intro q q2 hb ih ls hl
    exact wM_status_L84 B hK hP hb (fun z0 z1 h => by cases h; exact fun ls hl => ih ls hl) (fun _ h => by cases h) hl

noncomputable def fM_status_L122 (w : MW) (x2 : Int32) (x3 : Int32) : Option ((Int32 × Int32) ⊕ (Int32)) :=
  if 8 ≤ x3 then
    some (.inr x2)
  else
    (rd (w.2.1 17) 8 x3).bind fun v_2 =>
    if v_2 = (-1) then
      (some (x3 + 1)).bind fun x_5 =>
      some (.inl (x2, x_5))
    else
      (some (x2 + 1)).bind fun x_7 =>
      (some (x3 + 1)).bind fun x_9 =>
      some (.inl (x_7, x_9))

set_option maxHeartbeats 4000000 in
theorem wM_status_L122 (B : CallFix p m c cX4_status 4 s args lw_all RX4) (hK : KK X s) {w : MW} (hP : va_P X.2.2.1 vwCl (MP X a w ++ rest) s.heap) {x2 : Int32} {x3 : Int32} {res : (Int32 × Int32) ⊕ (Int32)} (hf : fM_status_L122 w x2 x3 = some res) (kc : ∀ (y2 : Int32) (y3 : Int32), res = .inl (y2, y3) → ∀ (ls : Array Slot), lv_has ls 4 [(0, .ref (a 0)), (2, .int y2), (3, .int y3)] → W p l e (RM 2 43) s m args below meth c s.heap [] 0 0 Q (F0 m 122 ls [])) (ke147 : ∀ (y2 : Int32), res = .inr y2 → ∀ (ls : Array Slot), lv_has ls 4 [(2, .int y2)] → W p l e (RM 2 43) s m args below meth c s.heap [] 0 0 Q (F0 m 147 ls [])) {ls : Array Slot} (hl : lv_has ls 4 [(0, .ref (a 0)), (2, .int x2), (3, .int x3)]) : W p l e (RM 2 43) s m args below meth c s.heap [] 0 0 Q (F0 m 122 ls []) := by
  have hx := B.1
  have hb := B.2.1
  unfold fM_status_L122 at hf
  refine lv_iload_n hx hb dX4_status_122 rfl (lv_at hl 2 rfl) ?_
  refine lv_bipush (v := 8) hx hb dX4_status_123 (by decide) ?_
  refine lv_icmp_ge (tgt := 147) hx hb dX4_status_125 (by decide) (fun c_1 => ?_) (fun c_1 => ?_)
  · have hf := ifp c_1 hf
    exact ke147 _ (Option.some.inj hf).symm _ (lv_sub hl [1] rfl)
  · have hf := ifn c_1 hf
    refine lv_aload_n hx hb dX4_status_128 rfl (lv_at hl 0 rfl) ?_
    refine mo_g17 B hK hP dX4_status_129 ?_
    refine lv_iload_n hx hb dX4_status_132 rfl (lv_at hl 2 rfl) ?_
    obtain ⟨v_2, e_3, hf⟩ := bo hf
    refine mo_ld17 B hK hP e_3 dX4_status_133 ?_
    refine lv_iconst (v := (-1)) hx hb dX4_status_134 (by decide) ?_
    refine lv_icmp_eq (tgt := 141) hx hb dX4_status_135 (by decide) (fun c_4 => ?_) (fun c_4 => ?_)
    · have hf := ifp c_4 hf
      obtain ⟨x_5, e_6, hf⟩ := bo hf
      refine w_iinc (k := 2) (lv' := [(3, .int x_5), (0, .ref (a 0)), (2, .int x2)]) e_6 hx hb dX4_status_141 hl rfl (by decide) rfl (fun ls hl => ?_)
      refine lv_goto (tgt := 122) hx hb dX4_status_144 (by decide) ?_
      exact kc _ _ (Option.some.inj hf).symm _ (lv_sub hl [1, 2, 0] rfl)
    · have hf := ifn c_4 hf
      obtain ⟨x_7, e_8, hf⟩ := bo hf
      refine w_iinc (k := 1) (lv' := [(2, .int x_7), (0, .ref (a 0)), (3, .int x3)]) e_8 hx hb dX4_status_138 hl rfl (by decide) rfl (fun ls hl => ?_)
      obtain ⟨x_9, e_10, hf⟩ := bo hf
      refine w_iinc (k := 2) (lv' := [(3, .int x_9), (2, .int x_7), (0, .ref (a 0))]) e_10 hx hb dX4_status_141 hl rfl (by decide) rfl (fun ls hl => ?_)
      refine lv_goto (tgt := 122) hx hb dX4_status_144 (by decide) ?_
      exact kc _ _ (Option.some.inj hf).symm _ (lv_sub hl [2, 1, 0] rfl)

set_option maxHeartbeats 4000000 in
theorem vM_status_L122 (B : CallFix p m c cX4_status 4 s args lw_all RX4) (hK : KK X s) {w : MW} (hP : va_P X.2.2.1 vwCl (MP X a w ++ rest) s.heap) {x2 : Int32} {x3 : Int32} {res : Int32} (hf : lp (fun q : Int32 × Int32 => fM_status_L122 w q.1 q.2) (x2, x3) = some res) (ke147 : ∀ (y2 : Int32), res = y2 → ∀ (ls : Array Slot), lv_has ls 4 [(2, .int y2)] → W p l e (RM 2 43) s m args below meth c s.heap [] 0 0 Q (F0 m 147 ls [])) {ls : Array Slot} (hl : lv_has ls 4 [(0, .ref (a 0)), (2, .int x2), (3, .int x3)]) : W p l e (RM 2 43) s m args below meth c s.heap [] 0 0 Q (F0 m 122 ls []) := by
  refine lp_ind (r := res) (P := fun q : Int32 × Int32 => ∀ (ls : Array Slot), lv_has ls 4 [(0, .ref (a 0)), (2, .int q.1), (3, .int q.2)] → W p l e (RM 2 43) s m args below meth c s.heap [] 0 0 Q (F0 m 122 ls [])) ?_ ?_ _ hf _ hl
  · intro q hb ls hl
    exact wM_status_L122 B hK hP hb (fun _ _ h => by cases h) (fun z0 h => ke147 z0 (Sum.inr.inj h)) hl
  · intro q q2 hb ih ls hl
    exact wM_status_L122 B hK hP hb (fun z0 z1 h => by cases h; exact fun ls hl => ih ls hl) (fun _ h => by cases h) hl

noncomputable def fM_status (w : MW) (x1 : Int32) : Option (Int32) :=
  if x1 = 0 then
    some (w.1 3)
  else
    if x1 = 1 then
      some (w.1 0)
    else
      if x1 = 2 then
        some (w.1 2)
      else
        if x1 = 3 then
          some (w.1 7)
        else
          if x1 = 4 then
            (fM_sureOnes w ).bind fun r_6 =>
            some ((w.1 7) - r_6)
          else
            if x1 = 5 then
              (lp (fun q : Int32 × Int32 => fM_status_L84 w q.1 q.2) (0, 0)).bind (
                fun q_10 => (fun (y_9 : Int32) =>
                  some y_9
                ) q_10
              )
            else
              if x1 = 6 then
                some (w.1 11)
              else
                if x1 = 7 then
                  some (w.1 10)
                else
                  if x1 = 8 then
                    (lp (fun q : Int32 × Int32 => fM_status_L122 w q.1 q.2) (0, 0)).bind (
                      fun q_16 => (fun (y_15 : Int32) =>
                        some y_15
                      ) q_16
                    )
                  else
                    (fM_within x1 12 16).bind fun r_18 =>
                    if r_18 = 0 then
                      some (-1)
                    else
                      (rd (w.2.1 20) 7 (x1 - 10)).bind fun v_21 =>
                      some v_21

set_option maxHeartbeats 4000000 in
theorem wM_status (B : CallFix p m c cX4_status 4 s args lw_all RX4) (hK : KK X s) {w : MW} (hP : va_P X.2.2.1 vwCl (MP X a w ++ rest) s.heap) {x1 : Int32} {res : Int32} (hf : fM_status w x1 = some res) (kr : ∀ (r : Int32), res = r → ∀ (pc : Nat) (ls : Array Slot), decode cX4_status pc = .ok (.ireturn, 1) → W p l e (RM 2 43) s m args below meth c s.heap [] 0 0 Q (F0 m pc ls [.int r])) {ls : Array Slot} (hl : lv_has ls 4 [(0, .ref (a 0)), (1, .int x1)]) : W p l e (RM 2 43) s m args below meth c s.heap [] 0 0 Q (F0 m 0 ls []) := by
  have hx := B.1
  have hb := B.2.1
  unfold fM_status at hf
  refine lv_iconst (v := 0) hx hb dX4_status_0 (by decide) ?_
  refine lv_istore_n (lv' := [(2, .int 0), (0, .ref (a 0)), (1, .int x1)]) hx hb dX4_status_1 rfl hl (by decide) rfl (fun ls hl => ?_)
  refine lv_iload_n hx hb dX4_status_2 rfl (lv_at hl 2 rfl) ?_
  by_cases c_1 : x1 = 0
  · have hf := ifp c_1 hf
    refine w_tab (tgt := 52) 0 c_1 hx hb dX4_status_3 (by decide) (by decide) rfl (by decide) ?_
    refine lv_aload_n hx hb dX4_status_52 rfl (lv_at hl 1 rfl) ?_
    refine mo_g3 B hK hP dX4_status_53 ?_
    exact kr _ (Option.some.inj hf).symm _ _ dX4_status_56
  · have hf := ifn c_1 hf
    by_cases c_2 : x1 = 1
    · have hf := ifp c_2 hf
      refine w_tab (tgt := 57) 1 c_2 hx hb dX4_status_3 (by decide) (by decide) rfl (by decide) ?_
      refine lv_aload_n hx hb dX4_status_57 rfl (lv_at hl 1 rfl) ?_
      refine mo_g0 B hK hP dX4_status_58 ?_
      exact kr _ (Option.some.inj hf).symm _ _ dX4_status_61
    · have hf := ifn c_2 hf
      by_cases c_3 : x1 = 2
      · have hf := ifp c_3 hf
        refine w_tab (tgt := 62) 2 c_3 hx hb dX4_status_3 (by decide) (by decide) rfl (by decide) ?_
        refine lv_aload_n hx hb dX4_status_62 rfl (lv_at hl 1 rfl) ?_
        refine mo_g2 B hK hP dX4_status_63 ?_
        exact kr _ (Option.some.inj hf).symm _ _ dX4_status_66
      · have hf := ifn c_3 hf
        by_cases c_4 : x1 = 3
        · have hf := ifp c_4 hf
          refine w_tab (tgt := 67) 3 c_4 hx hb dX4_status_3 (by decide) (by decide) rfl (by decide) ?_
          refine lv_aload_n hx hb dX4_status_67 rfl (lv_at hl 1 rfl) ?_
          refine mo_g7 B hK hP dX4_status_68 ?_
          exact kr _ (Option.some.inj hf).symm _ _ dX4_status_71
        · have hf := ifn c_4 hf
          by_cases c_5 : x1 = 4
          · have hf := ifp c_5 hf
            refine w_tab (tgt := 72) 4 c_5 hx hb dX4_status_3 (by decide) (by decide) rfl (by decide) ?_
            refine lv_aload_n hx hb dX4_status_72 rfl (lv_at hl 1 rfl) ?_
            refine mo_g7 B hK hP dX4_status_73 ?_
            refine lv_aload_n hx hb dX4_status_76 rfl (lv_at hl 1 rfl) ?_
            obtain ⟨r_6, e_7, hf⟩ := bo hf
            refine cM_sureOnes B hK va_S.rf hP e_7 ⟨Nat.le_of_ble_eq_true rfl, Nat.le_of_ble_eq_true rfl⟩ ⟨Nat.zero_le _, Nat.zero_le _⟩ hl.1 (Nat.le_of_ble_eq_true rfl) dX4_status_77 ?_
            refine lv_isub hx hb dX4_status_80 ?_
            exact kr _ (Option.some.inj hf).symm _ _ dX4_status_81
          · have hf := ifn c_5 hf
            by_cases c_8 : x1 = 5
            · have hf := ifp c_8 hf
              refine w_tab (tgt := 82) 5 c_8 hx hb dX4_status_3 (by decide) (by decide) rfl (by decide) ?_
              refine lv_iconst (v := 0) hx hb dX4_status_82 (by decide) ?_
              refine lv_istore_n (lv' := [(3, .int 0), (2, .int 0), (0, .ref (a 0)), (1, .int x1)]) hx hb dX4_status_83 rfl hl (by decide) rfl (fun ls hl => ?_)
              obtain ⟨y_9, e_11, hf⟩ := bo hf
              try dsimp only at hf
              refine vM_status_L84 B hK hP e_11 ?_ (lv_sub hl [2, 1, 0] rfl)
              intro z0 hz
              cases hz
              intro ls hl
              refine lv_iload_n hx hb dX4_status_108 rfl (lv_at hl 0 rfl) ?_
              exact kr _ (Option.some.inj hf).symm _ _ dX4_status_109
            · have hf := ifn c_8 hf
              by_cases c_12 : x1 = 6
              · have hf := ifp c_12 hf
                refine w_tab (tgt := 110) 6 c_12 hx hb dX4_status_3 (by decide) (by decide) rfl (by decide) ?_
                refine lv_aload_n hx hb dX4_status_110 rfl (lv_at hl 1 rfl) ?_
                refine mo_g11 B hK hP dX4_status_111 ?_
                exact kr _ (Option.some.inj hf).symm _ _ dX4_status_114
              · have hf := ifn c_12 hf
                by_cases c_13 : x1 = 7
                · have hf := ifp c_13 hf
                  refine w_tab (tgt := 115) 7 c_13 hx hb dX4_status_3 (by decide) (by decide) rfl (by decide) ?_
                  refine lv_aload_n hx hb dX4_status_115 rfl (lv_at hl 1 rfl) ?_
                  refine mo_g10 B hK hP dX4_status_116 ?_
                  exact kr _ (Option.some.inj hf).symm _ _ dX4_status_119
                · have hf := ifn c_13 hf
                  by_cases c_14 : x1 = 8
                  · have hf := ifp c_14 hf
                    refine w_tab (tgt := 120) 8 c_14 hx hb dX4_status_3 (by decide) (by decide) rfl (by decide) ?_
                    refine lv_iconst (v := 0) hx hb dX4_status_120 (by decide) ?_
                    refine lv_istore_n (lv' := [(3, .int 0), (2, .int 0), (0, .ref (a 0)), (1, .int x1)]) hx hb dX4_status_121 rfl hl (by decide) rfl (fun ls hl => ?_)
                    obtain ⟨y_15, e_17, hf⟩ := bo hf
                    try dsimp only at hf
                    refine vM_status_L122 B hK hP e_17 ?_ (lv_sub hl [2, 1, 0] rfl)
                    intro z0 hz
                    cases hz
                    intro ls hl
                    refine lv_iload_n hx hb dX4_status_147 rfl (lv_at hl 0 rfl) ?_
                    exact kr _ (Option.some.inj hf).symm _ _ dX4_status_148
                  · have hf := ifn c_14 hf
                    refine lv_tableOut (tgt := 149) hx hb dX4_status_3 (by have := lv_neT c_1 (a := 0) rfl; have := lv_neT c_2 (a := 1) rfl; have := lv_neT c_3 (a := 2) rfl; have := lv_neT c_4 (a := 3) rfl; have := lv_neT c_5 (a := 4) rfl; have := lv_neT c_8 (a := 5) rfl; have := lv_neT c_12 (a := 6) rfl; have := lv_neT c_13 (a := 7) rfl; have := lv_neT c_14 (a := 8) rfl; omega) (by decide) ?_
                    refine lv_iload_n hx hb dX4_status_149 rfl (lv_at hl 2 rfl) ?_
                    refine lv_bipush (v := 12) hx hb dX4_status_150 (by decide) ?_
                    refine lv_bipush (v := 16) hx hb dX4_status_152 (by decide) ?_
                    obtain ⟨r_18, e_19, hf⟩ := bo hf
                    refine cM_within B e_19 ⟨Nat.le_of_ble_eq_true rfl, Nat.le_of_ble_eq_true rfl⟩ ⟨Nat.zero_le _, Nat.zero_le _⟩ hl.1 (Nat.le_of_ble_eq_true rfl) dX4_status_154 ?_
                    refine lv_if_eq (tgt := 172) hx hb dX4_status_157 (by decide) (fun c_20 => ?_) (fun c_20 => ?_)
                    · have hf := ifp c_20 hf
                      refine lv_iconst (v := (-1)) hx hb dX4_status_172 (by decide) ?_
                      exact kr _ (Option.some.inj hf).symm _ _ dX4_status_173
                    · have hf := ifn c_20 hf
                      refine lv_aload_n hx hb dX4_status_160 rfl (lv_at hl 1 rfl) ?_
                      refine mo_g20 B hK hP dX4_status_161 ?_
                      refine lv_iload_n hx hb dX4_status_164 rfl (lv_at hl 2 rfl) ?_
                      refine lv_bipush (v := 10) hx hb dX4_status_165 (by decide) ?_
                      refine lv_isub hx hb dX4_status_167 ?_
                      obtain ⟨v_21, e_22, hf⟩ := bo hf
                      refine mo_ld20 B hK hP e_22 dX4_status_168 ?_
                      refine lv_goto (tgt := 173) hx hb dX4_status_169 (by decide) ?_
                      exact kr _ (Option.some.inj hf).symm _ _ dX4_status_173

theorem tM_status (l : Launch) (X : CX) (a : Nat → Nat) (rest : va_W) (w : MW) (x1 : Int32) (r : Int32) (hf : fM_status w x1 = some r) : RO l yX4_status cX4_status 4 (some .int) 2 43 [.ref (a 0), .int x1] X (MP X a w ++ rest) (some (.int r)) := by
  refine RO.mk (by decide) (Nat.le_of_ble_eq_true rfl) ?_
  intro p e s m below meth c B hr hlk hK hP ls hl
  exact wM_status B hK hP hf (fun r h pc ls hd => by cases h; exact w_iretR B hr hlk rfl hd) hl
end S_status
