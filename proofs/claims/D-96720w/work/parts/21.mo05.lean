set_option maxRecDepth 100000
section S_leads
variable {p : Program} {l : Launch} {e : Env} {R : Room} {s : State} {m : MethodId} {args : Array Value} {below : List Frame} {meth : Method} {c : Code} {H : Heap} {locs : List Loc} {cells slots : Nat} {Q : State → Prop} {cc : ByteArray} {nL pc : Nat} {ls : Array Slot} {st : List Value} {X : CX} {a : Nat → Nat} {w : MW} {rest : va_W}
noncomputable def fM_leads_J17 (w : MW)  : Option (Int32 × MW) :=
  b2 (fM_no w (-2)) fun r_1 w_2 =>
  some (r_1, w_2)

set_option maxHeartbeats 4000000 in
theorem wM_leads_J17 (B : CallFix p m c cX4_leads 3 s args lw_all RX4) (hK : KK X s) {w : MW}  {res : Int32 × MW} (hf : fM_leads_J17 w  = some res) (kr : ∀ (r : Int32) (w1 : MW), res = (r, w1) → ∀ (H : Heap) (locs : List Loc), GG X (MP X a w1 ++ rest) s.heap H locs → ∀ (pc : Nat) (ls : Array Slot), decode cX4_leads pc = .ok (.ireturn, 1) → W p l e (RMw 6 0 0 139) s m args below meth c H locs 0 0 Q (F0 m pc ls [.int r])) {H : Heap} {locs : List Loc} (hG : GG X (MP X a w ++ rest) s.heap H locs) {ls : Array Slot} (hl : lv_has ls 3 [(0, .ref (a 0))]) : W p l e (RMw 6 0 0 139) s m args below meth c H locs 0 0 Q (F0 m 17 ls []) := by
  have hx := B.1
  have hb := B.2.1
  unfold fM_leads_J17 at hf
  refine lv_aload_n hx hb dX4_leads_17 rfl (lv_at hl 0 rfl) ?_
  refine lv_bipush (v := (-2)) hx hb dX4_leads_18 (by decide) ?_
  obtain ⟨r_1, w_2, e_3, hf⟩ := b2s hf
  refine cM_no B hK hG e_3 ⟨Nat.le_of_ble_eq_true rfl, Nat.le_of_ble_eq_true rfl⟩ ⟨Nat.zero_le _, Nat.zero_le _⟩ hl.1 (Nat.le_of_ble_eq_true rfl) dX4_leads_20 (fun H locs hG => ?_)
  exact kr _ _ (Option.some.inj hf).symm _ _ hG _ _ dX4_leads_23

noncomputable def fM_leads (w : MW) (x1 : Int32) (x2 : Int32) : Option (Int32 × MW) :=
  (fM_isWalker w x1).bind fun r_1 =>
  if r_1 = 0 then
    fM_leads_J17 w 
  else
    (fM_isCell w (x2.toInt64)).bind fun r_4 =>
    if r_4 = 0 then
      fM_leads_J17 w 
    else
      (rd (w.2.1 8) 4 x1).bind fun v_7 =>
      b2 (fM_commandTo w v_7 x2) fun r_9 w_10 =>
      some (r_9, w_10)

set_option maxHeartbeats 4000000 in
theorem wM_leads (B : CallFix p m c cX4_leads 3 s args lw_all RX4) (hK : KK X s) {w : MW} {x1 : Int32} {x2 : Int32} {res : Int32 × MW} (hf : fM_leads w x1 x2 = some res) (kr : ∀ (r : Int32) (w1 : MW), res = (r, w1) → ∀ (H : Heap) (locs : List Loc), GG X (MP X a w1 ++ rest) s.heap H locs → ∀ (pc : Nat) (ls : Array Slot), decode cX4_leads pc = .ok (.ireturn, 1) → W p l e (RMw 6 0 0 139) s m args below meth c H locs 0 0 Q (F0 m pc ls [.int r])) {H : Heap} {locs : List Loc} (hG : GG X (MP X a w ++ rest) s.heap H locs) {ls : Array Slot} (hl : lv_has ls 3 [(0, .ref (a 0)), (1, .int x1), (2, .int x2)]) : W p l e (RMw 6 0 0 139) s m args below meth c H locs 0 0 Q (F0 m 0 ls []) := by
  have hx := B.1
  have hb := B.2.1
  unfold fM_leads at hf
  refine lv_aload_n hx hb dX4_leads_0 rfl (lv_at hl 0 rfl) ?_
  refine lv_iload_n hx hb dX4_leads_1 rfl (lv_at hl 1 rfl) ?_
  obtain ⟨r_1, e_2, hf⟩ := bo hf
  refine cM_isWalker B hK hG.2.2 hG.1 e_2 ⟨Nat.le_of_ble_eq_true rfl, Nat.le_of_ble_eq_true rfl⟩ ⟨Nat.zero_le _, Nat.zero_le _⟩ hl.1 (Nat.le_of_ble_eq_true rfl) dX4_leads_2 ?_
  refine lv_if_eq (tgt := 17) hx hb dX4_leads_5 (by decide) (fun c_3 => ?_) (fun c_3 => ?_)
  · have hf := ifp c_3 hf
    exact wM_leads_J17 B hK hf kr hG (lv_sub hl [0] rfl)
  · have hf := ifn c_3 hf
    refine lv_aload_n hx hb dX4_leads_8 rfl (lv_at hl 0 rfl) ?_
    refine lv_iload_n hx hb dX4_leads_9 rfl (lv_at hl 2 rfl) ?_
    refine lv_i2l hx hb dX4_leads_10 rfl ?_
    obtain ⟨r_4, e_5, hf⟩ := bo hf
    refine cM_isCell B hK hG.2.2 hG.1 e_5 ⟨Nat.le_of_ble_eq_true rfl, Nat.le_of_ble_eq_true rfl⟩ ⟨Nat.zero_le _, Nat.zero_le _⟩ hl.1 (Nat.le_of_ble_eq_true rfl) dX4_leads_11 ?_
    refine lv_if_ne (tgt := 24) hx hb dX4_leads_14 (by decide) (fun c_6 => ?_) (fun c_6 => ?_)
    · have hf := ifn c_6 hf
      refine lv_aload_n hx hb dX4_leads_24 rfl (lv_at hl 0 rfl) ?_
      refine lv_aload_n hx hb dX4_leads_25 rfl (lv_at hl 0 rfl) ?_
      refine mo_g8 B hK hG.1 dX4_leads_26 ?_
      refine lv_iload_n hx hb dX4_leads_29 rfl (lv_at hl 1 rfl) ?_
      obtain ⟨v_7, e_8, hf⟩ := bo hf
      refine mo_ld8 B hK hG.1 e_8 dX4_leads_30 ?_
      refine lv_iload_n hx hb dX4_leads_31 rfl (lv_at hl 2 rfl) ?_
      obtain ⟨r_9, w_10, e_11, hf⟩ := b2s hf
      refine cM_commandTo B hK hG e_11 ⟨Nat.le_of_ble_eq_true rfl, Nat.le_of_ble_eq_true rfl⟩ ⟨Nat.zero_le _, Nat.zero_le _⟩ hl.1 (Nat.le_of_ble_eq_true rfl) dX4_leads_32 (fun H locs hG => ?_)
      exact kr _ _ (Option.some.inj hf).symm _ _ hG _ _ dX4_leads_35
    · have hf := ifp c_6 hf
      exact wM_leads_J17 B hK hf kr hG (lv_sub hl [0] rfl)

theorem tM_leads (l : Launch) (X : CX) (a : Nat → Nat) (rest : va_W) (w w' : MW) (x1 : Int32) (x2 : Int32) (r : Int32) (hf : fM_leads w x1 x2 = some (r, w')) : RW l yX4_leads cX4_leads 3 (some .int) 6 0 0 139 [.ref (a 0), .int x1, .int x2] X (MP X a w ++ rest) (MP X a w' ++ rest) (some (.int r)) := by
  refine RW.mk (by decide) (Nat.le_of_ble_eq_true rfl) ?_
  intro p e s m below meth c B hr hlk hK hG ls hl
  exact wM_leads B hK hf (fun r w h H locs hG pc ls hd => by cases h; exact w_iretW B hr hlk hG hd) hG hl
end S_leads

section S_reach
variable {p : Program} {l : Launch} {e : Env} {R : Room} {s : State} {m : MethodId} {args : Array Value} {below : List Frame} {meth : Method} {c : Code} {H : Heap} {locs : List Loc} {cells slots : Nat} {Q : State → Prop} {cc : ByteArray} {nL pc : Nat} {ls : Array Slot} {st : List Value} {X : CX} {a : Nat → Nat} {w : MW} {rest : va_W}
noncomputable def fM_reach_J19 (w : MW)  : Option (Int32 × MW) :=
  b2 (fM_no w (-2)) fun r_1 w_2 =>
  some (r_1, w_2)

set_option maxHeartbeats 4000000 in
theorem wM_reach_J19 (B : CallFix p m c cX4_reach 5 s args lw_all RX4) (hK : KK X s) {w : MW}  {res : Int32 × MW} (hf : fM_reach_J19 w  = some res) (kr : ∀ (r : Int32) (w1 : MW), res = (r, w1) → ∀ (H : Heap) (locs : List Loc), GG X (MP X a w1 ++ rest) s.heap H locs → ∀ (pc : Nat) (ls : Array Slot), decode cX4_reach pc = .ok (.ireturn, 1) → W p l e (RMw 4 0 0 93) s m args below meth c H locs 0 0 Q (F0 m pc ls [.int r])) {H : Heap} {locs : List Loc} (hG : GG X (MP X a w ++ rest) s.heap H locs) {ls : Array Slot} (hl : lv_has ls 5 [(0, .ref (a 0))]) : W p l e (RMw 4 0 0 93) s m args below meth c H locs 0 0 Q (F0 m 19 ls []) := by
  have hx := B.1
  have hb := B.2.1
  unfold fM_reach_J19 at hf
  refine lv_aload_n hx hb dX4_reach_19 rfl (lv_at hl 0 rfl) ?_
  refine lv_bipush (v := (-2)) hx hb dX4_reach_20 (by decide) ?_
  obtain ⟨r_1, w_2, e_3, hf⟩ := b2s hf
  refine cM_no B hK hG e_3 ⟨Nat.le_of_ble_eq_true rfl, Nat.le_of_ble_eq_true rfl⟩ ⟨Nat.zero_le _, Nat.zero_le _⟩ hl.1 (Nat.le_of_ble_eq_true rfl) dX4_reach_22 (fun H locs hG => ?_)
  exact kr _ _ (Option.some.inj hf).symm _ _ hG _ _ dX4_reach_25

noncomputable def fM_reach_L36 (w : MW) (x2 : Int32) (x3 : Int32) (x4 : Int32) : Option ((Int32 × Int32) ⊕ (Int32)) :=
  if 67 ≤ x4 then
    some (.inr x3)
  else
    (rd (w.2.1 26) 67 x4).bind fun v_2 =>
    if v_2 ≤ 0 then
      (some (x4 + 1)).bind fun x_5 =>
      some (.inl (x3, x_5))
    else
      (rd (w.2.1 26) 67 x4).bind fun v_7 =>
      if x2 < (v_7 - 1) then
        (some (x4 + 1)).bind fun x_10 =>
        some (.inl (x3, x_10))
      else
        (some (x3 + 1)).bind fun x_12 =>
        (some (x4 + 1)).bind fun x_14 =>
        some (.inl (x_12, x_14))

set_option maxHeartbeats 4000000 in
theorem wM_reach_L36 (B : CallFix p m c cX4_reach 5 s args lw_all RX4) (hK : KK X s) {w : MW} {x2 : Int32} {x3 : Int32} {x4 : Int32} {res : (Int32 × Int32) ⊕ (Int32)} (hf : fM_reach_L36 w x2 x3 x4 = some res) (kc : ∀ (y3 : Int32) (y4 : Int32), res = .inl (y3, y4) → ∀ (H : Heap) (locs : List Loc), GG X (MP X a w ++ rest) s.heap H locs → ∀ (ls : Array Slot), lv_has ls 5 [(0, .ref (a 0)), (2, .int x2), (3, .int y3), (4, .int y4)] → W p l e (RMw 4 0 0 93) s m args below meth c H locs 0 0 Q (F0 m 36 ls [])) (ke75 : ∀ (y3 : Int32), res = .inr y3 → ∀ (H : Heap) (locs : List Loc), GG X (MP X a w ++ rest) s.heap H locs → ∀ (ls : Array Slot), lv_has ls 5 [(3, .int y3)] → W p l e (RMw 4 0 0 93) s m args below meth c H locs 0 0 Q (F0 m 75 ls [])) {H : Heap} {locs : List Loc} (hG : GG X (MP X a w ++ rest) s.heap H locs) {ls : Array Slot} (hl : lv_has ls 5 [(0, .ref (a 0)), (2, .int x2), (3, .int x3), (4, .int x4)]) : W p l e (RMw 4 0 0 93) s m args below meth c H locs 0 0 Q (F0 m 36 ls []) := by
  have hx := B.1
  have hb := B.2.1
  unfold fM_reach_L36 at hf
  refine lv_iload hx hb dX4_reach_36 (lv_at hl 3 rfl) ?_
  refine lv_bipush (v := 67) hx hb dX4_reach_38 (by decide) ?_
  refine lv_icmp_ge (tgt := 75) hx hb dX4_reach_40 (by decide) (fun c_1 => ?_) (fun c_1 => ?_)
  · have hf := ifp c_1 hf
    exact ke75 _ (Option.some.inj hf).symm _ _ hG _ (lv_sub hl [2] rfl)
  · have hf := ifn c_1 hf
    refine lv_aload_n hx hb dX4_reach_43 rfl (lv_at hl 0 rfl) ?_
    refine mo_g26 B hK hG.1 dX4_reach_44 ?_
    refine lv_iload hx hb dX4_reach_47 (lv_at hl 3 rfl) ?_
    obtain ⟨v_2, e_3, hf⟩ := bo hf
    refine mo_ld26 B hK hG.1 e_3 dX4_reach_49 ?_
    refine lv_if_le (tgt := 69) hx hb dX4_reach_50 (by decide) (fun c_4 => ?_) (fun c_4 => ?_)
    · have hf := ifp c_4 hf
      obtain ⟨x_5, e_6, hf⟩ := bo hf
      refine w_iinc (k := 3) (lv' := [(4, .int x_5), (0, .ref (a 0)), (2, .int x2), (3, .int x3)]) e_6 hx hb dX4_reach_69 hl rfl (by decide) rfl (fun ls hl => ?_)
      refine lv_goto (tgt := 36) hx hb dX4_reach_72 (by decide) ?_
      exact kc _ _ (Option.some.inj hf).symm _ _ hG _ (lv_sub hl [1, 2, 3, 0] rfl)
    · have hf := ifn c_4 hf
      refine lv_aload_n hx hb dX4_reach_53 rfl (lv_at hl 0 rfl) ?_
      refine mo_g26 B hK hG.1 dX4_reach_54 ?_
      refine lv_iload hx hb dX4_reach_57 (lv_at hl 3 rfl) ?_
      obtain ⟨v_7, e_8, hf⟩ := bo hf
      refine mo_ld26 B hK hG.1 e_8 dX4_reach_59 ?_
      refine lv_iconst (v := 1) hx hb dX4_reach_60 (by decide) ?_
      refine lv_isub hx hb dX4_reach_61 ?_
      refine lv_iload_n hx hb dX4_reach_62 rfl (lv_at hl 1 rfl) ?_
      refine lv_icmp_gt (tgt := 69) hx hb dX4_reach_63 (by decide) (fun c_9 => ?_) (fun c_9 => ?_)
      · have hf := ifp c_9 hf
        obtain ⟨x_10, e_11, hf⟩ := bo hf
        refine w_iinc (k := 3) (lv' := [(4, .int x_10), (0, .ref (a 0)), (2, .int x2), (3, .int x3)]) e_11 hx hb dX4_reach_69 hl rfl (by decide) rfl (fun ls hl => ?_)
        refine lv_goto (tgt := 36) hx hb dX4_reach_72 (by decide) ?_
        exact kc _ _ (Option.some.inj hf).symm _ _ hG _ (lv_sub hl [1, 2, 3, 0] rfl)
      · have hf := ifn c_9 hf
        obtain ⟨x_12, e_13, hf⟩ := bo hf
        refine w_iinc (k := 2) (lv' := [(3, .int x_12), (0, .ref (a 0)), (2, .int x2), (4, .int x4)]) e_13 hx hb dX4_reach_66 hl rfl (by decide) rfl (fun ls hl => ?_)
        obtain ⟨x_14, e_15, hf⟩ := bo hf
        refine w_iinc (k := 3) (lv' := [(4, .int x_14), (3, .int x_12), (0, .ref (a 0)), (2, .int x2)]) e_15 hx hb dX4_reach_69 hl rfl (by decide) rfl (fun ls hl => ?_)
        refine lv_goto (tgt := 36) hx hb dX4_reach_72 (by decide) ?_
        exact kc _ _ (Option.some.inj hf).symm _ _ hG _ (lv_sub hl [2, 3, 1, 0] rfl)

set_option maxHeartbeats 4000000 in
theorem vM_reach_L36 (B : CallFix p m c cX4_reach 5 s args lw_all RX4) (hK : KK X s) {w : MW} {x2 : Int32} {x3 : Int32} {x4 : Int32} {res : Int32} (hf : lp (fun q : Int32 × Int32 => fM_reach_L36 w x2 q.1 q.2) (x3, x4) = some res) (ke75 : ∀ (y3 : Int32), res = y3 → ∀ (H : Heap) (locs : List Loc), GG X (MP X a w ++ rest) s.heap H locs → ∀ (ls : Array Slot), lv_has ls 5 [(3, .int y3)] → W p l e (RMw 4 0 0 93) s m args below meth c H locs 0 0 Q (F0 m 75 ls [])) {H : Heap} {locs : List Loc} (hG : GG X (MP X a w ++ rest) s.heap H locs) {ls : Array Slot} (hl : lv_has ls 5 [(0, .ref (a 0)), (2, .int x2), (3, .int x3), (4, .int x4)]) : W p l e (RMw 4 0 0 93) s m args below meth c H locs 0 0 Q (F0 m 36 ls []) := by
  refine lp_ind (r := res) (P := fun q : Int32 × Int32 => ∀ (H : Heap) (locs : List Loc) (ls : Array Slot), GG X (MP X a w ++ rest) s.heap H locs → lv_has ls 5 [(0, .ref (a 0)), (2, .int x2), (3, .int q.1), (4, .int q.2)] → W p l e (RMw 4 0 0 93) s m args below meth c H locs 0 0 Q (F0 m 36 ls [])) ?_ ?_ _ hf _ _ _ hG hl
  · intro q hb H locs ls hG hl
    exact wM_reach_L36 B hK hb (fun _ _ h => by cases h) (fun z0 h => ke75 z0 (Sum.inr.inj h)) hG hl
  · intro q q2 hb ih H locs ls hG hl
    exact wM_reach_L36 B hK hb (fun z0 z1 h => by cases h; exact fun H locs hG ls hl => ih H locs ls hG hl) (fun _ h => by cases h) hG hl

noncomputable def fM_reach (w : MW) (x1 : Int32) (x2 : Int32) : Option (Int32 × MW) :=
  (fM_isCell w (x1.toInt64)).bind fun r_1 =>
  if r_1 = 0 then
    fM_reach_J19 w 
  else
    (fM_within x2 0 70).bind fun r_4 =>
    if r_4 = 0 then
      fM_reach_J19 w 
    else
      (fM_walks w x1).bind fun w_7 =>
      (lp (fun q : Int32 × Int32 => fM_reach_L36 w_7 x2 q.1 q.2) (0, 0)).bind (
        fun q_10 => (fun (y_9 : Int32) =>
          some (y_9, w_7)
        ) q_10
      )

set_option maxHeartbeats 4000000 in
theorem wM_reach (B : CallFix p m c cX4_reach 5 s args lw_all RX4) (hK : KK X s) {w : MW} {x1 : Int32} {x2 : Int32} {res : Int32 × MW} (hf : fM_reach w x1 x2 = some res) (kr : ∀ (r : Int32) (w1 : MW), res = (r, w1) → ∀ (H : Heap) (locs : List Loc), GG X (MP X a w1 ++ rest) s.heap H locs → ∀ (pc : Nat) (ls : Array Slot), decode cX4_reach pc = .ok (.ireturn, 1) → W p l e (RMw 4 0 0 93) s m args below meth c H locs 0 0 Q (F0 m pc ls [.int r])) {H : Heap} {locs : List Loc} (hG : GG X (MP X a w ++ rest) s.heap H locs) {ls : Array Slot} (hl : lv_has ls 5 [(0, .ref (a 0)), (1, .int x1), (2, .int x2)]) : W p l e (RMw 4 0 0 93) s m args below meth c H locs 0 0 Q (F0 m 0 ls []) := by
  have hx := B.1
  have hb := B.2.1
  unfold fM_reach at hf
  refine lv_aload_n hx hb dX4_reach_0 rfl (lv_at hl 0 rfl) ?_
  refine lv_iload_n hx hb dX4_reach_1 rfl (lv_at hl 1 rfl) ?_
  refine lv_i2l hx hb dX4_reach_2 rfl ?_
  obtain ⟨r_1, e_2, hf⟩ := bo hf
  refine cM_isCell B hK hG.2.2 hG.1 e_2 ⟨Nat.le_of_ble_eq_true rfl, Nat.le_of_ble_eq_true rfl⟩ ⟨Nat.zero_le _, Nat.zero_le _⟩ hl.1 (Nat.le_of_ble_eq_true rfl) dX4_reach_3 ?_
  refine lv_if_eq (tgt := 19) hx hb dX4_reach_6 (by decide) (fun c_3 => ?_) (fun c_3 => ?_)
  · have hf := ifp c_3 hf
    exact wM_reach_J19 B hK hf kr hG (lv_sub hl [0] rfl)
  · have hf := ifn c_3 hf
    refine lv_iload_n hx hb dX4_reach_9 rfl (lv_at hl 2 rfl) ?_
    refine lv_iconst (v := 0) hx hb dX4_reach_10 (by decide) ?_
    refine lv_bipush (v := 70) hx hb dX4_reach_11 (by decide) ?_
    obtain ⟨r_4, e_5, hf⟩ := bo hf
    refine cM_within B e_5 ⟨Nat.le_of_ble_eq_true rfl, Nat.le_of_ble_eq_true rfl⟩ ⟨Nat.zero_le _, Nat.zero_le _⟩ hl.1 (Nat.le_of_ble_eq_true rfl) dX4_reach_13 ?_
    refine lv_if_ne (tgt := 26) hx hb dX4_reach_16 (by decide) (fun c_6 => ?_) (fun c_6 => ?_)
    · have hf := ifn c_6 hf
      refine lv_aload_n hx hb dX4_reach_26 rfl (lv_at hl 0 rfl) ?_
      refine lv_iload_n hx hb dX4_reach_27 rfl (lv_at hl 1 rfl) ?_
      obtain ⟨w_7, e_8, hf⟩ := bo hf
      refine cM_walks B hK hG e_8 ⟨Nat.le_of_ble_eq_true rfl, Nat.le_of_ble_eq_true rfl⟩ ⟨Nat.zero_le _, Nat.zero_le _⟩ hl.1 (Nat.le_of_ble_eq_true rfl) dX4_reach_28 (fun H locs hG => ?_)
      refine lv_iconst (v := 0) hx hb dX4_reach_31 (by decide) ?_
      refine lv_istore_n (lv' := [(3, .int 0), (0, .ref (a 0)), (1, .int x1), (2, .int x2)]) hx hb dX4_reach_32 rfl hl (by decide) rfl (fun ls hl => ?_)
      refine lv_iconst (v := 0) hx hb dX4_reach_33 (by decide) ?_
      refine lv_istore (lv' := [(4, .int 0), (3, .int 0), (0, .ref (a 0)), (1, .int x1), (2, .int x2)]) hx hb dX4_reach_34 hl (by decide) rfl (fun ls hl => ?_)
      obtain ⟨y_9, e_11, hf⟩ := bo hf
      try dsimp only at hf
      refine vM_reach_L36 B hK e_11 ?_ hG (lv_sub hl [2, 4, 1, 0] rfl)
      intro z0 hz
      cases hz
      intro H locs hG ls hl
      refine lv_iload_n hx hb dX4_reach_75 rfl (lv_at hl 0 rfl) ?_
      exact kr _ _ (Option.some.inj hf).symm _ _ hG _ _ dX4_reach_76
    · have hf := ifp c_6 hf
      exact wM_reach_J19 B hK hf kr hG (lv_sub hl [0] rfl)

theorem tM_reach (l : Launch) (X : CX) (a : Nat → Nat) (rest : va_W) (w w' : MW) (x1 : Int32) (x2 : Int32) (r : Int32) (hf : fM_reach w x1 x2 = some (r, w')) : RW l yX4_reach cX4_reach 5 (some .int) 4 0 0 93 [.ref (a 0), .int x1, .int x2] X (MP X a w ++ rest) (MP X a w' ++ rest) (some (.int r)) := by
  refine RW.mk (by decide) (Nat.le_of_ble_eq_true rfl) ?_
  intro p e s m below meth c B hr hlk hK hG ls hl
  exact wM_reach B hK hf (fun r w h H locs hG pc ls hd => by cases h; exact w_iretW B hr hlk hG hd) hG hl
end S_reach

section S_open
variable {p : Program} {l : Launch} {e : Env} {R : Room} {s : State} {m : MethodId} {args : Array Value} {below : List Frame} {meth : Method} {c : Code} {H : Heap} {locs : List Loc} {cells slots : Nat} {Q : State → Prop} {cc : ByteArray} {nL pc : Nat} {ls : Array Slot} {st : List Value} {X : CX} {a : Nat → Nat} {w : MW} {rest : va_W}
noncomputable def fM_open_L20 (w : MW) (x1 : Int32) (x2 : Int32) (x3 : Int32) : Option ((Int32 × Int32) ⊕ (Int32)) :=
  if 5 ≤ x3 then
    some (.inr x2)
  else
    (fM_can w x1 x3).bind fun r_2 =>
    if r_2 = 0 then
      (some (x3 + 1)).bind fun x_5 =>
      some (.inl (x2, x_5))
    else
      (some (x2 + 1)).bind fun x_7 =>
      (some (x3 + 1)).bind fun x_9 =>
      some (.inl (x_7, x_9))

set_option maxHeartbeats 4000000 in
theorem wM_open_L20 (B : CallFix p m c cX4_open 4 s args lw_all RX4) (hK : KK X s) {w : MW} {x1 : Int32} {x2 : Int32} {x3 : Int32} {res : (Int32 × Int32) ⊕ (Int32)} (hf : fM_open_L20 w x1 x2 x3 = some res) (kc : ∀ (y2 : Int32) (y3 : Int32), res = .inl (y2, y3) → ∀ (H : Heap) (locs : List Loc), GG X (MP X a w ++ rest) s.heap H locs → ∀ (ls : Array Slot), lv_has ls 4 [(0, .ref (a 0)), (1, .int x1), (2, .int y2), (3, .int y3)] → W p l e (RMw 3 0 0 68) s m args below meth c H locs 0 0 Q (F0 m 20 ls [])) (ke43 : ∀ (y2 : Int32), res = .inr y2 → ∀ (H : Heap) (locs : List Loc), GG X (MP X a w ++ rest) s.heap H locs → ∀ (ls : Array Slot), lv_has ls 4 [(2, .int y2)] → W p l e (RMw 3 0 0 68) s m args below meth c H locs 0 0 Q (F0 m 43 ls [])) {H : Heap} {locs : List Loc} (hG : GG X (MP X a w ++ rest) s.heap H locs) {ls : Array Slot} (hl : lv_has ls 4 [(0, .ref (a 0)), (1, .int x1), (2, .int x2), (3, .int x3)]) : W p l e (RMw 3 0 0 68) s m args below meth c H locs 0 0 Q (F0 m 20 ls []) := by
  have hx := B.1
  have hb := B.2.1
  unfold fM_open_L20 at hf
  refine lv_iload_n hx hb dX4_open_20 rfl (lv_at hl 3 rfl) ?_
  refine lv_iconst (v := 5) hx hb dX4_open_21 (by decide) ?_
  refine lv_icmp_ge (tgt := 43) hx hb dX4_open_22 (by decide) (fun c_1 => ?_) (fun c_1 => ?_)
  · have hf := ifp c_1 hf
    exact ke43 _ (Option.some.inj hf).symm _ _ hG _ (lv_sub hl [2] rfl)
  · have hf := ifn c_1 hf
    refine lv_aload_n hx hb dX4_open_25 rfl (lv_at hl 0 rfl) ?_
    refine lv_iload_n hx hb dX4_open_26 rfl (lv_at hl 1 rfl) ?_
    refine lv_iload_n hx hb dX4_open_27 rfl (lv_at hl 3 rfl) ?_
    obtain ⟨r_2, e_3, hf⟩ := bo hf
    refine cM_can B hK hG.2.2 hG.1 e_3 ⟨Nat.le_of_ble_eq_true rfl, Nat.le_of_ble_eq_true rfl⟩ ⟨Nat.zero_le _, Nat.zero_le _⟩ hl.1 (Nat.le_of_ble_eq_true rfl) dX4_open_28 ?_
    refine lv_if_eq (tgt := 37) hx hb dX4_open_31 (by decide) (fun c_4 => ?_) (fun c_4 => ?_)
    · have hf := ifp c_4 hf
      obtain ⟨x_5, e_6, hf⟩ := bo hf
      refine w_iinc (k := 3) (lv' := [(3, .int x_5), (0, .ref (a 0)), (1, .int x1), (2, .int x2)]) e_6 hx hb dX4_open_37 hl rfl (by decide) rfl (fun ls hl => ?_)
      refine lv_goto (tgt := 20) hx hb dX4_open_40 (by decide) ?_
      exact kc _ _ (Option.some.inj hf).symm _ _ hG _ (lv_sub hl [1, 2, 3, 0] rfl)
    · have hf := ifn c_4 hf
      obtain ⟨x_7, e_8, hf⟩ := bo hf
      refine w_iinc (k := 2) (lv' := [(2, .int x_7), (0, .ref (a 0)), (1, .int x1), (3, .int x3)]) e_8 hx hb dX4_open_34 hl rfl (by decide) rfl (fun ls hl => ?_)
      obtain ⟨x_9, e_10, hf⟩ := bo hf
      refine w_iinc (k := 3) (lv' := [(3, .int x_9), (2, .int x_7), (0, .ref (a 0)), (1, .int x1)]) e_10 hx hb dX4_open_37 hl rfl (by decide) rfl (fun ls hl => ?_)
      refine lv_goto (tgt := 20) hx hb dX4_open_40 (by decide) ?_
      exact kc _ _ (Option.some.inj hf).symm _ _ hG _ (lv_sub hl [2, 3, 1, 0] rfl)

set_option maxHeartbeats 4000000 in
theorem vM_open_L20 (B : CallFix p m c cX4_open 4 s args lw_all RX4) (hK : KK X s) {w : MW} {x1 : Int32} {x2 : Int32} {x3 : Int32} {res : Int32} (hf : lp (fun q : Int32 × Int32 => fM_open_L20 w x1 q.1 q.2) (x2, x3) = some res) (ke43 : ∀ (y2 : Int32), res = y2 → ∀ (H : Heap) (locs : List Loc), GG X (MP X a w ++ rest) s.heap H locs → ∀ (ls : Array Slot), lv_has ls 4 [(2, .int y2)] → W p l e (RMw 3 0 0 68) s m args below meth c H locs 0 0 Q (F0 m 43 ls [])) {H : Heap} {locs : List Loc} (hG : GG X (MP X a w ++ rest) s.heap H locs) {ls : Array Slot} (hl : lv_has ls 4 [(0, .ref (a 0)), (1, .int x1), (2, .int x2), (3, .int x3)]) : W p l e (RMw 3 0 0 68) s m args below meth c H locs 0 0 Q (F0 m 20 ls []) := by
  refine lp_ind (r := res) (P := fun q : Int32 × Int32 => ∀ (H : Heap) (locs : List Loc) (ls : Array Slot), GG X (MP X a w ++ rest) s.heap H locs → lv_has ls 4 [(0, .ref (a 0)), (1, .int x1), (2, .int q.1), (3, .int q.2)] → W p l e (RMw 3 0 0 68) s m args below meth c H locs 0 0 Q (F0 m 20 ls [])) ?_ ?_ _ hf _ _ _ hG hl
  · intro q hb H locs ls hG hl
    exact wM_open_L20 B hK hb (fun _ _ h => by cases h) (fun z0 h => ke43 z0 (Sum.inr.inj h)) hG hl
  · intro q q2 hb ih H locs ls hG hl
    exact wM_open_L20 B hK hb (fun z0 z1 h => by cases h; exact fun H locs hG ls hl => ih H locs ls hG hl) (fun _ h => by cases h) hG hl

noncomputable def fM_open (w : MW) (x1 : Int32) : Option (Int32 × MW) :=
  (fM_isCell w (x1.toInt64)).bind fun r_1 =>
  if r_1 = 0 then
    b2 (fM_no w (-2)) fun r_7 w_8 =>
    some (r_7, w_8)
  else
    (lp (fun q : Int32 × Int32 => fM_open_L20 w x1 q.1 q.2) (0, 1)).bind (
      fun q_5 => (fun (y_4 : Int32) =>
        some (y_4, w)
      ) q_5
    )

set_option maxHeartbeats 4000000 in
theorem wM_open (B : CallFix p m c cX4_open 4 s args lw_all RX4) (hK : KK X s) {w : MW} {x1 : Int32} {res : Int32 × MW} (hf : fM_open w x1 = some res) (kr : ∀ (r : Int32) (w1 : MW), res = (r, w1) → ∀ (H : Heap) (locs : List Loc), GG X (MP X a w1 ++ rest) s.heap H locs → ∀ (pc : Nat) (ls : Array Slot), decode cX4_open pc = .ok (.ireturn, 1) → W p l e (RMw 3 0 0 68) s m args below meth c H locs 0 0 Q (F0 m pc ls [.int r])) {H : Heap} {locs : List Loc} (hG : GG X (MP X a w ++ rest) s.heap H locs) {ls : Array Slot} (hl : lv_has ls 4 [(0, .ref (a 0)), (1, .int x1)]) : W p l e (RMw 3 0 0 68) s m args below meth c H locs 0 0 Q (F0 m 0 ls []) := by
  have hx := B.1
  have hb := B.2.1
  unfold fM_open at hf
  refine lv_aload_n hx hb dX4_open_0 rfl (lv_at hl 0 rfl) ?_
  refine lv_iload_n hx hb dX4_open_1 rfl (lv_at hl 1 rfl) ?_
  refine lv_i2l hx hb dX4_open_2 rfl ?_
  obtain ⟨r_1, e_2, hf⟩ := bo hf
  refine cM_isCell B hK hG.2.2 hG.1 e_2 ⟨Nat.le_of_ble_eq_true rfl, Nat.le_of_ble_eq_true rfl⟩ ⟨Nat.zero_le _, Nat.zero_le _⟩ hl.1 (Nat.le_of_ble_eq_true rfl) dX4_open_3 ?_
  refine lv_if_ne (tgt := 16) hx hb dX4_open_6 (by decide) (fun c_3 => ?_) (fun c_3 => ?_)
  · have hf := ifn c_3 hf
    refine lv_iconst (v := 0) hx hb dX4_open_16 (by decide) ?_
    refine lv_istore_n (lv' := [(2, .int 0), (0, .ref (a 0)), (1, .int x1)]) hx hb dX4_open_17 rfl hl (by decide) rfl (fun ls hl => ?_)
    refine lv_iconst (v := 1) hx hb dX4_open_18 (by decide) ?_
    refine lv_istore_n (lv' := [(3, .int 1), (2, .int 0), (0, .ref (a 0)), (1, .int x1)]) hx hb dX4_open_19 rfl hl (by decide) rfl (fun ls hl => ?_)
    obtain ⟨y_4, e_6, hf⟩ := bo hf
    try dsimp only at hf
    refine vM_open_L20 B hK e_6 ?_ hG (lv_sub hl [2, 3, 1, 0] rfl)
    intro z0 hz
    cases hz
    intro H locs hG ls hl
    refine lv_iload_n hx hb dX4_open_43 rfl (lv_at hl 0 rfl) ?_
    exact kr _ _ (Option.some.inj hf).symm _ _ hG _ _ dX4_open_44
  · have hf := ifp c_3 hf
    refine lv_aload_n hx hb dX4_open_9 rfl (lv_at hl 0 rfl) ?_
    refine lv_bipush (v := (-2)) hx hb dX4_open_10 (by decide) ?_
    obtain ⟨r_7, w_8, e_9, hf⟩ := b2s hf
    refine cM_no B hK hG e_9 ⟨Nat.le_of_ble_eq_true rfl, Nat.le_of_ble_eq_true rfl⟩ ⟨Nat.zero_le _, Nat.zero_le _⟩ hl.1 (Nat.le_of_ble_eq_true rfl) dX4_open_12 (fun H locs hG => ?_)
    exact kr _ _ (Option.some.inj hf).symm _ _ hG _ _ dX4_open_15

theorem tM_open (l : Launch) (X : CX) (a : Nat → Nat) (rest : va_W) (w w' : MW) (x1 : Int32) (r : Int32) (hf : fM_open w x1 = some (r, w')) : RW l yX4_open cX4_open 4 (some .int) 3 0 0 68 [.ref (a 0), .int x1] X (MP X a w ++ rest) (MP X a w' ++ rest) (some (.int r)) := by
  refine RW.mk (by decide) (Nat.le_of_ble_eq_true rfl) ?_
  intro p e s m below meth c B hr hlk hK hG ls hl
  exact wM_open B hK hf (fun r w h H locs hG pc ls hd => by cases h; exact w_iretW B hr hlk hG hd) hG hl
end S_open

section S_parts
variable {p : Program} {l : Launch} {e : Env} {R : Room} {s : State} {m : MethodId} {args : Array Value} {below : List Frame} {meth : Method} {c : Code} {H : Heap} {locs : List Loc} {cells slots : Nat} {Q : State → Prop} {cc : ByteArray} {nL pc : Nat} {ls : Array Slot} {st : List Value} {X : CX} {a : Nat → Nat} {w : MW} {rest : va_W}
noncomputable def fM_parts_L31 (w : MW) (x1 : Int32) (x2 : Int32) (x3 : Int32) (x4 : Int32) : Option ((Int32 × Int32) ⊕ (Int32)) :=
  if x2 ≤ x4 then
    some (.inr x3)
  else
    (fM_isDry w x4).bind fun r_2 =>
    if r_2 = 0 then
      (some (x4 + 1)).bind fun x_5 =>
      some (.inl (x3, x_5))
    else
      (rd (w.2.1 26) 67 x4).bind fun v_7 =>
      if v_7 ≤ 0 then
        (some (x4 + 1)).bind fun x_10 =>
        some (.inl (x3, x_10))
      else
        (some (x4 + 1)).bind fun x_12 =>
        some (.inl (0, x_12))

set_option maxHeartbeats 4000000 in
theorem wM_parts_L31 (B : CallFix p m c cX4_parts 5 s args lw_all RX4) (hK : KK X s) {w : MW} {x1 : Int32} {x2 : Int32} {x3 : Int32} {x4 : Int32} {res : (Int32 × Int32) ⊕ (Int32)} (hf : fM_parts_L31 w x1 x2 x3 x4 = some res) (kc : ∀ (y3 : Int32) (y4 : Int32), res = .inl (y3, y4) → ∀ (H : Heap) (locs : List Loc), GG X (MP X a w ++ rest) s.heap H locs → ∀ (ls : Array Slot), lv_has ls 5 [(0, .ref (a 0)), (1, .int x1), (2, .int x2), (3, .int y3), (4, .int y4)] → W p l e (RMw 4 0 0 93) s m args below meth c H locs 0 0 Q (F0 m 31 ls [])) (ke64 : ∀ (y3 : Int32), res = .inr y3 → ∀ (H : Heap) (locs : List Loc), GG X (MP X a w ++ rest) s.heap H locs → ∀ (ls : Array Slot), lv_has ls 5 [(0, .ref (a 0)), (1, .int x1), (2, .int x2), (3, .int y3)] → W p l e (RMw 4 0 0 93) s m args below meth c H locs 0 0 Q (F0 m 64 ls [])) {H : Heap} {locs : List Loc} (hG : GG X (MP X a w ++ rest) s.heap H locs) {ls : Array Slot} (hl : lv_has ls 5 [(0, .ref (a 0)), (1, .int x1), (2, .int x2), (3, .int x3), (4, .int x4)]) : W p l e (RMw 4 0 0 93) s m args below meth c H locs 0 0 Q (F0 m 31 ls []) := by
  have hx := B.1
  have hb := B.2.1
  unfold fM_parts_L31 at hf
  refine lv_iload hx hb dX4_parts_31 (lv_at hl 4 rfl) ?_
  refine lv_iload_n hx hb dX4_parts_33 rfl (lv_at hl 2 rfl) ?_
  refine lv_icmp_ge (tgt := 64) hx hb dX4_parts_34 (by decide) (fun c_1 => ?_) (fun c_1 => ?_)
  · have hf := ifp c_1 hf
    exact ke64 _ (Option.some.inj hf).symm _ _ hG _ (lv_sub hl [0, 1, 2, 3] rfl)
  · have hf := ifn c_1 hf
    refine lv_aload_n hx hb dX4_parts_37 rfl (lv_at hl 0 rfl) ?_
    refine lv_iload hx hb dX4_parts_38 (lv_at hl 4 rfl) ?_
    obtain ⟨r_2, e_3, hf⟩ := bo hf
    refine cM_isDry B hK hG.2.2 hG.1 e_3 ⟨Nat.le_of_ble_eq_true rfl, Nat.le_of_ble_eq_true rfl⟩ ⟨Nat.zero_le _, Nat.zero_le _⟩ hl.1 (Nat.le_of_ble_eq_true rfl) dX4_parts_40 ?_
    refine lv_if_eq (tgt := 58) hx hb dX4_parts_43 (by decide) (fun c_4 => ?_) (fun c_4 => ?_)
    · have hf := ifp c_4 hf
      obtain ⟨x_5, e_6, hf⟩ := bo hf
      refine w_iinc (k := 4) (lv' := [(4, .int x_5), (0, .ref (a 0)), (1, .int x1), (2, .int x2), (3, .int x3)]) e_6 hx hb dX4_parts_58 hl rfl (by decide) rfl (fun ls hl => ?_)
      refine lv_goto (tgt := 31) hx hb dX4_parts_61 (by decide) ?_
      exact kc _ _ (Option.some.inj hf).symm _ _ hG _ (lv_sub hl [1, 2, 3, 4, 0] rfl)
    · have hf := ifn c_4 hf
      refine lv_aload_n hx hb dX4_parts_46 rfl (lv_at hl 0 rfl) ?_
      refine mo_g26 B hK hG.1 dX4_parts_47 ?_
      refine lv_iload hx hb dX4_parts_50 (lv_at hl 4 rfl) ?_
      obtain ⟨v_7, e_8, hf⟩ := bo hf
      refine mo_ld26 B hK hG.1 e_8 dX4_parts_52 ?_
      refine lv_if_le (tgt := 58) hx hb dX4_parts_53 (by decide) (fun c_9 => ?_) (fun c_9 => ?_)
      · have hf := ifp c_9 hf
        obtain ⟨x_10, e_11, hf⟩ := bo hf
        refine w_iinc (k := 4) (lv' := [(4, .int x_10), (0, .ref (a 0)), (1, .int x1), (2, .int x2), (3, .int x3)]) e_11 hx hb dX4_parts_58 hl rfl (by decide) rfl (fun ls hl => ?_)
        refine lv_goto (tgt := 31) hx hb dX4_parts_61 (by decide) ?_
        exact kc _ _ (Option.some.inj hf).symm _ _ hG _ (lv_sub hl [1, 2, 3, 4, 0] rfl)
      · have hf := ifn c_9 hf
        refine lv_iconst (v := 0) hx hb dX4_parts_56 (by decide) ?_
        refine lv_istore_n (lv' := [(3, .int 0), (0, .ref (a 0)), (1, .int x1), (2, .int x2), (4, .int x4)]) hx hb dX4_parts_57 rfl hl (by decide) rfl (fun ls hl => ?_)
        obtain ⟨x_12, e_13, hf⟩ := bo hf
        refine w_iinc (k := 4) (lv' := [(4, .int x_12), (3, .int 0), (0, .ref (a 0)), (1, .int x1), (2, .int x2)]) e_13 hx hb dX4_parts_58 hl rfl (by decide) rfl (fun ls hl => ?_)
        refine lv_goto (tgt := 31) hx hb dX4_parts_61 (by decide) ?_
        exact kc _ _ (Option.some.inj hf).symm _ _ hG _ (lv_sub hl [2, 3, 4, 1, 0] rfl)

set_option maxHeartbeats 4000000 in
theorem vM_parts_L31 (B : CallFix p m c cX4_parts 5 s args lw_all RX4) (hK : KK X s) {w : MW} {x1 : Int32} {x2 : Int32} {x3 : Int32} {x4 : Int32} {res : Int32} (hf : lp (fun q : Int32 × Int32 => fM_parts_L31 w x1 x2 q.1 q.2) (x3, x4) = some res) (ke64 : ∀ (y3 : Int32), res = y3 → ∀ (H : Heap) (locs : List Loc), GG X (MP X a w ++ rest) s.heap H locs → ∀ (ls : Array Slot), lv_has ls 5 [(0, .ref (a 0)), (1, .int x1), (2, .int x2), (3, .int y3)] → W p l e (RMw 4 0 0 93) s m args below meth c H locs 0 0 Q (F0 m 64 ls [])) {H : Heap} {locs : List Loc} (hG : GG X (MP X a w ++ rest) s.heap H locs) {ls : Array Slot} (hl : lv_has ls 5 [(0, .ref (a 0)), (1, .int x1), (2, .int x2), (3, .int x3), (4, .int x4)]) : W p l e (RMw 4 0 0 93) s m args below meth c H locs 0 0 Q (F0 m 31 ls []) := by
  refine lp_ind (r := res) (P := fun q : Int32 × Int32 => ∀ (H : Heap) (locs : List Loc) (ls : Array Slot), GG X (MP X a w ++ rest) s.heap H locs → lv_has ls 5 [(0, .ref (a 0)), (1, .int x1), (2, .int x2), (3, .int q.1), (4, .int q.2)] → W p l e (RMw 4 0 0 93) s m args below meth c H locs 0 0 Q (F0 m 31 ls [])) ?_ ?_ _ hf _ _ _ hG hl
  · intro q hb H locs ls hG hl
    exact wM_parts_L31 B hK hb (fun _ _ h => by cases h) (fun z0 h => ke64 z0 (Sum.inr.inj h)) hG hl
  · intro q q2 hb ih H locs ls hG hl
    exact wM_parts_L31 B hK hb (fun z0 z1 h => by cases h; exact fun H locs hG ls hl => ih H locs ls hG hl) (fun _ h => by cases h) hG hl

noncomputable def fM_parts_L4 (w : MW) (x1 : Int32) (x2 : Int32) : Option ((Int32 × Int32 × MW) ⊕ (Int32 × MW)) :=
  if 67 ≤ x2 then
    some (.inr (x1, w))
  else
    (fM_isDry w x2).bind fun r_2 =>
    if r_2 = 0 then
      (some (x2 + 1)).bind fun x_17 =>
      some (.inl (x1, x_17, w))
    else
      (fM_walks w x2).bind fun w_5 =>
      (lp (fun q : Int32 × Int32 => fM_parts_L31 w_5 x1 x2 q.1 q.2) (1, 0)).bind (
        fun q_15 => (fun (y_7 : Int32) =>
          if y_7 = 0 then
            (some (x2 + 1)).bind fun x_9 =>
            some (.inl (x1, x_9, w_5))
          else
            (some (x1 + 1)).bind fun x_11 =>
            (some (x2 + 1)).bind fun x_13 =>
            some (.inl (x_11, x_13, w_5))
        ) q_15
      )

set_option maxHeartbeats 4000000 in
theorem wM_parts_L4 (B : CallFix p m c cX4_parts 5 s args lw_all RX4) (hK : KK X s) {w : MW} {x1 : Int32} {x2 : Int32} {res : (Int32 × Int32 × MW) ⊕ (Int32 × MW)} (hf : fM_parts_L4 w x1 x2 = some res) (kc : ∀ (y1 : Int32) (y2 : Int32) (w1 : MW), res = .inl (y1, y2, w1) → ∀ (H : Heap) (locs : List Loc), GG X (MP X a w1 ++ rest) s.heap H locs → ∀ (ls : Array Slot), lv_has ls 5 [(0, .ref (a 0)), (1, .int y1), (2, .int y2)] → W p l e (RMw 4 0 0 93) s m args below meth c H locs 0 0 Q (F0 m 4 ls [])) (ke77 : ∀ (y1 : Int32) (w1 : MW), res = .inr (y1, w1) → ∀ (H : Heap) (locs : List Loc), GG X (MP X a w1 ++ rest) s.heap H locs → ∀ (ls : Array Slot), lv_has ls 5 [(1, .int y1)] → W p l e (RMw 4 0 0 93) s m args below meth c H locs 0 0 Q (F0 m 77 ls [])) {H : Heap} {locs : List Loc} (hG : GG X (MP X a w ++ rest) s.heap H locs) {ls : Array Slot} (hl : lv_has ls 5 [(0, .ref (a 0)), (1, .int x1), (2, .int x2)]) : W p l e (RMw 4 0 0 93) s m args below meth c H locs 0 0 Q (F0 m 4 ls []) := by
  have hx := B.1
  have hb := B.2.1
  unfold fM_parts_L4 at hf
  refine lv_iload_n hx hb dX4_parts_4 rfl (lv_at hl 2 rfl) ?_
  refine lv_bipush (v := 67) hx hb dX4_parts_5 (by decide) ?_
  refine lv_icmp_ge (tgt := 77) hx hb dX4_parts_7 (by decide) (fun c_1 => ?_) (fun c_1 => ?_)
  · have hf := ifp c_1 hf
    exact ke77 _ _ (Option.some.inj hf).symm _ _ hG _ (lv_sub hl [1] rfl)
  · have hf := ifn c_1 hf
    refine lv_aload_n hx hb dX4_parts_10 rfl (lv_at hl 0 rfl) ?_
    refine lv_iload_n hx hb dX4_parts_11 rfl (lv_at hl 2 rfl) ?_
    obtain ⟨r_2, e_3, hf⟩ := bo hf
    refine cM_isDry B hK hG.2.2 hG.1 e_3 ⟨Nat.le_of_ble_eq_true rfl, Nat.le_of_ble_eq_true rfl⟩ ⟨Nat.zero_le _, Nat.zero_le _⟩ hl.1 (Nat.le_of_ble_eq_true rfl) dX4_parts_12 ?_
    refine lv_if_ne (tgt := 21) hx hb dX4_parts_15 (by decide) (fun c_4 => ?_) (fun c_4 => ?_)
    · have hf := ifn c_4 hf
      refine lv_aload_n hx hb dX4_parts_21 rfl (lv_at hl 0 rfl) ?_
      refine lv_iload_n hx hb dX4_parts_22 rfl (lv_at hl 2 rfl) ?_
      obtain ⟨w_5, e_6, hf⟩ := bo hf
      refine cM_walks B hK hG e_6 ⟨Nat.le_of_ble_eq_true rfl, Nat.le_of_ble_eq_true rfl⟩ ⟨Nat.zero_le _, Nat.zero_le _⟩ hl.1 (Nat.le_of_ble_eq_true rfl) dX4_parts_23 (fun H locs hG => ?_)
      refine lv_iconst (v := 1) hx hb dX4_parts_26 (by decide) ?_
      refine lv_istore_n (lv' := [(3, .int 1), (0, .ref (a 0)), (1, .int x1), (2, .int x2)]) hx hb dX4_parts_27 rfl hl (by decide) rfl (fun ls hl => ?_)
      refine lv_iconst (v := 0) hx hb dX4_parts_28 (by decide) ?_
      refine lv_istore (lv' := [(4, .int 0), (3, .int 1), (0, .ref (a 0)), (1, .int x1), (2, .int x2)]) hx hb dX4_parts_29 hl (by decide) rfl (fun ls hl => ?_)
      obtain ⟨y_7, e_16, hf⟩ := bo hf
      try dsimp only at hf
      refine vM_parts_L31 B hK e_16 ?_ hG (lv_sub hl [2, 3, 4, 1, 0] rfl)
      intro z0 hz
      cases hz
      intro H locs hG ls hl
      refine lv_iload_n hx hb dX4_parts_64 rfl (lv_at hl 3 rfl) ?_
      refine lv_if_eq (tgt := 71) hx hb dX4_parts_65 (by decide) (fun c_8 => ?_) (fun c_8 => ?_)
      · have hf := ifp c_8 hf
        obtain ⟨x_9, e_10, hf⟩ := bo hf
        refine w_iinc (k := 2) (lv' := [(2, .int x_9), (0, .ref (a 0)), (1, .int x1), (3, .int y_7)]) e_10 hx hb dX4_parts_71 hl rfl (by decide) rfl (fun ls hl => ?_)
        refine lv_goto (tgt := 4) hx hb dX4_parts_74 (by decide) ?_
        exact kc _ _ _ (Option.some.inj hf).symm _ _ hG _ (lv_sub hl [1, 2, 0] rfl)
      · have hf := ifn c_8 hf
        obtain ⟨x_11, e_12, hf⟩ := bo hf
        refine w_iinc (k := 1) (lv' := [(1, .int x_11), (0, .ref (a 0)), (2, .int x2), (3, .int y_7)]) e_12 hx hb dX4_parts_68 hl rfl (by decide) rfl (fun ls hl => ?_)
        obtain ⟨x_13, e_14, hf⟩ := bo hf
        refine w_iinc (k := 2) (lv' := [(2, .int x_13), (1, .int x_11), (0, .ref (a 0)), (3, .int y_7)]) e_14 hx hb dX4_parts_71 hl rfl (by decide) rfl (fun ls hl => ?_)
        refine lv_goto (tgt := 4) hx hb dX4_parts_74 (by decide) ?_
        exact kc _ _ _ (Option.some.inj hf).symm _ _ hG _ (lv_sub hl [2, 1, 0] rfl)
    · have hf := ifp c_4 hf
      refine lv_goto (tgt := 71) hx hb dX4_parts_18 (by decide) ?_
      obtain ⟨x_17, e_18, hf⟩ := bo hf
      refine w_iinc (k := 2) (lv' := [(2, .int x_17), (0, .ref (a 0)), (1, .int x1)]) e_18 hx hb dX4_parts_71 hl rfl (by decide) rfl (fun ls hl => ?_)
      refine lv_goto (tgt := 4) hx hb dX4_parts_74 (by decide) ?_
      exact kc _ _ _ (Option.some.inj hf).symm _ _ hG _ (lv_sub hl [1, 2, 0] rfl)

set_option maxHeartbeats 4000000 in
theorem vM_parts_L4 (B : CallFix p m c cX4_parts 5 s args lw_all RX4) (hK : KK X s) {w : MW} {x1 : Int32} {x2 : Int32} {res : Int32 × MW} (hf : lp (fun q : Int32 × Int32 × MW => fM_parts_L4 q.2.2 q.1 q.2.1) (x1, x2, w) = some res) (ke77 : ∀ (y1 : Int32) (w1 : MW), res = (y1, w1) → ∀ (H : Heap) (locs : List Loc), GG X (MP X a w1 ++ rest) s.heap H locs → ∀ (ls : Array Slot), lv_has ls 5 [(1, .int y1)] → W p l e (RMw 4 0 0 93) s m args below meth c H locs 0 0 Q (F0 m 77 ls [])) {H : Heap} {locs : List Loc} (hG : GG X (MP X a w ++ rest) s.heap H locs) {ls : Array Slot} (hl : lv_has ls 5 [(0, .ref (a 0)), (1, .int x1), (2, .int x2)]) : W p l e (RMw 4 0 0 93) s m args below meth c H locs 0 0 Q (F0 m 4 ls []) := by
  refine lp_ind (r := res) (P := fun q : Int32 × Int32 × MW => ∀ (H : Heap) (locs : List Loc) (ls : Array Slot), GG X (MP X a q.2.2 ++ rest) s.heap H locs → lv_has ls 5 [(0, .ref (a 0)), (1, .int q.1), (2, .int q.2.1)] → W p l e (RMw 4 0 0 93) s m args below meth c H locs 0 0 Q (F0 m 4 ls [])) ?_ ?_ _ hf _ _ _ hG hl
  · intro q hb H locs ls hG hl
    exact wM_parts_L4 B hK hb (fun _ _ _ h => by cases h) (fun z0 z1 h => ke77 z0 z1 (Sum.inr.inj h)) hG hl
  · intro q q2 hb ih H locs ls hG hl
    exact wM_parts_L4 B hK hb (fun z0 z1 z2 h => by cases h; exact fun H locs hG ls hl => ih H locs ls hG hl) (fun _ _ h => by cases h) hG hl

noncomputable def fM_parts (w : MW)  : Option (Int32 × MW) :=
  (lp (fun q : Int32 × Int32 × MW => fM_parts_L4 q.2.2 q.1 q.2.1) (0, 0, w)).bind (
    fun q_3 => (fun (y_1 : Int32) (w_2 : MW) =>
      some (y_1, w_2)
    ) q_3.1 q_3.2
  )

set_option maxHeartbeats 4000000 in
theorem wM_parts (B : CallFix p m c cX4_parts 5 s args lw_all RX4) (hK : KK X s) {w : MW}  {res : Int32 × MW} (hf : fM_parts w  = some res) (kr : ∀ (r : Int32) (w1 : MW), res = (r, w1) → ∀ (H : Heap) (locs : List Loc), GG X (MP X a w1 ++ rest) s.heap H locs → ∀ (pc : Nat) (ls : Array Slot), decode cX4_parts pc = .ok (.ireturn, 1) → W p l e (RMw 4 0 0 93) s m args below meth c H locs 0 0 Q (F0 m pc ls [.int r])) {H : Heap} {locs : List Loc} (hG : GG X (MP X a w ++ rest) s.heap H locs) {ls : Array Slot} (hl : lv_has ls 5 [(0, .ref (a 0))]) : W p l e (RMw 4 0 0 93) s m args below meth c H locs 0 0 Q (F0 m 0 ls []) := by
  have hx := B.1
  have hb := B.2.1
  unfold fM_parts at hf
  refine lv_iconst (v := 0) hx hb dX4_parts_0 (by decide) ?_
  refine lv_istore_n (lv' := [(1, .int 0), (0, .ref (a 0))]) hx hb dX4_parts_1 rfl hl (by decide) rfl (fun ls hl => ?_)
  refine lv_iconst (v := 0) hx hb dX4_parts_2 (by decide) ?_
  refine lv_istore_n (lv' := [(2, .int 0), (1, .int 0), (0, .ref (a 0))]) hx hb dX4_parts_3 rfl hl (by decide) rfl (fun ls hl => ?_)
  obtain ⟨⟨y_1, w_2⟩, e_4, hf⟩ := bo hf
  try dsimp only at hf
  refine vM_parts_L4 B hK e_4 ?_ hG (lv_sub hl [2, 1, 0] rfl)
  intro z0 z1 hz
  cases hz
  intro H locs hG ls hl
  refine lv_iload_n hx hb dX4_parts_77 rfl (lv_at hl 0 rfl) ?_
  exact kr _ _ (Option.some.inj hf).symm _ _ hG _ _ dX4_parts_78

theorem tM_parts (l : Launch) (X : CX) (a : Nat → Nat) (rest : va_W) (w w' : MW)  (r : Int32) (hf : fM_parts w  = some (r, w')) : RW l yX4_parts cX4_parts 5 (some .int) 4 0 0 93 [.ref (a 0)] X (MP X a w ++ rest) (MP X a w' ++ rest) (some (.int r)) := by
  refine RW.mk (by decide) (Nat.le_of_ble_eq_true rfl) ?_
  intro p e s m below meth c B hr hlk hK hG ls hl
  exact wM_parts B hK hf (fun r w h H locs hG pc ls hd => by cases h; exact w_iretW B hr hlk hG hd) hG hl
end S_parts

section S_out
variable {p : Program} {l : Launch} {e : Env} {R : Room} {s : State} {m : MethodId} {args : Array Value} {below : List Frame} {meth : Method} {c : Code} {H : Heap} {locs : List Loc} {cells slots : Nat} {Q : State → Prop} {cc : ByteArray} {nL pc : Nat} {ls : Array Slot} {st : List Value} {X : CX} {a : Nat → Nat} {w : MW} {rest : va_W}
noncomputable def fM_out (w : MW) (x1 : Int32) : Option (Int32 × MW) :=
  (rd (w.2.1 8) 4 x1).bind fun v_1 =>
  b2 (fM_pathOf w v_1 (w.1 2)) fun r_3 w_4 =>
  if r_3 = (-1) then
    some (99, w_4)
  else
    some (r_3, w_4)

set_option maxHeartbeats 4000000 in
theorem wM_out (B : CallFix p m c cX4_out 3 s args lw_all RX4) (hK : KK X s) {w : MW} {x1 : Int32} {res : Int32 × MW} (hf : fM_out w x1 = some res) (kr : ∀ (r : Int32) (w1 : MW), res = (r, w1) → ∀ (H : Heap) (locs : List Loc), GG X (MP X a w1 ++ rest) s.heap H locs → ∀ (pc : Nat) (ls : Array Slot), decode cX4_out pc = .ok (.ireturn, 1) → W p l e (RMw 5 0 0 115) s m args below meth c H locs 0 0 Q (F0 m pc ls [.int r])) {H : Heap} {locs : List Loc} (hG : GG X (MP X a w ++ rest) s.heap H locs) {ls : Array Slot} (hl : lv_has ls 3 [(0, .ref (a 0)), (1, .int x1)]) : W p l e (RMw 5 0 0 115) s m args below meth c H locs 0 0 Q (F0 m 0 ls []) := by
  have hx := B.1
  have hb := B.2.1
  unfold fM_out at hf
  refine lv_aload_n hx hb dX4_out_0 rfl (lv_at hl 0 rfl) ?_
  refine lv_aload_n hx hb dX4_out_1 rfl (lv_at hl 0 rfl) ?_
  refine mo_g8 B hK hG.1 dX4_out_2 ?_
  refine lv_iload_n hx hb dX4_out_5 rfl (lv_at hl 1 rfl) ?_
  obtain ⟨v_1, e_2, hf⟩ := bo hf
  refine mo_ld8 B hK hG.1 e_2 dX4_out_6 ?_
  refine lv_aload_n hx hb dX4_out_7 rfl (lv_at hl 0 rfl) ?_
  refine mo_g2 B hK hG.1 dX4_out_8 ?_
  obtain ⟨r_3, w_4, e_5, hf⟩ := b2s hf
  refine cM_pathOf B hK hG e_5 ⟨Nat.le_of_ble_eq_true rfl, Nat.le_of_ble_eq_true rfl⟩ ⟨Nat.zero_le _, Nat.zero_le _⟩ hl.1 (Nat.le_of_ble_eq_true rfl) dX4_out_11 (fun H locs hG => ?_)
  refine lv_istore_n (lv' := [(2, .int r_3), (0, .ref (a 0)), (1, .int x1)]) hx hb dX4_out_14 rfl hl (by decide) rfl (fun ls hl => ?_)
  refine lv_iload_n hx hb dX4_out_15 rfl (lv_at hl 0 rfl) ?_
  refine lv_iconst (v := (-1)) hx hb dX4_out_16 (by decide) ?_
  refine lv_icmp_ne (tgt := 25) hx hb dX4_out_17 (by decide) (fun c_6 => ?_) (fun c_6 => ?_)
  · have hf := ifn c_6 hf
    refine lv_iload_n hx hb dX4_out_25 rfl (lv_at hl 0 rfl) ?_
    exact kr _ _ (Option.some.inj hf).symm _ _ hG _ _ dX4_out_26
  · have hf := ifp c_6 hf
    refine lv_bipush (v := 99) hx hb dX4_out_20 (by decide) ?_
    refine lv_goto (tgt := 26) hx hb dX4_out_22 (by decide) ?_
    exact kr _ _ (Option.some.inj hf).symm _ _ hG _ _ dX4_out_26

theorem tM_out (l : Launch) (X : CX) (a : Nat → Nat) (rest : va_W) (w w' : MW) (x1 : Int32) (r : Int32) (hf : fM_out w x1 = some (r, w')) : RW l yX4_out cX4_out 3 (some .int) 5 0 0 115 [.ref (a 0), .int x1] X (MP X a w ++ rest) (MP X a w' ++ rest) (some (.int r)) := by
  refine RW.mk (by decide) (Nat.le_of_ble_eq_true rfl) ?_
  intro p e s m below meth c B hr hlk hK hG ls hl
  exact wM_out B hK hf (fun r w h H locs hG pc ls hd => by cases h; exact w_iretW B hr hlk hG hd) hG hl
theorem cM_out (B : CallFix p m c cc nL s args lw_all RX4) (hK : KK X s) (hG : GG X (MP X a w ++ rest) s.heap H locs) {x1 : Int32} {r : Int32} {w' : MW} (hf : fM_out w x1 = some (r, w')) (hR : 5 + 1 ≤ R.frames ∧ 137 ≤ R.locals) (hcs : cells ≤ R.cells ∧ slots ≤ R.slots) (hl : ls.size = nL) (hcat : (st.map fun v => v.category).sum ≤ 8) (hdg : decode cc pc = .ok (.invokevirtual 309, 3)) (kk : ∀ (H1 : Heap) (locs1 : List Loc), GG X (MP X a w' ++ rest) s.heap H1 locs1 → W p l e R s m args below meth c H1 locs1 cells slots Q (F0 m (pc + 3) ls (.int r :: st))) : W p l e R s m args below meth c H locs cells slots Q (F0 m pc ls (.int x1 :: .ref (a 0) :: st)) :=
  w_afterW (w_rV_RW (As := [.int x1]) B hK hG (tM_out l X a rest w w' x1 r hf) (lw_V q1868 q1870 qs79 q91 q1871) 0 rfl rfl (n := 1) (by decide +kernel) hR hcs rfl hl rfl hcat hdg) hG.2.2 kk
end S_out

section S_worst
variable {p : Program} {l : Launch} {e : Env} {R : Room} {s : State} {m : MethodId} {args : Array Value} {below : List Frame} {meth : Method} {c : Code} {H : Heap} {locs : List Loc} {cells slots : Nat} {Q : State → Prop} {cc : ByteArray} {nL pc : Nat} {ls : Array Slot} {st : List Value} {X : CX} {a : Nat → Nat} {w : MW} {rest : va_W}
noncomputable def fM_worst_J77_L34 (w : MW) (x1 : Int32) (x3 : Int32) : Option ((Int32 × Int32 × MW) ⊕ (Int32 × MW)) :=
  (some (x3 + 1)).bind fun x_1 =>
  some (.inl (x3, x_1, w))

set_option maxHeartbeats 4000000 in
theorem wM_worst_J77_L34 (B : CallFix p m c cX4_worst 4 s args lw_all RX4) (hK : KK X s) {w : MW} {x1 : Int32} {x3 : Int32} {res : (Int32 × Int32 × MW) ⊕ (Int32 × MW)} (hf : fM_worst_J77_L34 w x1 x3 = some res) (kc : ∀ (y2 : Int32) (y3 : Int32) (w1 : MW), res = .inl (y2, y3, w1) → ∀ (H : Heap) (locs : List Loc), GG X (MP X a w1 ++ rest) s.heap H locs → ∀ (ls : Array Slot), lv_has ls 4 [(0, .ref (a 0)), (1, .int x1), (2, .int y2), (3, .int y3)] → W p l e (RMw 6 0 0 137) s m args below meth c H locs 0 0 Q (F0 m 34 ls [])) (ke85 : ∀ (y2 : Int32) (w1 : MW), res = .inr (y2, w1) → ∀ (H : Heap) (locs : List Loc), GG X (MP X a w1 ++ rest) s.heap H locs → ∀ (ls : Array Slot), lv_has ls 4 [(2, .int y2)] → W p l e (RMw 6 0 0 137) s m args below meth c H locs 0 0 Q (F0 m 85 ls [])) {H : Heap} {locs : List Loc} (hG : GG X (MP X a w ++ rest) s.heap H locs) {ls : Array Slot} (hl : lv_has ls 4 [(0, .ref (a 0)), (1, .int x1), (3, .int x3)]) : W p l e (RMw 6 0 0 137) s m args below meth c H locs 0 0 Q (F0 m 77 ls []) := by
  have hx := B.1
  have hb := B.2.1
  unfold fM_worst_J77_L34 at hf
  refine lv_iload_n hx hb dX4_worst_77 rfl (lv_at hl 2 rfl) ?_
  refine lv_istore_n (lv' := [(2, .int x3), (0, .ref (a 0)), (1, .int x1), (3, .int x3)]) hx hb dX4_worst_78 rfl hl (by decide) rfl (fun ls hl => ?_)
  obtain ⟨x_1, e_2, hf⟩ := bo hf
  refine w_iinc (k := 3) (lv' := [(3, .int x_1), (2, .int x3), (0, .ref (a 0)), (1, .int x1)]) e_2 hx hb dX4_worst_79 hl rfl (by decide) rfl (fun ls hl => ?_)
  refine lv_goto (tgt := 34) hx hb dX4_worst_82 (by decide) ?_
  exact kc _ _ _ (Option.some.inj hf).symm _ _ hG _ (lv_sub hl [2, 3, 1, 0] rfl)

noncomputable def fM_worst_L34 (w : MW) (x1 : Int32) (x2 : Int32) (x3 : Int32) : Option ((Int32 × Int32 × MW) ⊕ (Int32 × MW)) :=
  if (w.1 7) ≤ x3 then
    some (.inr (x2, w))
  else
    if x1 = 0 then
      (rd (w.2.1 9) 4 x3).bind fun v_12 =>
      (rd (w.2.1 9) 4 x2).bind fun v_14 =>
      if v_14 ≤ v_12 then
        (some (x3 + 1)).bind fun x_17 =>
        some (.inl (x2, x_17, w))
      else
        fM_worst_J77_L34 w x1 x3
    else
      b2 (fM_out w x3) fun r_3 w_4 =>
      b2 (fM_out w_4 x2) fun r_6 w_7 =>
      if r_3 ≤ r_6 then
        (some (x3 + 1)).bind fun x_10 =>
        some (.inl (x2, x_10, w_7))
      else
        fM_worst_J77_L34 w_7 x1 x3

set_option maxHeartbeats 4000000 in
theorem wM_worst_L34 (B : CallFix p m c cX4_worst 4 s args lw_all RX4) (hK : KK X s) {w : MW} {x1 : Int32} {x2 : Int32} {x3 : Int32} {res : (Int32 × Int32 × MW) ⊕ (Int32 × MW)} (hf : fM_worst_L34 w x1 x2 x3 = some res) (kc : ∀ (y2 : Int32) (y3 : Int32) (w1 : MW), res = .inl (y2, y3, w1) → ∀ (H : Heap) (locs : List Loc), GG X (MP X a w1 ++ rest) s.heap H locs → ∀ (ls : Array Slot), lv_has ls 4 [(0, .ref (a 0)), (1, .int x1), (2, .int y2), (3, .int y3)] → W p l e (RMw 6 0 0 137) s m args below meth c H locs 0 0 Q (F0 m 34 ls [])) (ke85 : ∀ (y2 : Int32) (w1 : MW), res = .inr (y2, w1) → ∀ (H : Heap) (locs : List Loc), GG X (MP X a w1 ++ rest) s.heap H locs → ∀ (ls : Array Slot), lv_has ls 4 [(2, .int y2)] → W p l e (RMw 6 0 0 137) s m args below meth c H locs 0 0 Q (F0 m 85 ls [])) {H : Heap} {locs : List Loc} (hG : GG X (MP X a w ++ rest) s.heap H locs) {ls : Array Slot} (hl : lv_has ls 4 [(0, .ref (a 0)), (1, .int x1), (2, .int x2), (3, .int x3)]) : W p l e (RMw 6 0 0 137) s m args below meth c H locs 0 0 Q (F0 m 34 ls []) := by
  have hx := B.1
  have hb := B.2.1
  unfold fM_worst_L34 at hf
  refine lv_iload_n hx hb dX4_worst_34 rfl (lv_at hl 3 rfl) ?_
  refine lv_aload_n hx hb dX4_worst_35 rfl (lv_at hl 0 rfl) ?_
  refine mo_g7 B hK hG.1 dX4_worst_36 ?_
  refine lv_icmp_ge (tgt := 85) hx hb dX4_worst_39 (by decide) (fun c_1 => ?_) (fun c_1 => ?_)
  · have hf := ifp c_1 hf
    exact ke85 _ _ (Option.some.inj hf).symm _ _ hG _ (lv_sub hl [2] rfl)
  · have hf := ifn c_1 hf
    refine lv_iload_n hx hb dX4_worst_42 rfl (lv_at hl 1 rfl) ?_
    refine lv_if_ne (tgt := 64) hx hb dX4_worst_43 (by decide) (fun c_2 => ?_) (fun c_2 => ?_)
    · have hf := ifn c_2 hf
      refine lv_aload_n hx hb dX4_worst_64 rfl (lv_at hl 0 rfl) ?_
      refine lv_iload_n hx hb dX4_worst_65 rfl (lv_at hl 3 rfl) ?_
      obtain ⟨r_3, w_4, e_5, hf⟩ := b2s hf
      refine cM_out B hK hG e_5 ⟨Nat.le_of_ble_eq_true rfl, Nat.le_of_ble_eq_true rfl⟩ ⟨Nat.zero_le _, Nat.zero_le _⟩ hl.1 (Nat.le_of_ble_eq_true rfl) dX4_worst_66 (fun H locs hG => ?_)
      refine lv_aload_n hx hb dX4_worst_69 rfl (lv_at hl 0 rfl) ?_
      refine lv_iload_n hx hb dX4_worst_70 rfl (lv_at hl 2 rfl) ?_
      obtain ⟨r_6, w_7, e_8, hf⟩ := b2s hf
      refine cM_out B hK hG e_8 ⟨Nat.le_of_ble_eq_true rfl, Nat.le_of_ble_eq_true rfl⟩ ⟨Nat.zero_le _, Nat.zero_le _⟩ hl.1 (Nat.le_of_ble_eq_true rfl) dX4_worst_71 (fun H locs hG => ?_)
      refine lv_icmp_le (tgt := 79) hx hb dX4_worst_74 (by decide) (fun c_9 => ?_) (fun c_9 => ?_)
      · have hf := ifp c_9 hf
        obtain ⟨x_10, e_11, hf⟩ := bo hf
        refine w_iinc (k := 3) (lv' := [(3, .int x_10), (0, .ref (a 0)), (1, .int x1), (2, .int x2)]) e_11 hx hb dX4_worst_79 hl rfl (by decide) rfl (fun ls hl => ?_)
        refine lv_goto (tgt := 34) hx hb dX4_worst_82 (by decide) ?_
        exact kc _ _ _ (Option.some.inj hf).symm _ _ hG _ (lv_sub hl [1, 2, 3, 0] rfl)
      · have hf := ifn c_9 hf
        exact wM_worst_J77_L34 B hK hf kc ke85 hG (lv_sub hl [0, 1, 3] rfl)
    · have hf := ifp c_2 hf
      refine lv_aload_n hx hb dX4_worst_46 rfl (lv_at hl 0 rfl) ?_
      refine mo_g9 B hK hG.1 dX4_worst_47 ?_
      refine lv_iload_n hx hb dX4_worst_50 rfl (lv_at hl 3 rfl) ?_
      obtain ⟨v_12, e_13, hf⟩ := bo hf
      refine mo_ld9 B hK hG.1 e_13 dX4_worst_51 ?_
      refine lv_aload_n hx hb dX4_worst_52 rfl (lv_at hl 0 rfl) ?_
      refine mo_g9 B hK hG.1 dX4_worst_53 ?_
      refine lv_iload_n hx hb dX4_worst_56 rfl (lv_at hl 2 rfl) ?_
      obtain ⟨v_14, e_15, hf⟩ := bo hf
      refine mo_ld9 B hK hG.1 e_15 dX4_worst_57 ?_
      refine lv_icmp_ge (tgt := 79) hx hb dX4_worst_58 (by decide) (fun c_16 => ?_) (fun c_16 => ?_)
      · have hf := ifp c_16 hf
        obtain ⟨x_17, e_18, hf⟩ := bo hf
        refine w_iinc (k := 3) (lv' := [(3, .int x_17), (0, .ref (a 0)), (1, .int x1), (2, .int x2)]) e_18 hx hb dX4_worst_79 hl rfl (by decide) rfl (fun ls hl => ?_)
        refine lv_goto (tgt := 34) hx hb dX4_worst_82 (by decide) ?_
        exact kc _ _ _ (Option.some.inj hf).symm _ _ hG _ (lv_sub hl [1, 2, 3, 0] rfl)
      · have hf := ifn c_16 hf
        refine lv_goto (tgt := 77) hx hb dX4_worst_61 (by decide) ?_
        exact wM_worst_J77_L34 B hK hf kc ke85 hG (lv_sub hl [0, 1, 3] rfl)

set_option maxHeartbeats 4000000 in
theorem vM_worst_L34 (B : CallFix p m c cX4_worst 4 s args lw_all RX4) (hK : KK X s) {w : MW} {x1 : Int32} {x2 : Int32} {x3 : Int32} {res : Int32 × MW} (hf : lp (fun q : Int32 × Int32 × MW => fM_worst_L34 q.2.2 x1 q.1 q.2.1) (x2, x3, w) = some res) (ke85 : ∀ (y2 : Int32) (w1 : MW), res = (y2, w1) → ∀ (H : Heap) (locs : List Loc), GG X (MP X a w1 ++ rest) s.heap H locs → ∀ (ls : Array Slot), lv_has ls 4 [(2, .int y2)] → W p l e (RMw 6 0 0 137) s m args below meth c H locs 0 0 Q (F0 m 85 ls [])) {H : Heap} {locs : List Loc} (hG : GG X (MP X a w ++ rest) s.heap H locs) {ls : Array Slot} (hl : lv_has ls 4 [(0, .ref (a 0)), (1, .int x1), (2, .int x2), (3, .int x3)]) : W p l e (RMw 6 0 0 137) s m args below meth c H locs 0 0 Q (F0 m 34 ls []) := by
  refine lp_ind (r := res) (P := fun q : Int32 × Int32 × MW => ∀ (H : Heap) (locs : List Loc) (ls : Array Slot), GG X (MP X a q.2.2 ++ rest) s.heap H locs → lv_has ls 4 [(0, .ref (a 0)), (1, .int x1), (2, .int q.1), (3, .int q.2.1)] → W p l e (RMw 6 0 0 137) s m args below meth c H locs 0 0 Q (F0 m 34 ls [])) ?_ ?_ _ hf _ _ _ hG hl
  · intro q hb H locs ls hG hl
    exact wM_worst_L34 B hK hb (fun _ _ _ h => by cases h) (fun z0 z1 h => ke85 z0 z1 (Sum.inr.inj h)) hG hl
  · intro q q2 hb ih H locs ls hG hl
    exact wM_worst_L34 B hK hb (fun z0 z1 z2 h => by cases h; exact fun H locs hG ls hl => ih H locs ls hG hl) (fun _ _ h => by cases h) hG hl

noncomputable def fM_worst (w : MW) (x1 : Int32) : Option (Int32 × MW) :=
  (fM_within x1 0 1).bind fun r_1 =>
  if r_1 = 0 then
    b2 (fM_no w (-2)) fun r_12 w_13 =>
    some (r_12, w_13)
  else
    if (w.1 7) = 0 then
      b2 (fM_no w (-5)) fun r_9 w_10 =>
      some (r_9, w_10)
    else
      (lp (fun q : Int32 × Int32 × MW => fM_worst_L34 q.2.2 x1 q.1 q.2.1) (0, 1, w)).bind (
        fun q_7 => (fun (y_5 : Int32) (w_6 : MW) =>
          some (y_5, w_6)
        ) q_7.1 q_7.2
      )

set_option maxHeartbeats 4000000 in
theorem wM_worst (B : CallFix p m c cX4_worst 4 s args lw_all RX4) (hK : KK X s) {w : MW} {x1 : Int32} {res : Int32 × MW} (hf : fM_worst w x1 = some res) (kr : ∀ (r : Int32) (w1 : MW), res = (r, w1) → ∀ (H : Heap) (locs : List Loc), GG X (MP X a w1 ++ rest) s.heap H locs → ∀ (pc : Nat) (ls : Array Slot), decode cX4_worst pc = .ok (.ireturn, 1) → W p l e (RMw 6 0 0 137) s m args below meth c H locs 0 0 Q (F0 m pc ls [.int r])) {H : Heap} {locs : List Loc} (hG : GG X (MP X a w ++ rest) s.heap H locs) {ls : Array Slot} (hl : lv_has ls 4 [(0, .ref (a 0)), (1, .int x1)]) : W p l e (RMw 6 0 0 137) s m args below meth c H locs 0 0 Q (F0 m 0 ls []) := by
  have hx := B.1
  have hb := B.2.1
  unfold fM_worst at hf
  refine lv_iload_n hx hb dX4_worst_0 rfl (lv_at hl 1 rfl) ?_
  refine lv_iconst (v := 0) hx hb dX4_worst_1 (by decide) ?_
  refine lv_iconst (v := 1) hx hb dX4_worst_2 (by decide) ?_
  obtain ⟨r_1, e_2, hf⟩ := bo hf
  refine cM_within B e_2 ⟨Nat.le_of_ble_eq_true rfl, Nat.le_of_ble_eq_true rfl⟩ ⟨Nat.zero_le _, Nat.zero_le _⟩ hl.1 (Nat.le_of_ble_eq_true rfl) dX4_worst_3 ?_
  refine lv_if_ne (tgt := 16) hx hb dX4_worst_6 (by decide) (fun c_3 => ?_) (fun c_3 => ?_)
  · have hf := ifn c_3 hf
    refine lv_aload_n hx hb dX4_worst_16 rfl (lv_at hl 0 rfl) ?_
    refine mo_g7 B hK hG.1 dX4_worst_17 ?_
    refine lv_if_ne (tgt := 30) hx hb dX4_worst_20 (by decide) (fun c_4 => ?_) (fun c_4 => ?_)
    · have hf := ifn c_4 hf
      refine lv_iconst (v := 0) hx hb dX4_worst_30 (by decide) ?_
      refine lv_istore_n (lv' := [(2, .int 0), (0, .ref (a 0)), (1, .int x1)]) hx hb dX4_worst_31 rfl hl (by decide) rfl (fun ls hl => ?_)
      refine lv_iconst (v := 1) hx hb dX4_worst_32 (by decide) ?_
      refine lv_istore_n (lv' := [(3, .int 1), (2, .int 0), (0, .ref (a 0)), (1, .int x1)]) hx hb dX4_worst_33 rfl hl (by decide) rfl (fun ls hl => ?_)
      obtain ⟨⟨y_5, w_6⟩, e_8, hf⟩ := bo hf
      try dsimp only at hf
      refine vM_worst_L34 B hK e_8 ?_ hG (lv_sub hl [2, 3, 1, 0] rfl)
      intro z0 z1 hz
      cases hz
      intro H locs hG ls hl
      refine lv_iload_n hx hb dX4_worst_85 rfl (lv_at hl 0 rfl) ?_
      exact kr _ _ (Option.some.inj hf).symm _ _ hG _ _ dX4_worst_86
    · have hf := ifp c_4 hf
      refine lv_aload_n hx hb dX4_worst_23 rfl (lv_at hl 0 rfl) ?_
      refine lv_bipush (v := (-5)) hx hb dX4_worst_24 (by decide) ?_
      obtain ⟨r_9, w_10, e_11, hf⟩ := b2s hf
      refine cM_no B hK hG e_11 ⟨Nat.le_of_ble_eq_true rfl, Nat.le_of_ble_eq_true rfl⟩ ⟨Nat.zero_le _, Nat.zero_le _⟩ hl.1 (Nat.le_of_ble_eq_true rfl) dX4_worst_26 (fun H locs hG => ?_)
      exact kr _ _ (Option.some.inj hf).symm _ _ hG _ _ dX4_worst_29
  · have hf := ifp c_3 hf
    refine lv_aload_n hx hb dX4_worst_9 rfl (lv_at hl 0 rfl) ?_
    refine lv_bipush (v := (-2)) hx hb dX4_worst_10 (by decide) ?_
    obtain ⟨r_12, w_13, e_14, hf⟩ := b2s hf
    refine cM_no B hK hG e_14 ⟨Nat.le_of_ble_eq_true rfl, Nat.le_of_ble_eq_true rfl⟩ ⟨Nat.zero_le _, Nat.zero_le _⟩ hl.1 (Nat.le_of_ble_eq_true rfl) dX4_worst_12 (fun H locs hG => ?_)
    exact kr _ _ (Option.some.inj hf).symm _ _ hG _ _ dX4_worst_15

theorem tM_worst (l : Launch) (X : CX) (a : Nat → Nat) (rest : va_W) (w w' : MW) (x1 : Int32) (r : Int32) (hf : fM_worst w x1 = some (r, w')) : RW l yX4_worst cX4_worst 4 (some .int) 6 0 0 137 [.ref (a 0), .int x1] X (MP X a w ++ rest) (MP X a w' ++ rest) (some (.int r)) := by
  refine RW.mk (by decide) (Nat.le_of_ble_eq_true rfl) ?_
  intro p e s m below meth c B hr hlk hK hG ls hl
  exact wM_worst B hK hf (fun r w h H locs hG pc ls hd => by cases h; exact w_iretW B hr hlk hG hd) hG hl
end S_worst

section S_path
variable {p : Program} {l : Launch} {e : Env} {R : Room} {s : State} {m : MethodId} {args : Array Value} {below : List Frame} {meth : Method} {c : Code} {H : Heap} {locs : List Loc} {cells slots : Nat} {Q : State → Prop} {cc : ByteArray} {nL pc : Nat} {ls : Array Slot} {st : List Value} {X : CX} {a : Nat → Nat} {w : MW} {rest : va_W}
noncomputable def fM_path_J27 (w : MW)  : Option (Int32 × MW) :=
  b2 (fM_no w (-2)) fun r_1 w_2 =>
  some (r_1, w_2)

set_option maxHeartbeats 4000000 in
theorem wM_path_J27 (B : CallFix p m c cX4_path 3 s args lw_all RX4) (hK : KK X s) {w : MW}  {res : Int32 × MW} (hf : fM_path_J27 w  = some res) (kr : ∀ (r : Int32) (w1 : MW), res = (r, w1) → ∀ (H : Heap) (locs : List Loc), GG X (MP X a w1 ++ rest) s.heap H locs → ∀ (pc : Nat) (ls : Array Slot), decode cX4_path pc = .ok (.ireturn, 1) → W p l e (RMw 5 0 0 115) s m args below meth c H locs 0 0 Q (F0 m pc ls [.int r])) {H : Heap} {locs : List Loc} (hG : GG X (MP X a w ++ rest) s.heap H locs) {ls : Array Slot} (hl : lv_has ls 3 [(0, .ref (a 0))]) : W p l e (RMw 5 0 0 115) s m args below meth c H locs 0 0 Q (F0 m 27 ls []) := by
  have hx := B.1
  have hb := B.2.1
  unfold fM_path_J27 at hf
  refine lv_aload_n hx hb dX4_path_27 rfl (lv_at hl 0 rfl) ?_
  refine lv_bipush (v := (-2)) hx hb dX4_path_28 (by decide) ?_
  obtain ⟨r_1, w_2, e_3, hf⟩ := b2s hf
  refine cM_no B hK hG e_3 ⟨Nat.le_of_ble_eq_true rfl, Nat.le_of_ble_eq_true rfl⟩ ⟨Nat.zero_le _, Nat.zero_le _⟩ hl.1 (Nat.le_of_ble_eq_true rfl) dX4_path_30 (fun H locs hG => ?_)
  exact kr _ _ (Option.some.inj hf).symm _ _ hG _ _ dX4_path_33

noncomputable def fM_path (w : MW) (x1 : Int32) (x2 : Int32) : Option (Int32 × MW) :=
  (fM_isCell w (x1.toInt64)).bind fun r_1 =>
  if r_1 = 0 then
    fM_path_J27 w 
  else
    (fM_isCell w (x2.toInt64)).bind fun r_4 =>
    if r_4 = 0 then
      fM_path_J27 w 
    else
      b2 (fM_pathOf w x1 x2) fun r_7 w_8 =>
      some (r_7, w_8)

set_option maxHeartbeats 4000000 in
theorem wM_path (B : CallFix p m c cX4_path 3 s args lw_all RX4) (hK : KK X s) {w : MW} {x1 : Int32} {x2 : Int32} {res : Int32 × MW} (hf : fM_path w x1 x2 = some res) (kr : ∀ (r : Int32) (w1 : MW), res = (r, w1) → ∀ (H : Heap) (locs : List Loc), GG X (MP X a w1 ++ rest) s.heap H locs → ∀ (pc : Nat) (ls : Array Slot), decode cX4_path pc = .ok (.ireturn, 1) → W p l e (RMw 5 0 0 115) s m args below meth c H locs 0 0 Q (F0 m pc ls [.int r])) {H : Heap} {locs : List Loc} (hG : GG X (MP X a w ++ rest) s.heap H locs) {ls : Array Slot} (hl : lv_has ls 3 [(0, .ref (a 0)), (1, .int x1), (2, .int x2)]) : W p l e (RMw 5 0 0 115) s m args below meth c H locs 0 0 Q (F0 m 0 ls []) := by
  have hx := B.1
  have hb := B.2.1
  unfold fM_path at hf
  refine lv_aload_n hx hb dX4_path_0 rfl (lv_at hl 0 rfl) ?_
  refine lv_iload_n hx hb dX4_path_1 rfl (lv_at hl 1 rfl) ?_
  refine lv_i2l hx hb dX4_path_2 rfl ?_
  obtain ⟨r_1, e_2, hf⟩ := bo hf
  refine cM_isCell B hK hG.2.2 hG.1 e_2 ⟨Nat.le_of_ble_eq_true rfl, Nat.le_of_ble_eq_true rfl⟩ ⟨Nat.zero_le _, Nat.zero_le _⟩ hl.1 (Nat.le_of_ble_eq_true rfl) dX4_path_3 ?_
  refine lv_if_eq (tgt := 27) hx hb dX4_path_6 (by decide) (fun c_3 => ?_) (fun c_3 => ?_)
  · have hf := ifp c_3 hf
    exact wM_path_J27 B hK hf kr hG (lv_sub hl [0] rfl)
  · have hf := ifn c_3 hf
    refine lv_aload_n hx hb dX4_path_9 rfl (lv_at hl 0 rfl) ?_
    refine lv_iload_n hx hb dX4_path_10 rfl (lv_at hl 2 rfl) ?_
    refine lv_i2l hx hb dX4_path_11 rfl ?_
    obtain ⟨r_4, e_5, hf⟩ := bo hf
    refine cM_isCell B hK hG.2.2 hG.1 e_5 ⟨Nat.le_of_ble_eq_true rfl, Nat.le_of_ble_eq_true rfl⟩ ⟨Nat.zero_le _, Nat.zero_le _⟩ hl.1 (Nat.le_of_ble_eq_true rfl) dX4_path_12 ?_
    refine lv_if_eq (tgt := 27) hx hb dX4_path_15 (by decide) (fun c_6 => ?_) (fun c_6 => ?_)
    · have hf := ifp c_6 hf
      exact wM_path_J27 B hK hf kr hG (lv_sub hl [0] rfl)
    · have hf := ifn c_6 hf
      refine lv_aload_n hx hb dX4_path_18 rfl (lv_at hl 0 rfl) ?_
      refine lv_iload_n hx hb dX4_path_19 rfl (lv_at hl 1 rfl) ?_
      refine lv_iload_n hx hb dX4_path_20 rfl (lv_at hl 2 rfl) ?_
      obtain ⟨r_7, w_8, e_9, hf⟩ := b2s hf
      refine cM_pathOf B hK hG e_9 ⟨Nat.le_of_ble_eq_true rfl, Nat.le_of_ble_eq_true rfl⟩ ⟨Nat.zero_le _, Nat.zero_le _⟩ hl.1 (Nat.le_of_ble_eq_true rfl) dX4_path_21 (fun H locs hG => ?_)
      refine lv_goto (tgt := 33) hx hb dX4_path_24 (by decide) ?_
      exact kr _ _ (Option.some.inj hf).symm _ _ hG _ _ dX4_path_33

theorem tM_path (l : Launch) (X : CX) (a : Nat → Nat) (rest : va_W) (w w' : MW) (x1 : Int32) (x2 : Int32) (r : Int32) (hf : fM_path w x1 x2 = some (r, w')) : RW l yX4_path cX4_path 3 (some .int) 5 0 0 115 [.ref (a 0), .int x1, .int x2] X (MP X a w ++ rest) (MP X a w' ++ rest) (some (.int r)) := by
  refine RW.mk (by decide) (Nat.le_of_ble_eq_true rfl) ?_
  intro p e s m below meth c B hr hlk hK hG ls hl
  exact wM_path B hK hf (fun r w h H locs hG pc ls hd => by cases h; exact w_iretW B hr hlk hG hd) hG hl
end S_path

section S_found
variable {p : Program} {l : Launch} {e : Env} {R : Room} {s : State} {m : MethodId} {args : Array Value} {below : List Frame} {meth : Method} {c : Code} {H : Heap} {locs : List Loc} {cells slots : Nat} {Q : State → Prop} {cc : ByteArray} {nL pc : Nat} {ls : Array Slot} {st : List Value} {X : CX} {a : Nat → Nat} {w : MW} {rest : va_W}
noncomputable def fM_found_J85_L17 (w : MW) (x3 : Int32) (x4 : Int32) (x5 : Int32) : Option ((Int32 × Int32 × Int32 × MW) ⊕ (Int32 × Int32 × MW)) :=
  (some ((10 * x3) + x4)).bind fun x_1 =>
  (some (x4 + 1)).bind fun x_3 =>
  some (.inl (x_1, x5, x_3, w))

set_option maxHeartbeats 4000000 in
theorem wM_found_J85_L17 (B : CallFix p m c cX4_found 6 s args lw_all RX4) (hK : KK X s) {w : MW} {x3 : Int32} {x4 : Int32} {x5 : Int32} {res : (Int32 × Int32 × Int32 × MW) ⊕ (Int32 × Int32 × MW)} (hf : fM_found_J85_L17 w x3 x4 x5 = some res) (kc : ∀ (y1 : Int32) (y2 : Int32) (y4 : Int32) (w1 : MW), res = .inl (y1, y2, y4, w1) → ∀ (H : Heap) (locs : List Loc), GG X (MP X a w1 ++ rest) s.heap H locs → ∀ (ls : Array Slot), lv_has ls 6 [(0, .ref (a 0)), (1, .int y1), (2, .int y2), (3, .int x3), (4, .int y4)] → W p l e (RMw 5 0 0 115) s m args below meth c H locs 0 0 Q (F0 m 17 ls [])) (ke102 : ∀ (y1 : Int32) (y2 : Int32) (w1 : MW), res = .inr (y1, y2, w1) → ∀ (H : Heap) (locs : List Loc), GG X (MP X a w1 ++ rest) s.heap H locs → ∀ (ls : Array Slot), lv_has ls 6 [(0, .ref (a 0)), (1, .int y1), (2, .int y2), (3, .int x3)] → W p l e (RMw 5 0 0 115) s m args below meth c H locs 0 0 Q (F0 m 102 ls [])) {H : Heap} {locs : List Loc} (hG : GG X (MP X a w ++ rest) s.heap H locs) {ls : Array Slot} (hl : lv_has ls 6 [(0, .ref (a 0)), (3, .int x3), (4, .int x4), (5, .int x5)]) : W p l e (RMw 5 0 0 115) s m args below meth c H locs 0 0 Q (F0 m 85 ls []) := by
  have hx := B.1
  have hb := B.2.1
  unfold fM_found_J85_L17 at hf
  refine lv_iload hx hb dX4_found_85 (lv_at hl 3 rfl) ?_
  refine lv_istore_n (lv' := [(2, .int x5), (0, .ref (a 0)), (3, .int x3), (4, .int x4), (5, .int x5)]) hx hb dX4_found_87 rfl hl (by decide) rfl (fun ls hl => ?_)
  refine lv_bipush (v := 10) hx hb dX4_found_88 (by decide) ?_
  refine lv_iload_n hx hb dX4_found_90 rfl (lv_at hl 2 rfl) ?_
  refine lv_imul hx hb dX4_found_91 ?_
  refine lv_iload hx hb dX4_found_92 (lv_at hl 3 rfl) ?_
  refine lv_iadd hx hb dX4_found_94 ?_
  obtain ⟨x_1, e_2, hf⟩ := bo hf
  refine w_istore_n (lv' := [(1, .int x_1), (2, .int x5), (0, .ref (a 0)), (3, .int x3), (4, .int x4), (5, .int x5)]) e_2 hx hb dX4_found_95 rfl hl (by decide) rfl (fun ls hl => ?_)
  obtain ⟨x_3, e_4, hf⟩ := bo hf
  refine w_iinc (k := 4) (lv' := [(4, .int x_3), (1, .int x_1), (2, .int x5), (0, .ref (a 0)), (3, .int x3), (5, .int x5)]) e_4 hx hb dX4_found_96 hl rfl (by decide) rfl (fun ls hl => ?_)
  refine lv_goto (tgt := 17) hx hb dX4_found_99 (by decide) ?_
  exact kc _ _ _ _ (Option.some.inj hf).symm _ _ hG _ (lv_sub hl [3, 1, 2, 4, 0] rfl)

noncomputable def fM_found_L17 (w : MW) (x1 : Int32) (x2 : Int32) (x3 : Int32) (x4 : Int32) : Option ((Int32 × Int32 × Int32 × MW) ⊕ (Int32 × Int32 × MW)) :=
  if (w.1 7) ≤ x4 then
    some (.inr (x1, x2, w))
  else
    (fM_isLost w x3).bind fun r_2 =>
    if r_2 = 0 then
      (fM_isLost w x4).bind fun r_7 =>
      if r_7 = 0 then
        (some (x4 + 1)).bind fun x_24 =>
        some (.inl (x1, x2, x_24, w))
      else
        (rd (w.2.1 8) 4 x3).bind fun v_10 =>
        (rd (w.2.1 8) 4 x4).bind fun v_12 =>
        b2 (fM_pathOf w v_10 v_12) fun r_14 w_15 =>
        if r_14 = (-1) then
          (some (x4 + 1)).bind fun x_18 =>
          some (.inl (x1, x2, x_18, w_15))
        else
          if x1 = (-1) then
            fM_found_J85_L17 w_15 x3 x4 r_14
          else
            if r_14 < x2 then
              fM_found_J85_L17 w_15 x3 x4 r_14
            else
              (some (x4 + 1)).bind fun x_22 =>
              some (.inl (x1, x2, x_22, w_15))
    else
      (some (x4 + 1)).bind fun x_5 =>
      some (.inl (x1, x2, x_5, w))

set_option maxHeartbeats 4000000 in
theorem wM_found_L17 (B : CallFix p m c cX4_found 6 s args lw_all RX4) (hK : KK X s) {w : MW} {x1 : Int32} {x2 : Int32} {x3 : Int32} {x4 : Int32} {res : (Int32 × Int32 × Int32 × MW) ⊕ (Int32 × Int32 × MW)} (hf : fM_found_L17 w x1 x2 x3 x4 = some res) (kc : ∀ (y1 : Int32) (y2 : Int32) (y4 : Int32) (w1 : MW), res = .inl (y1, y2, y4, w1) → ∀ (H : Heap) (locs : List Loc), GG X (MP X a w1 ++ rest) s.heap H locs → ∀ (ls : Array Slot), lv_has ls 6 [(0, .ref (a 0)), (1, .int y1), (2, .int y2), (3, .int x3), (4, .int y4)] → W p l e (RMw 5 0 0 115) s m args below meth c H locs 0 0 Q (F0 m 17 ls [])) (ke102 : ∀ (y1 : Int32) (y2 : Int32) (w1 : MW), res = .inr (y1, y2, w1) → ∀ (H : Heap) (locs : List Loc), GG X (MP X a w1 ++ rest) s.heap H locs → ∀ (ls : Array Slot), lv_has ls 6 [(0, .ref (a 0)), (1, .int y1), (2, .int y2), (3, .int x3)] → W p l e (RMw 5 0 0 115) s m args below meth c H locs 0 0 Q (F0 m 102 ls [])) {H : Heap} {locs : List Loc} (hG : GG X (MP X a w ++ rest) s.heap H locs) {ls : Array Slot} (hl : lv_has ls 6 [(0, .ref (a 0)), (1, .int x1), (2, .int x2), (3, .int x3), (4, .int x4)]) : W p l e (RMw 5 0 0 115) s m args below meth c H locs 0 0 Q (F0 m 17 ls []) := by
  have hx := B.1
  have hb := B.2.1
  unfold fM_found_L17 at hf
  refine lv_iload hx hb dX4_found_17 (lv_at hl 4 rfl) ?_
  refine lv_aload_n hx hb dX4_found_19 rfl (lv_at hl 0 rfl) ?_
  refine mo_g7 B hK hG.1 dX4_found_20 ?_
  refine lv_icmp_ge (tgt := 102) hx hb dX4_found_23 (by decide) (fun c_1 => ?_) (fun c_1 => ?_)
  · have hf := ifp c_1 hf
    exact ke102 _ _ _ (Option.some.inj hf).symm _ _ hG _ (lv_sub hl [0, 1, 2, 3] rfl)
  · have hf := ifn c_1 hf
    refine lv_aload_n hx hb dX4_found_26 rfl (lv_at hl 0 rfl) ?_
    refine lv_iload_n hx hb dX4_found_27 rfl (lv_at hl 3 rfl) ?_
    obtain ⟨r_2, e_3, hf⟩ := bo hf
    refine cM_isLost B hK hG.2.2 hG.1 e_3 ⟨Nat.le_of_ble_eq_true rfl, Nat.le_of_ble_eq_true rfl⟩ ⟨Nat.zero_le _, Nat.zero_le _⟩ hl.1 (Nat.le_of_ble_eq_true rfl) dX4_found_28 ?_
    refine lv_if_ne (tgt := 96) hx hb dX4_found_31 (by decide) (fun c_4 => ?_) (fun c_4 => ?_)
    · have hf := ifn c_4 hf
      obtain ⟨x_5, e_6, hf⟩ := bo hf
      refine w_iinc (k := 4) (lv' := [(4, .int x_5), (0, .ref (a 0)), (1, .int x1), (2, .int x2), (3, .int x3)]) e_6 hx hb dX4_found_96 hl rfl (by decide) rfl (fun ls hl => ?_)
      refine lv_goto (tgt := 17) hx hb dX4_found_99 (by decide) ?_
      exact kc _ _ _ _ (Option.some.inj hf).symm _ _ hG _ (lv_sub hl [1, 2, 3, 4, 0] rfl)
    · have hf := ifp c_4 hf
      refine lv_aload_n hx hb dX4_found_34 rfl (lv_at hl 0 rfl) ?_
      refine lv_iload hx hb dX4_found_35 (lv_at hl 4 rfl) ?_
      obtain ⟨r_7, e_8, hf⟩ := bo hf
      refine cM_isLost B hK hG.2.2 hG.1 e_8 ⟨Nat.le_of_ble_eq_true rfl, Nat.le_of_ble_eq_true rfl⟩ ⟨Nat.zero_le _, Nat.zero_le _⟩ hl.1 (Nat.le_of_ble_eq_true rfl) dX4_found_37 ?_
      refine lv_if_ne (tgt := 46) hx hb dX4_found_40 (by decide) (fun c_9 => ?_) (fun c_9 => ?_)
      · have hf := ifn c_9 hf
        refine lv_aload_n hx hb dX4_found_46 rfl (lv_at hl 0 rfl) ?_
        refine lv_aload_n hx hb dX4_found_47 rfl (lv_at hl 0 rfl) ?_
        refine mo_g8 B hK hG.1 dX4_found_48 ?_
        refine lv_iload_n hx hb dX4_found_51 rfl (lv_at hl 3 rfl) ?_
        obtain ⟨v_10, e_11, hf⟩ := bo hf
        refine mo_ld8 B hK hG.1 e_11 dX4_found_52 ?_
        refine lv_aload_n hx hb dX4_found_53 rfl (lv_at hl 0 rfl) ?_
        refine mo_g8 B hK hG.1 dX4_found_54 ?_
        refine lv_iload hx hb dX4_found_57 (lv_at hl 4 rfl) ?_
        obtain ⟨v_12, e_13, hf⟩ := bo hf
        refine mo_ld8 B hK hG.1 e_13 dX4_found_59 ?_
        obtain ⟨r_14, w_15, e_16, hf⟩ := b2s hf
        refine cM_pathOf B hK hG e_16 ⟨Nat.le_of_ble_eq_true rfl, Nat.le_of_ble_eq_true rfl⟩ ⟨Nat.zero_le _, Nat.zero_le _⟩ hl.1 (Nat.le_of_ble_eq_true rfl) dX4_found_60 (fun H locs hG => ?_)
        refine lv_istore (lv' := [(5, .int r_14), (0, .ref (a 0)), (1, .int x1), (2, .int x2), (3, .int x3), (4, .int x4)]) hx hb dX4_found_63 hl (by decide) rfl (fun ls hl => ?_)
        refine lv_iload hx hb dX4_found_65 (lv_at hl 0 rfl) ?_
        refine lv_iconst (v := (-1)) hx hb dX4_found_67 (by decide) ?_
        refine lv_icmp_eq (tgt := 96) hx hb dX4_found_68 (by decide) (fun c_17 => ?_) (fun c_17 => ?_)
        · have hf := ifp c_17 hf
          obtain ⟨x_18, e_19, hf⟩ := bo hf
          refine w_iinc (k := 5) (lv' := [(4, .int x_18), (5, .int r_14), (0, .ref (a 0)), (1, .int x1), (2, .int x2), (3, .int x3)]) e_19 hx hb dX4_found_96 hl rfl (by decide) rfl (fun ls hl => ?_)
          refine lv_goto (tgt := 17) hx hb dX4_found_99 (by decide) ?_
          exact kc _ _ _ _ (Option.some.inj hf).symm _ _ hG _ (lv_sub hl [2, 3, 4, 5, 0] rfl)
        · have hf := ifn c_17 hf
          refine lv_iload_n hx hb dX4_found_71 rfl (lv_at hl 2 rfl) ?_
          refine lv_iconst (v := (-1)) hx hb dX4_found_72 (by decide) ?_
          refine lv_icmp_eq (tgt := 85) hx hb dX4_found_73 (by decide) (fun c_20 => ?_) (fun c_20 => ?_)
          · have hf := ifp c_20 hf
            exact wM_found_J85_L17 B hK hf kc ke102 hG (lv_sub hl [1, 4, 5, 0] rfl)
          · have hf := ifn c_20 hf
            refine lv_iload hx hb dX4_found_76 (lv_at hl 0 rfl) ?_
            refine lv_iload_n hx hb dX4_found_78 rfl (lv_at hl 3 rfl) ?_
            refine lv_icmp_lt (tgt := 85) hx hb dX4_found_79 (by decide) (fun c_21 => ?_) (fun c_21 => ?_)
            · have hf := ifp c_21 hf
              exact wM_found_J85_L17 B hK hf kc ke102 hG (lv_sub hl [1, 4, 5, 0] rfl)
            · have hf := ifn c_21 hf
              refine lv_goto (tgt := 96) hx hb dX4_found_82 (by decide) ?_
              obtain ⟨x_22, e_23, hf⟩ := bo hf
              refine w_iinc (k := 5) (lv' := [(4, .int x_22), (5, .int r_14), (0, .ref (a 0)), (1, .int x1), (2, .int x2), (3, .int x3)]) e_23 hx hb dX4_found_96 hl rfl (by decide) rfl (fun ls hl => ?_)
              refine lv_goto (tgt := 17) hx hb dX4_found_99 (by decide) ?_
              exact kc _ _ _ _ (Option.some.inj hf).symm _ _ hG _ (lv_sub hl [2, 3, 4, 5, 0] rfl)
      · have hf := ifp c_9 hf
        refine lv_goto (tgt := 96) hx hb dX4_found_43 (by decide) ?_
        obtain ⟨x_24, e_25, hf⟩ := bo hf
        refine w_iinc (k := 4) (lv' := [(4, .int x_24), (0, .ref (a 0)), (1, .int x1), (2, .int x2), (3, .int x3)]) e_25 hx hb dX4_found_96 hl rfl (by decide) rfl (fun ls hl => ?_)
        refine lv_goto (tgt := 17) hx hb dX4_found_99 (by decide) ?_
        exact kc _ _ _ _ (Option.some.inj hf).symm _ _ hG _ (lv_sub hl [1, 2, 3, 4, 0] rfl)

set_option maxHeartbeats 4000000 in
theorem vM_found_L17 (B : CallFix p m c cX4_found 6 s args lw_all RX4) (hK : KK X s) {w : MW} {x1 : Int32} {x2 : Int32} {x3 : Int32} {x4 : Int32} {res : Int32 × Int32 × MW} (hf : lp (fun q : Int32 × Int32 × Int32 × MW => fM_found_L17 q.2.2.2 q.1 q.2.1 x3 q.2.2.1) (x1, x2, x4, w) = some res) (ke102 : ∀ (y1 : Int32) (y2 : Int32) (w1 : MW), res = (y1, y2, w1) → ∀ (H : Heap) (locs : List Loc), GG X (MP X a w1 ++ rest) s.heap H locs → ∀ (ls : Array Slot), lv_has ls 6 [(0, .ref (a 0)), (1, .int y1), (2, .int y2), (3, .int x3)] → W p l e (RMw 5 0 0 115) s m args below meth c H locs 0 0 Q (F0 m 102 ls [])) {H : Heap} {locs : List Loc} (hG : GG X (MP X a w ++ rest) s.heap H locs) {ls : Array Slot} (hl : lv_has ls 6 [(0, .ref (a 0)), (1, .int x1), (2, .int x2), (3, .int x3), (4, .int x4)]) : W p l e (RMw 5 0 0 115) s m args below meth c H locs 0 0 Q (F0 m 17 ls []) := by
  refine lp_ind (r := res) (P := fun q : Int32 × Int32 × Int32 × MW => ∀ (H : Heap) (locs : List Loc) (ls : Array Slot), GG X (MP X a q.2.2.2 ++ rest) s.heap H locs → lv_has ls 6 [(0, .ref (a 0)), (1, .int q.1), (2, .int q.2.1), (3, .int x3), (4, .int q.2.2.1)] → W p l e (RMw 5 0 0 115) s m args below meth c H locs 0 0 Q (F0 m 17 ls [])) ?_ ?_ _ hf _ _ _ hG hl
  · intro q hb H locs ls hG hl
    exact wM_found_L17 B hK hb (fun _ _ _ _ h => by cases h) (fun z0 z1 z2 h => ke102 z0 z1 z2 (Sum.inr.inj h)) hG hl
  · intro q q2 hb ih H locs ls hG hl
    exact wM_found_L17 B hK hb (fun z0 z1 z2 z3 h => by cases h; exact fun H locs hG ls hl => ih H locs ls hG hl) (fun _ _ _ h => by cases h) hG hl

noncomputable def fM_found_L6 (w : MW) (x1 : Int32) (x2 : Int32) (x3 : Int32) : Option ((Int32 × Int32 × Int32 × MW) ⊕ (Int32 × MW)) :=
  if (w.1 7) ≤ x3 then
    some (.inr (x1, w))
  else
    (lp (fun q : Int32 × Int32 × Int32 × MW => fM_found_L17 q.2.2.2 q.1 q.2.1 x3 q.2.2.1) (x1, x2, 0, w)).bind (
      fun q_7 => (fun (y_2 : Int32) (y_3 : Int32) (w_4 : MW) =>
        (some (x3 + 1)).bind fun x_5 =>
        some (.inl (y_2, y_3, x_5, w_4))
      ) q_7.1 q_7.2.1 q_7.2.2
    )

set_option maxHeartbeats 4000000 in
theorem wM_found_L6 (B : CallFix p m c cX4_found 6 s args lw_all RX4) (hK : KK X s) {w : MW} {x1 : Int32} {x2 : Int32} {x3 : Int32} {res : (Int32 × Int32 × Int32 × MW) ⊕ (Int32 × MW)} (hf : fM_found_L6 w x1 x2 x3 = some res) (kc : ∀ (y1 : Int32) (y2 : Int32) (y3 : Int32) (w1 : MW), res = .inl (y1, y2, y3, w1) → ∀ (H : Heap) (locs : List Loc), GG X (MP X a w1 ++ rest) s.heap H locs → ∀ (ls : Array Slot), lv_has ls 6 [(0, .ref (a 0)), (1, .int y1), (2, .int y2), (3, .int y3)] → W p l e (RMw 5 0 0 115) s m args below meth c H locs 0 0 Q (F0 m 6 ls [])) (ke108 : ∀ (y1 : Int32) (w1 : MW), res = .inr (y1, w1) → ∀ (H : Heap) (locs : List Loc), GG X (MP X a w1 ++ rest) s.heap H locs → ∀ (ls : Array Slot), lv_has ls 6 [(1, .int y1)] → W p l e (RMw 5 0 0 115) s m args below meth c H locs 0 0 Q (F0 m 108 ls [])) {H : Heap} {locs : List Loc} (hG : GG X (MP X a w ++ rest) s.heap H locs) {ls : Array Slot} (hl : lv_has ls 6 [(0, .ref (a 0)), (1, .int x1), (2, .int x2), (3, .int x3)]) : W p l e (RMw 5 0 0 115) s m args below meth c H locs 0 0 Q (F0 m 6 ls []) := by
  have hx := B.1
  have hb := B.2.1
  unfold fM_found_L6 at hf
  refine lv_iload_n hx hb dX4_found_6 rfl (lv_at hl 3 rfl) ?_
  refine lv_aload_n hx hb dX4_found_7 rfl (lv_at hl 0 rfl) ?_
  refine mo_g7 B hK hG.1 dX4_found_8 ?_
  refine lv_icmp_ge (tgt := 108) hx hb dX4_found_11 (by decide) (fun c_1 => ?_) (fun c_1 => ?_)
  · have hf := ifp c_1 hf
    exact ke108 _ _ (Option.some.inj hf).symm _ _ hG _ (lv_sub hl [1] rfl)
  · have hf := ifn c_1 hf
    refine lv_iconst (v := 0) hx hb dX4_found_14 (by decide) ?_
    refine lv_istore (lv' := [(4, .int 0), (0, .ref (a 0)), (1, .int x1), (2, .int x2), (3, .int x3)]) hx hb dX4_found_15 hl (by decide) rfl (fun ls hl => ?_)
    obtain ⟨⟨y_2, y_3, w_4⟩, e_8, hf⟩ := bo hf
    try dsimp only at hf
    refine vM_found_L17 B hK e_8 ?_ hG (lv_sub hl [1, 2, 3, 4, 0] rfl)
    intro z0 z1 z2 hz
    cases hz
    intro H locs hG ls hl
    obtain ⟨x_5, e_6, hf⟩ := bo hf
    refine w_iinc (k := 3) (lv' := [(3, .int x_5), (0, .ref (a 0)), (1, .int y_2), (2, .int y_3)]) e_6 hx hb dX4_found_102 hl rfl (by decide) rfl (fun ls hl => ?_)
    refine lv_goto (tgt := 6) hx hb dX4_found_105 (by decide) ?_
    exact kc _ _ _ _ (Option.some.inj hf).symm _ _ hG _ (lv_sub hl [1, 2, 3, 0] rfl)

set_option maxHeartbeats 4000000 in
theorem vM_found_L6 (B : CallFix p m c cX4_found 6 s args lw_all RX4) (hK : KK X s) {w : MW} {x1 : Int32} {x2 : Int32} {x3 : Int32} {res : Int32 × MW} (hf : lp (fun q : Int32 × Int32 × Int32 × MW => fM_found_L6 q.2.2.2 q.1 q.2.1 q.2.2.1) (x1, x2, x3, w) = some res) (ke108 : ∀ (y1 : Int32) (w1 : MW), res = (y1, w1) → ∀ (H : Heap) (locs : List Loc), GG X (MP X a w1 ++ rest) s.heap H locs → ∀ (ls : Array Slot), lv_has ls 6 [(1, .int y1)] → W p l e (RMw 5 0 0 115) s m args below meth c H locs 0 0 Q (F0 m 108 ls [])) {H : Heap} {locs : List Loc} (hG : GG X (MP X a w ++ rest) s.heap H locs) {ls : Array Slot} (hl : lv_has ls 6 [(0, .ref (a 0)), (1, .int x1), (2, .int x2), (3, .int x3)]) : W p l e (RMw 5 0 0 115) s m args below meth c H locs 0 0 Q (F0 m 6 ls []) := by
  refine lp_ind (r := res) (P := fun q : Int32 × Int32 × Int32 × MW => ∀ (H : Heap) (locs : List Loc) (ls : Array Slot), GG X (MP X a q.2.2.2 ++ rest) s.heap H locs → lv_has ls 6 [(0, .ref (a 0)), (1, .int q.1), (2, .int q.2.1), (3, .int q.2.2.1)] → W p l e (RMw 5 0 0 115) s m args below meth c H locs 0 0 Q (F0 m 6 ls [])) ?_ ?_ _ hf _ _ _ hG hl
  · intro q hb H locs ls hG hl
    exact wM_found_L6 B hK hb (fun _ _ _ _ h => by cases h) (fun z0 z1 h => ke108 z0 z1 (Sum.inr.inj h)) hG hl
  · intro q q2 hb ih H locs ls hG hl
    exact wM_found_L6 B hK hb (fun z0 z1 z2 z3 h => by cases h; exact fun H locs hG ls hl => ih H locs ls hG hl) (fun _ _ h => by cases h) hG hl

noncomputable def fM_found (w : MW)  : Option (Int32 × MW) :=
  (lp (fun q : Int32 × Int32 × Int32 × MW => fM_found_L6 q.2.2.2 q.1 q.2.1 q.2.2.1) ((-1), 0, 0, w)).bind (
    fun q_3 => (fun (y_1 : Int32) (w_2 : MW) =>
      some (y_1, w_2)
    ) q_3.1 q_3.2
  )

set_option maxHeartbeats 4000000 in
theorem wM_found (B : CallFix p m c cX4_found 6 s args lw_all RX4) (hK : KK X s) {w : MW}  {res : Int32 × MW} (hf : fM_found w  = some res) (kr : ∀ (r : Int32) (w1 : MW), res = (r, w1) → ∀ (H : Heap) (locs : List Loc), GG X (MP X a w1 ++ rest) s.heap H locs → ∀ (pc : Nat) (ls : Array Slot), decode cX4_found pc = .ok (.ireturn, 1) → W p l e (RMw 5 0 0 115) s m args below meth c H locs 0 0 Q (F0 m pc ls [.int r])) {H : Heap} {locs : List Loc} (hG : GG X (MP X a w ++ rest) s.heap H locs) {ls : Array Slot} (hl : lv_has ls 6 [(0, .ref (a 0))]) : W p l e (RMw 5 0 0 115) s m args below meth c H locs 0 0 Q (F0 m 0 ls []) := by
  have hx := B.1
  have hb := B.2.1
  unfold fM_found at hf
  refine lv_iconst (v := (-1)) hx hb dX4_found_0 (by decide) ?_
  refine lv_istore_n (lv' := [(1, .int (-1)), (0, .ref (a 0))]) hx hb dX4_found_1 rfl hl (by decide) rfl (fun ls hl => ?_)
  refine lv_iconst (v := 0) hx hb dX4_found_2 (by decide) ?_
  refine lv_istore_n (lv' := [(2, .int 0), (1, .int (-1)), (0, .ref (a 0))]) hx hb dX4_found_3 rfl hl (by decide) rfl (fun ls hl => ?_)
  refine lv_iconst (v := 0) hx hb dX4_found_4 (by decide) ?_
  refine lv_istore_n (lv' := [(3, .int 0), (2, .int 0), (1, .int (-1)), (0, .ref (a 0))]) hx hb dX4_found_5 rfl hl (by decide) rfl (fun ls hl => ?_)
  obtain ⟨⟨y_1, w_2⟩, e_4, hf⟩ := bo hf
  try dsimp only at hf
  refine vM_found_L6 B hK e_4 ?_ hG (lv_sub hl [3, 2, 1, 0] rfl)
  intro z0 z1 hz
  cases hz
  intro H locs hG ls hl
  refine lv_iload_n hx hb dX4_found_108 rfl (lv_at hl 0 rfl) ?_
  exact kr _ _ (Option.some.inj hf).symm _ _ hG _ _ dX4_found_109

theorem tM_found (l : Launch) (X : CX) (a : Nat → Nat) (rest : va_W) (w w' : MW)  (r : Int32) (hf : fM_found w  = some (r, w')) : RW l yX4_found cX4_found 6 (some .int) 5 0 0 115 [.ref (a 0)] X (MP X a w ++ rest) (MP X a w' ++ rest) (some (.int r)) := by
  refine RW.mk (by decide) (Nat.le_of_ble_eq_true rfl) ?_
  intro p e s m below meth c B hr hlk hK hG ls hl
  exact wM_found B hK hf (fun r w h H locs hG pc ls hd => by cases h; exact w_iretW B hr hlk hG hd) hG hl
end S_found

section S_meet
variable {p : Program} {l : Launch} {e : Env} {R : Room} {s : State} {m : MethodId} {args : Array Value} {below : List Frame} {meth : Method} {c : Code} {H : Heap} {locs : List Loc} {cells slots : Nat} {Q : State → Prop} {cc : ByteArray} {nL pc : Nat} {ls : Array Slot} {st : List Value} {X : CX} {a : Nat → Nat} {w : MW} {rest : va_W}
noncomputable def fM_meet_J74_L38 (w : MW) (x1 : Int32) (x2 : Int32) (x3 : Int32) (x5 : Int32) : Option ((Int32 × Int32 × MW) ⊕ (Int32 × MW)) :=
  (some (x5 + 1)).bind fun x_1 =>
  some (.inl (99, x_1, w))

set_option maxHeartbeats 4000000 in
theorem wM_meet_J74_L38 (B : CallFix p m c cX4_meet 7 s args lw_all RX4) (hK : KK X s) {w : MW} {x1 : Int32} {x2 : Int32} {x3 : Int32} {x5 : Int32} {res : (Int32 × Int32 × MW) ⊕ (Int32 × MW)} (hf : fM_meet_J74_L38 w x1 x2 x3 x5 = some res) (kc : ∀ (y4 : Int32) (y5 : Int32) (w1 : MW), res = .inl (y4, y5, w1) → ∀ (H : Heap) (locs : List Loc), GG X (MP X a w1 ++ rest) s.heap H locs → ∀ (ls : Array Slot), lv_has ls 7 [(0, .ref (a 0)), (1, .int x1), (2, .int x2), (3, .int x3), (4, .int y4), (5, .int y5)] → W p l e (RMw 5 0 0 115) s m args below meth c H locs 0 0 Q (F0 m 38 ls [])) (ke94 : ∀ (y4 : Int32) (w1 : MW), res = .inr (y4, w1) → ∀ (H : Heap) (locs : List Loc), GG X (MP X a w1 ++ rest) s.heap H locs → ∀ (ls : Array Slot), lv_has ls 7 [(0, .ref (a 0)), (1, .int x1), (2, .int x2), (3, .int x3), (4, .int y4)] → W p l e (RMw 5 0 0 115) s m args below meth c H locs 0 0 Q (F0 m 94 ls [])) {H : Heap} {locs : List Loc} (hG : GG X (MP X a w ++ rest) s.heap H locs) {ls : Array Slot} (hl : lv_has ls 7 [(0, .ref (a 0)), (1, .int x1), (2, .int x2), (3, .int x3), (5, .int x5)]) : W p l e (RMw 5 0 0 115) s m args below meth c H locs 0 0 Q (F0 m 74 ls []) := by
  have hx := B.1
  have hb := B.2.1
  unfold fM_meet_J74_L38 at hf
  refine lv_bipush (v := 99) hx hb dX4_meet_74 (by decide) ?_
  refine lv_goto (tgt := 86) hx hb dX4_meet_76 (by decide) ?_
  refine lv_istore (lv' := [(4, .int 99), (0, .ref (a 0)), (1, .int x1), (2, .int x2), (3, .int x3), (5, .int x5)]) hx hb dX4_meet_86 hl (by decide) rfl (fun ls hl => ?_)
  obtain ⟨x_1, e_2, hf⟩ := bo hf
  refine w_iinc (k := 5) (lv' := [(5, .int x_1), (4, .int 99), (0, .ref (a 0)), (1, .int x1), (2, .int x2), (3, .int x3)]) e_2 hx hb dX4_meet_88 hl rfl (by decide) rfl (fun ls hl => ?_)
  refine lv_goto (tgt := 38) hx hb dX4_meet_91 (by decide) ?_
  exact kc _ _ _ (Option.some.inj hf).symm _ _ hG _ (lv_sub hl [2, 3, 4, 5, 1, 0] rfl)

noncomputable def fM_meet_L38 (w : MW) (x1 : Int32) (x2 : Int32) (x3 : Int32) (x4 : Int32) (x5 : Int32) : Option ((Int32 × Int32 × MW) ⊕ (Int32 × MW)) :=
  if (w.1 7) ≤ x5 then
    some (.inr (x4, w))
  else
    (rd (w.2.1 8) 4 x5).bind fun v_2 =>
    b2 (fM_pathOf w v_2 x3) fun r_4 w_5 =>
    if r_4 = (-1) then
      fM_meet_J74_L38 w_5 x1 x2 x3 x5
    else
      if x4 = 99 then
        fM_meet_J74_L38 w_5 x1 x2 x3 x5
      else
        (some (imax x4 r_4)).bind fun x_9 =>
        (some (x5 + 1)).bind fun x_11 =>
        some (.inl (x_9, x_11, w_5))

set_option maxHeartbeats 4000000 in
theorem wM_meet_L38 (B : CallFix p m c cX4_meet 7 s args lw_all RX4) (hK : KK X s) {w : MW} {x1 : Int32} {x2 : Int32} {x3 : Int32} {x4 : Int32} {x5 : Int32} {res : (Int32 × Int32 × MW) ⊕ (Int32 × MW)} (hf : fM_meet_L38 w x1 x2 x3 x4 x5 = some res) (kc : ∀ (y4 : Int32) (y5 : Int32) (w1 : MW), res = .inl (y4, y5, w1) → ∀ (H : Heap) (locs : List Loc), GG X (MP X a w1 ++ rest) s.heap H locs → ∀ (ls : Array Slot), lv_has ls 7 [(0, .ref (a 0)), (1, .int x1), (2, .int x2), (3, .int x3), (4, .int y4), (5, .int y5)] → W p l e (RMw 5 0 0 115) s m args below meth c H locs 0 0 Q (F0 m 38 ls [])) (ke94 : ∀ (y4 : Int32) (w1 : MW), res = .inr (y4, w1) → ∀ (H : Heap) (locs : List Loc), GG X (MP X a w1 ++ rest) s.heap H locs → ∀ (ls : Array Slot), lv_has ls 7 [(0, .ref (a 0)), (1, .int x1), (2, .int x2), (3, .int x3), (4, .int y4)] → W p l e (RMw 5 0 0 115) s m args below meth c H locs 0 0 Q (F0 m 94 ls [])) {H : Heap} {locs : List Loc} (hG : GG X (MP X a w ++ rest) s.heap H locs) {ls : Array Slot} (hl : lv_has ls 7 [(0, .ref (a 0)), (1, .int x1), (2, .int x2), (3, .int x3), (4, .int x4), (5, .int x5)]) : W p l e (RMw 5 0 0 115) s m args below meth c H locs 0 0 Q (F0 m 38 ls []) := by
  have hx := B.1
  have hb := B.2.1
  unfold fM_meet_L38 at hf
  refine lv_iload hx hb dX4_meet_38 (lv_at hl 5 rfl) ?_
  refine lv_aload_n hx hb dX4_meet_40 rfl (lv_at hl 0 rfl) ?_
  refine mo_g7 B hK hG.1 dX4_meet_41 ?_
  refine lv_icmp_ge (tgt := 94) hx hb dX4_meet_44 (by decide) (fun c_1 => ?_) (fun c_1 => ?_)
  · have hf := ifp c_1 hf
    exact ke94 _ _ (Option.some.inj hf).symm _ _ hG _ (lv_sub hl [0, 1, 2, 3, 4] rfl)
  · have hf := ifn c_1 hf
    refine lv_aload_n hx hb dX4_meet_47 rfl (lv_at hl 0 rfl) ?_
    refine lv_aload_n hx hb dX4_meet_48 rfl (lv_at hl 0 rfl) ?_
    refine mo_g8 B hK hG.1 dX4_meet_49 ?_
    refine lv_iload hx hb dX4_meet_52 (lv_at hl 5 rfl) ?_
    obtain ⟨v_2, e_3, hf⟩ := bo hf
    refine mo_ld8 B hK hG.1 e_3 dX4_meet_54 ?_
    refine lv_iload_n hx hb dX4_meet_55 rfl (lv_at hl 3 rfl) ?_
    obtain ⟨r_4, w_5, e_6, hf⟩ := b2s hf
    refine cM_pathOf B hK hG e_6 ⟨Nat.le_of_ble_eq_true rfl, Nat.le_of_ble_eq_true rfl⟩ ⟨Nat.zero_le _, Nat.zero_le _⟩ hl.1 (Nat.le_of_ble_eq_true rfl) dX4_meet_56 (fun H locs hG => ?_)
    refine lv_istore (lv' := [(6, .int r_4), (0, .ref (a 0)), (1, .int x1), (2, .int x2), (3, .int x3), (4, .int x4), (5, .int x5)]) hx hb dX4_meet_59 hl (by decide) rfl (fun ls hl => ?_)
    refine lv_iload hx hb dX4_meet_61 (lv_at hl 0 rfl) ?_
    refine lv_iconst (v := (-1)) hx hb dX4_meet_63 (by decide) ?_
    refine lv_icmp_eq (tgt := 74) hx hb dX4_meet_64 (by decide) (fun c_7 => ?_) (fun c_7 => ?_)
    · have hf := ifp c_7 hf
      exact wM_meet_J74_L38 B hK hf kc ke94 hG (lv_sub hl [1, 2, 3, 4, 6] rfl)
    · have hf := ifn c_7 hf
      refine lv_iload hx hb dX4_meet_67 (lv_at hl 5 rfl) ?_
      refine lv_bipush (v := 99) hx hb dX4_meet_69 (by decide) ?_
      refine lv_icmp_ne (tgt := 79) hx hb dX4_meet_71 (by decide) (fun c_8 => ?_) (fun c_8 => ?_)
      · have hf := ifn c_8 hf
        refine lv_iload hx hb dX4_meet_79 (lv_at hl 5 rfl) ?_
        refine lv_iload hx hb dX4_meet_81 (lv_at hl 0 rfl) ?_
        refine w_max B hl.1 q1774 q813 q104 q814 (Nat.le_of_ble_eq_true rfl) (Nat.le_of_ble_eq_true rfl) (Nat.le_of_ble_eq_true rfl) (Nat.zero_le _) (Nat.zero_le _) dX4_meet_83 ?_
        obtain ⟨x_9, e_10, hf⟩ := bo hf
        refine w_istore (lv' := [(4, .int x_9), (6, .int r_4), (0, .ref (a 0)), (1, .int x1), (2, .int x2), (3, .int x3), (5, .int x5)]) e_10 hx hb dX4_meet_86 hl (by decide) rfl (fun ls hl => ?_)
        obtain ⟨x_11, e_12, hf⟩ := bo hf
        refine w_iinc (k := 6) (lv' := [(5, .int x_11), (4, .int x_9), (6, .int r_4), (0, .ref (a 0)), (1, .int x1), (2, .int x2), (3, .int x3)]) e_12 hx hb dX4_meet_88 hl rfl (by decide) rfl (fun ls hl => ?_)
        refine lv_goto (tgt := 38) hx hb dX4_meet_91 (by decide) ?_
        exact kc _ _ _ (Option.some.inj hf).symm _ _ hG _ (lv_sub hl [3, 4, 5, 6, 1, 0] rfl)
      · have hf := ifp c_8 hf
        exact wM_meet_J74_L38 B hK hf kc ke94 hG (lv_sub hl [1, 2, 3, 4, 6] rfl)

set_option maxHeartbeats 4000000 in
theorem vM_meet_L38 (B : CallFix p m c cX4_meet 7 s args lw_all RX4) (hK : KK X s) {w : MW} {x1 : Int32} {x2 : Int32} {x3 : Int32} {x4 : Int32} {x5 : Int32} {res : Int32 × MW} (hf : lp (fun q : Int32 × Int32 × MW => fM_meet_L38 q.2.2 x1 x2 x3 q.1 q.2.1) (x4, x5, w) = some res) (ke94 : ∀ (y4 : Int32) (w1 : MW), res = (y4, w1) → ∀ (H : Heap) (locs : List Loc), GG X (MP X a w1 ++ rest) s.heap H locs → ∀ (ls : Array Slot), lv_has ls 7 [(0, .ref (a 0)), (1, .int x1), (2, .int x2), (3, .int x3), (4, .int y4)] → W p l e (RMw 5 0 0 115) s m args below meth c H locs 0 0 Q (F0 m 94 ls [])) {H : Heap} {locs : List Loc} (hG : GG X (MP X a w ++ rest) s.heap H locs) {ls : Array Slot} (hl : lv_has ls 7 [(0, .ref (a 0)), (1, .int x1), (2, .int x2), (3, .int x3), (4, .int x4), (5, .int x5)]) : W p l e (RMw 5 0 0 115) s m args below meth c H locs 0 0 Q (F0 m 38 ls []) := by
  refine lp_ind (r := res) (P := fun q : Int32 × Int32 × MW => ∀ (H : Heap) (locs : List Loc) (ls : Array Slot), GG X (MP X a q.2.2 ++ rest) s.heap H locs → lv_has ls 7 [(0, .ref (a 0)), (1, .int x1), (2, .int x2), (3, .int x3), (4, .int q.1), (5, .int q.2.1)] → W p l e (RMw 5 0 0 115) s m args below meth c H locs 0 0 Q (F0 m 38 ls [])) ?_ ?_ _ hf _ _ _ hG hl
  · intro q hb H locs ls hG hl
    exact wM_meet_L38 B hK hb (fun _ _ _ h => by cases h) (fun z0 z1 h => ke94 z0 z1 (Sum.inr.inj h)) hG hl
  · intro q q2 hb ih H locs ls hG hl
    exact wM_meet_L38 B hK hb (fun z0 z1 z2 h => by cases h; exact fun H locs hG ls hl => ih H locs ls hG hl) (fun _ _ h => by cases h) hG hl

noncomputable def fM_meet_J115_L15 (w : MW) (x3 : Int32) (x4 : Int32) : Option ((Int32 × Int32 × Int32 × MW) ⊕ (Int32 × MW)) :=
  (some (x3 + 1)).bind fun x_1 =>
  some (.inl (x3, x4, x_1, w))

set_option maxHeartbeats 4000000 in
theorem wM_meet_J115_L15 (B : CallFix p m c cX4_meet 7 s args lw_all RX4) (hK : KK X s) {w : MW} {x3 : Int32} {x4 : Int32} {res : (Int32 × Int32 × Int32 × MW) ⊕ (Int32 × MW)} (hf : fM_meet_J115_L15 w x3 x4 = some res) (kc : ∀ (y1 : Int32) (y2 : Int32) (y3 : Int32) (w1 : MW), res = .inl (y1, y2, y3, w1) → ∀ (H : Heap) (locs : List Loc), GG X (MP X a w1 ++ rest) s.heap H locs → ∀ (ls : Array Slot), lv_has ls 7 [(0, .ref (a 0)), (1, .int y1), (2, .int y2), (3, .int y3)] → W p l e (RMw 5 0 0 115) s m args below meth c H locs 0 0 Q (F0 m 15 ls [])) (ke126 : ∀ (y1 : Int32) (w1 : MW), res = .inr (y1, w1) → ∀ (H : Heap) (locs : List Loc), GG X (MP X a w1 ++ rest) s.heap H locs → ∀ (ls : Array Slot), lv_has ls 7 [(1, .int y1)] → W p l e (RMw 5 0 0 115) s m args below meth c H locs 0 0 Q (F0 m 126 ls [])) {H : Heap} {locs : List Loc} (hG : GG X (MP X a w ++ rest) s.heap H locs) {ls : Array Slot} (hl : lv_has ls 7 [(0, .ref (a 0)), (3, .int x3), (4, .int x4)]) : W p l e (RMw 5 0 0 115) s m args below meth c H locs 0 0 Q (F0 m 115 ls []) := by
  have hx := B.1
  have hb := B.2.1
  unfold fM_meet_J115_L15 at hf
  refine lv_iload hx hb dX4_meet_115 (lv_at hl 2 rfl) ?_
  refine lv_istore_n (lv' := [(2, .int x4), (0, .ref (a 0)), (3, .int x3), (4, .int x4)]) hx hb dX4_meet_117 rfl hl (by decide) rfl (fun ls hl => ?_)
  refine lv_iload_n hx hb dX4_meet_118 rfl (lv_at hl 2 rfl) ?_
  refine lv_istore_n (lv' := [(1, .int x3), (2, .int x4), (0, .ref (a 0)), (3, .int x3), (4, .int x4)]) hx hb dX4_meet_119 rfl hl (by decide) rfl (fun ls hl => ?_)
  obtain ⟨x_1, e_2, hf⟩ := bo hf
  refine w_iinc (k := 3) (lv' := [(3, .int x_1), (1, .int x3), (2, .int x4), (0, .ref (a 0)), (4, .int x4)]) e_2 hx hb dX4_meet_120 hl rfl (by decide) rfl (fun ls hl => ?_)
  refine lv_goto (tgt := 15) hx hb dX4_meet_123 (by decide) ?_
  exact kc _ _ _ _ (Option.some.inj hf).symm _ _ hG _ (lv_sub hl [3, 1, 2, 0] rfl)

noncomputable def fM_meet_L15 (w : MW) (x1 : Int32) (x2 : Int32) (x3 : Int32) : Option ((Int32 × Int32 × Int32 × MW) ⊕ (Int32 × MW)) :=
  if 67 ≤ x3 then
    some (.inr (x1, w))
  else
    (fM_isDry w x3).bind fun r_2 =>
    if r_2 = 0 then
      (some (x3 + 1)).bind fun x_16 =>
      some (.inl (x1, x2, x_16, w))
    else
      (lp (fun q : Int32 × Int32 × MW => fM_meet_L38 q.2.2 x1 x2 x3 q.1 q.2.1) (0, 0, w)).bind (
        fun q_14 => (fun (y_5 : Int32) (w_6 : MW) =>
          if y_5 = 99 then
            (some (x3 + 1)).bind fun x_8 =>
            some (.inl (x1, x2, x_8, w_6))
          else
            if x1 = (-1) then
              fM_meet_J115_L15 w_6 x3 y_5
            else
              if y_5 < x2 then
                fM_meet_J115_L15 w_6 x3 y_5
              else
                (some (x3 + 1)).bind fun x_12 =>
                some (.inl (x1, x2, x_12, w_6))
        ) q_14.1 q_14.2
      )

set_option maxHeartbeats 4000000 in
theorem wM_meet_L15 (B : CallFix p m c cX4_meet 7 s args lw_all RX4) (hK : KK X s) {w : MW} {x1 : Int32} {x2 : Int32} {x3 : Int32} {res : (Int32 × Int32 × Int32 × MW) ⊕ (Int32 × MW)} (hf : fM_meet_L15 w x1 x2 x3 = some res) (kc : ∀ (y1 : Int32) (y2 : Int32) (y3 : Int32) (w1 : MW), res = .inl (y1, y2, y3, w1) → ∀ (H : Heap) (locs : List Loc), GG X (MP X a w1 ++ rest) s.heap H locs → ∀ (ls : Array Slot), lv_has ls 7 [(0, .ref (a 0)), (1, .int y1), (2, .int y2), (3, .int y3)] → W p l e (RMw 5 0 0 115) s m args below meth c H locs 0 0 Q (F0 m 15 ls [])) (ke126 : ∀ (y1 : Int32) (w1 : MW), res = .inr (y1, w1) → ∀ (H : Heap) (locs : List Loc), GG X (MP X a w1 ++ rest) s.heap H locs → ∀ (ls : Array Slot), lv_has ls 7 [(1, .int y1)] → W p l e (RMw 5 0 0 115) s m args below meth c H locs 0 0 Q (F0 m 126 ls [])) {H : Heap} {locs : List Loc} (hG : GG X (MP X a w ++ rest) s.heap H locs) {ls : Array Slot} (hl : lv_has ls 7 [(0, .ref (a 0)), (1, .int x1), (2, .int x2), (3, .int x3)]) : W p l e (RMw 5 0 0 115) s m args below meth c H locs 0 0 Q (F0 m 15 ls []) := by
  have hx := B.1
  have hb := B.2.1
  unfold fM_meet_L15 at hf
  refine lv_iload_n hx hb dX4_meet_15 rfl (lv_at hl 3 rfl) ?_
  refine lv_bipush (v := 67) hx hb dX4_meet_16 (by decide) ?_
  refine lv_icmp_ge (tgt := 126) hx hb dX4_meet_18 (by decide) (fun c_1 => ?_) (fun c_1 => ?_)
  · have hf := ifp c_1 hf
    exact ke126 _ _ (Option.some.inj hf).symm _ _ hG _ (lv_sub hl [1] rfl)
  · have hf := ifn c_1 hf
    refine lv_aload_n hx hb dX4_meet_21 rfl (lv_at hl 0 rfl) ?_
    refine lv_iload_n hx hb dX4_meet_22 rfl (lv_at hl 3 rfl) ?_
    obtain ⟨r_2, e_3, hf⟩ := bo hf
    refine cM_isDry B hK hG.2.2 hG.1 e_3 ⟨Nat.le_of_ble_eq_true rfl, Nat.le_of_ble_eq_true rfl⟩ ⟨Nat.zero_le _, Nat.zero_le _⟩ hl.1 (Nat.le_of_ble_eq_true rfl) dX4_meet_23 ?_
    refine lv_if_ne (tgt := 32) hx hb dX4_meet_26 (by decide) (fun c_4 => ?_) (fun c_4 => ?_)
    · have hf := ifn c_4 hf
      refine lv_iconst (v := 0) hx hb dX4_meet_32 (by decide) ?_
      refine lv_istore (lv' := [(4, .int 0), (0, .ref (a 0)), (1, .int x1), (2, .int x2), (3, .int x3)]) hx hb dX4_meet_33 hl (by decide) rfl (fun ls hl => ?_)
      refine lv_iconst (v := 0) hx hb dX4_meet_35 (by decide) ?_
      refine lv_istore (lv' := [(5, .int 0), (4, .int 0), (0, .ref (a 0)), (1, .int x1), (2, .int x2), (3, .int x3)]) hx hb dX4_meet_36 hl (by decide) rfl (fun ls hl => ?_)
      obtain ⟨⟨y_5, w_6⟩, e_15, hf⟩ := bo hf
      try dsimp only at hf
      refine vM_meet_L38 B hK e_15 ?_ hG (lv_sub hl [2, 3, 4, 5, 1, 0] rfl)
      intro z0 z1 hz
      cases hz
      intro H locs hG ls hl
      refine lv_iload hx hb dX4_meet_94 (lv_at hl 4 rfl) ?_
      refine lv_bipush (v := 99) hx hb dX4_meet_96 (by decide) ?_
      refine lv_icmp_eq (tgt := 120) hx hb dX4_meet_98 (by decide) (fun c_7 => ?_) (fun c_7 => ?_)
      · have hf := ifp c_7 hf
        obtain ⟨x_8, e_9, hf⟩ := bo hf
        refine w_iinc (k := 3) (lv' := [(3, .int x_8), (0, .ref (a 0)), (1, .int x1), (2, .int x2), (4, .int y_5)]) e_9 hx hb dX4_meet_120 hl rfl (by decide) rfl (fun ls hl => ?_)
        refine lv_goto (tgt := 15) hx hb dX4_meet_123 (by decide) ?_
        exact kc _ _ _ _ (Option.some.inj hf).symm _ _ hG _ (lv_sub hl [1, 2, 3, 0] rfl)
      · have hf := ifn c_7 hf
        refine lv_iload_n hx hb dX4_meet_101 rfl (lv_at hl 1 rfl) ?_
        refine lv_iconst (v := (-1)) hx hb dX4_meet_102 (by decide) ?_
        refine lv_icmp_eq (tgt := 115) hx hb dX4_meet_103 (by decide) (fun c_10 => ?_) (fun c_10 => ?_)
        · have hf := ifp c_10 hf
          exact wM_meet_J115_L15 B hK hf kc ke126 hG (lv_sub hl [0, 3, 4] rfl)
        · have hf := ifn c_10 hf
          refine lv_iload hx hb dX4_meet_106 (lv_at hl 4 rfl) ?_
          refine lv_iload_n hx hb dX4_meet_108 rfl (lv_at hl 2 rfl) ?_
          refine lv_icmp_lt (tgt := 115) hx hb dX4_meet_109 (by decide) (fun c_11 => ?_) (fun c_11 => ?_)
          · have hf := ifp c_11 hf
            exact wM_meet_J115_L15 B hK hf kc ke126 hG (lv_sub hl [0, 3, 4] rfl)
          · have hf := ifn c_11 hf
            refine lv_goto (tgt := 120) hx hb dX4_meet_112 (by decide) ?_
            obtain ⟨x_12, e_13, hf⟩ := bo hf
            refine w_iinc (k := 3) (lv' := [(3, .int x_12), (0, .ref (a 0)), (1, .int x1), (2, .int x2), (4, .int y_5)]) e_13 hx hb dX4_meet_120 hl rfl (by decide) rfl (fun ls hl => ?_)
            refine lv_goto (tgt := 15) hx hb dX4_meet_123 (by decide) ?_
            exact kc _ _ _ _ (Option.some.inj hf).symm _ _ hG _ (lv_sub hl [1, 2, 3, 0] rfl)
    · have hf := ifp c_4 hf
      refine lv_goto (tgt := 120) hx hb dX4_meet_29 (by decide) ?_
      obtain ⟨x_16, e_17, hf⟩ := bo hf
      refine w_iinc (k := 3) (lv' := [(3, .int x_16), (0, .ref (a 0)), (1, .int x1), (2, .int x2)]) e_17 hx hb dX4_meet_120 hl rfl (by decide) rfl (fun ls hl => ?_)
      refine lv_goto (tgt := 15) hx hb dX4_meet_123 (by decide) ?_
      exact kc _ _ _ _ (Option.some.inj hf).symm _ _ hG _ (lv_sub hl [1, 2, 3, 0] rfl)

set_option maxHeartbeats 4000000 in
theorem vM_meet_L15 (B : CallFix p m c cX4_meet 7 s args lw_all RX4) (hK : KK X s) {w : MW} {x1 : Int32} {x2 : Int32} {x3 : Int32} {res : Int32 × MW} (hf : lp (fun q : Int32 × Int32 × Int32 × MW => fM_meet_L15 q.2.2.2 q.1 q.2.1 q.2.2.1) (x1, x2, x3, w) = some res) (ke126 : ∀ (y1 : Int32) (w1 : MW), res = (y1, w1) → ∀ (H : Heap) (locs : List Loc), GG X (MP X a w1 ++ rest) s.heap H locs → ∀ (ls : Array Slot), lv_has ls 7 [(1, .int y1)] → W p l e (RMw 5 0 0 115) s m args below meth c H locs 0 0 Q (F0 m 126 ls [])) {H : Heap} {locs : List Loc} (hG : GG X (MP X a w ++ rest) s.heap H locs) {ls : Array Slot} (hl : lv_has ls 7 [(0, .ref (a 0)), (1, .int x1), (2, .int x2), (3, .int x3)]) : W p l e (RMw 5 0 0 115) s m args below meth c H locs 0 0 Q (F0 m 15 ls []) := by
  refine lp_ind (r := res) (P := fun q : Int32 × Int32 × Int32 × MW => ∀ (H : Heap) (locs : List Loc) (ls : Array Slot), GG X (MP X a q.2.2.2 ++ rest) s.heap H locs → lv_has ls 7 [(0, .ref (a 0)), (1, .int q.1), (2, .int q.2.1), (3, .int q.2.2.1)] → W p l e (RMw 5 0 0 115) s m args below meth c H locs 0 0 Q (F0 m 15 ls [])) ?_ ?_ _ hf _ _ _ hG hl
  · intro q hb H locs ls hG hl
    exact wM_meet_L15 B hK hb (fun _ _ _ _ h => by cases h) (fun z0 z1 h => ke126 z0 z1 (Sum.inr.inj h)) hG hl
  · intro q q2 hb ih H locs ls hG hl
    exact wM_meet_L15 B hK hb (fun z0 z1 z2 z3 h => by cases h; exact fun H locs hG ls hl => ih H locs ls hG hl) (fun _ _ h => by cases h) hG hl

noncomputable def fM_meet (w : MW)  : Option (Int32 × MW) :=
  if (w.1 7) = 0 then
    some (0, w)
  else
    (lp (fun q : Int32 × Int32 × Int32 × MW => fM_meet_L15 q.2.2.2 q.1 q.2.1 q.2.2.1) ((-1), 0, 0, w)).bind (
      fun q_4 => (fun (y_2 : Int32) (w_3 : MW) =>
        some (y_2, w_3)
      ) q_4.1 q_4.2
    )

set_option maxHeartbeats 4000000 in
theorem wM_meet (B : CallFix p m c cX4_meet 7 s args lw_all RX4) (hK : KK X s) {w : MW}  {res : Int32 × MW} (hf : fM_meet w  = some res) (kr : ∀ (r : Int32) (w1 : MW), res = (r, w1) → ∀ (H : Heap) (locs : List Loc), GG X (MP X a w1 ++ rest) s.heap H locs → ∀ (pc : Nat) (ls : Array Slot), decode cX4_meet pc = .ok (.ireturn, 1) → W p l e (RMw 5 0 0 115) s m args below meth c H locs 0 0 Q (F0 m pc ls [.int r])) {H : Heap} {locs : List Loc} (hG : GG X (MP X a w ++ rest) s.heap H locs) {ls : Array Slot} (hl : lv_has ls 7 [(0, .ref (a 0))]) : W p l e (RMw 5 0 0 115) s m args below meth c H locs 0 0 Q (F0 m 0 ls []) := by
  have hx := B.1
  have hb := B.2.1
  unfold fM_meet at hf
  refine lv_aload_n hx hb dX4_meet_0 rfl (lv_at hl 0 rfl) ?_
  refine mo_g7 B hK hG.1 dX4_meet_1 ?_
  refine lv_if_ne (tgt := 9) hx hb dX4_meet_4 (by decide) (fun c_1 => ?_) (fun c_1 => ?_)
  · have hf := ifn c_1 hf
    refine lv_iconst (v := (-1)) hx hb dX4_meet_9 (by decide) ?_
    refine lv_istore_n (lv' := [(1, .int (-1)), (0, .ref (a 0))]) hx hb dX4_meet_10 rfl hl (by decide) rfl (fun ls hl => ?_)
    refine lv_iconst (v := 0) hx hb dX4_meet_11 (by decide) ?_
    refine lv_istore_n (lv' := [(2, .int 0), (1, .int (-1)), (0, .ref (a 0))]) hx hb dX4_meet_12 rfl hl (by decide) rfl (fun ls hl => ?_)
    refine lv_iconst (v := 0) hx hb dX4_meet_13 (by decide) ?_
    refine lv_istore_n (lv' := [(3, .int 0), (2, .int 0), (1, .int (-1)), (0, .ref (a 0))]) hx hb dX4_meet_14 rfl hl (by decide) rfl (fun ls hl => ?_)
    obtain ⟨⟨y_2, w_3⟩, e_5, hf⟩ := bo hf
    try dsimp only at hf
    refine vM_meet_L15 B hK e_5 ?_ hG (lv_sub hl [3, 2, 1, 0] rfl)
    intro z0 z1 hz
    cases hz
    intro H locs hG ls hl
    refine lv_iload_n hx hb dX4_meet_126 rfl (lv_at hl 0 rfl) ?_
    exact kr _ _ (Option.some.inj hf).symm _ _ hG _ _ dX4_meet_127
  · have hf := ifp c_1 hf
    refine lv_iconst (v := 0) hx hb dX4_meet_7 (by decide) ?_
    exact kr _ _ (Option.some.inj hf).symm _ _ hG _ _ dX4_meet_8

theorem tM_meet (l : Launch) (X : CX) (a : Nat → Nat) (rest : va_W) (w w' : MW)  (r : Int32) (hf : fM_meet w  = some (r, w')) : RW l yX4_meet cX4_meet 7 (some .int) 5 0 0 115 [.ref (a 0)] X (MP X a w ++ rest) (MP X a w' ++ rest) (some (.int r)) := by
  refine RW.mk (by decide) (Nat.le_of_ble_eq_true rfl) ?_
  intro p e s m below meth c B hr hlk hK hG ls hl
  exact wM_meet B hK hf (fun r w h H locs hG pc ls hd => by cases h; exact w_iretW B hr hlk hG hd) hG hl
end S_meet

section S_wrong
variable {p : Program} {l : Launch} {e : Env} {R : Room} {s : State} {m : MethodId} {args : Array Value} {below : List Frame} {meth : Method} {c : Code} {H : Heap} {locs : List Loc} {cells slots : Nat} {Q : State → Prop} {cc : ByteArray} {nL pc : Nat} {ls : Array Slot} {st : List Value} {X : CX} {a : Nat → Nat} {w : MW} {rest : va_W}
noncomputable def fM_wrong_L11 (w : MW) (x1 : Int32) (x2 : Int32) (x4 : Int32) (x5 : Int32) : Option ((Int32 × Int32) ⊕ (((Unit) ⊕ Int32))) :=
  if x2 ≤ x5 then
    some (.inr (.inl ()))
  else
    (fM_toldAt w x1 x5).bind fun r_2 =>
    (fM_isCell w r_2).bind fun r_4 =>
    if r_4 = 0 then
      some (.inr (.inr x5))
    else
      (rd (w.2.1 1) 67 (r_2.toInt32)).bind fun v_7 =>
      if v_7 = 0 then
        (fM_steps x4 (r_2.toInt32)).bind fun r_10 =>
        if r_10 = 1 then
          (some (r_2.toInt32)).bind fun x_13 =>
          (some (x5 + 1)).bind fun x_15 =>
          some (.inl (x_13, x_15))
        else
          some (.inr (.inr x5))
      else
        some (.inr (.inr x5))

set_option maxHeartbeats 4000000 in
theorem wM_wrong_L11 (B : CallFix p m c cX4_wrong 8 s args lw_all RX4) (hK : KK X s) {w : MW} (hP : va_P X.2.2.1 vwCl (MP X a w ++ rest) s.heap) {x1 : Int32} {x2 : Int32} {x4 : Int32} {x5 : Int32} {res : (Int32 × Int32) ⊕ (((Unit) ⊕ Int32))} (hf : fM_wrong_L11 w x1 x2 x4 x5 = some res) (kc : ∀ (y4 : Int32) (y5 : Int32), res = .inl (y4, y5) → ∀ (ls : Array Slot), lv_has ls 8 [(0, .ref (a 0)), (1, .int x1), (2, .int x2), (4, .int y4), (5, .int y5)] → W p l e (RM 2 42) s m args below meth c s.heap [] 0 0 Q (F0 m 11 ls [])) (ke72 : res = .inr (.inl ()) → ∀ (ls : Array Slot), lv_has ls 8 [] → W p l e (RM 2 42) s m args below meth c s.heap [] 0 0 Q (F0 m 72 ls [])) (ke58 : ∀ (y5 : Int32), res = .inr (.inr y5) → ∀ (ls : Array Slot), lv_has ls 8 [(5, .int y5)] → W p l e (RM 2 42) s m args below meth c s.heap [] 0 0 Q (F0 m 58 ls [])) {ls : Array Slot} (hl : lv_has ls 8 [(0, .ref (a 0)), (1, .int x1), (2, .int x2), (4, .int x4), (5, .int x5)]) : W p l e (RM 2 42) s m args below meth c s.heap [] 0 0 Q (F0 m 11 ls []) := by
  have hx := B.1
  have hb := B.2.1
  unfold fM_wrong_L11 at hf
  refine lv_iload hx hb dX4_wrong_11 (lv_at hl 4 rfl) ?_
  refine lv_iload_n hx hb dX4_wrong_13 rfl (lv_at hl 2 rfl) ?_
  refine lv_icmp_ge (tgt := 72) hx hb dX4_wrong_14 (by decide) (fun c_1 => ?_) (fun c_1 => ?_)
  · have hf := ifp c_1 hf
    exact ke72 (Option.some.inj hf).symm _ (lv_sub hl [] rfl)
  · have hf := ifn c_1 hf
    refine lv_aload_n hx hb dX4_wrong_17 rfl (lv_at hl 0 rfl) ?_
    refine lv_iload_n hx hb dX4_wrong_18 rfl (lv_at hl 1 rfl) ?_
    refine lv_iload hx hb dX4_wrong_19 (lv_at hl 4 rfl) ?_
    obtain ⟨r_2, e_3, hf⟩ := bo hf
    refine cM_toldAt B hK va_S.rf hP e_3 ⟨Nat.le_of_ble_eq_true rfl, Nat.le_of_ble_eq_true rfl⟩ ⟨Nat.zero_le _, Nat.zero_le _⟩ hl.1 (Nat.le_of_ble_eq_true rfl) dX4_wrong_21 ?_
    refine lv_lstore (lv' := [(6, .long r_2), (0, .ref (a 0)), (1, .int x1), (2, .int x2), (4, .int x4), (5, .int x5)]) hx hb dX4_wrong_24 hl (by decide) rfl (fun ls hl => ?_)
    refine lv_aload_n hx hb dX4_wrong_26 rfl (lv_at hl 1 rfl) ?_
    refine lv_lload hx hb dX4_wrong_27 (lv_at hl 0 rfl) ?_
    obtain ⟨r_4, e_5, hf⟩ := bo hf
    refine cM_isCell B hK va_S.rf hP e_5 ⟨Nat.le_of_ble_eq_true rfl, Nat.le_of_ble_eq_true rfl⟩ ⟨Nat.zero_le _, Nat.zero_le _⟩ hl.1 (Nat.le_of_ble_eq_true rfl) dX4_wrong_29 ?_
    refine lv_if_eq (tgt := 58) hx hb dX4_wrong_32 (by decide) (fun c_6 => ?_) (fun c_6 => ?_)
    · have hf := ifp c_6 hf
      exact ke58 _ (Option.some.inj hf).symm _ (lv_sub hl [5] rfl)
    · have hf := ifn c_6 hf
      refine lv_aload_n hx hb dX4_wrong_35 rfl (lv_at hl 1 rfl) ?_
      refine mo_g1 B hK hP dX4_wrong_36 ?_
      refine lv_lload hx hb dX4_wrong_39 (lv_at hl 0 rfl) ?_
      refine lv_l2i hx hb dX4_wrong_41 rfl ?_
      obtain ⟨v_7, e_8, hf⟩ := bo hf
      refine mo_ld1 B hK hP e_8 dX4_wrong_42 ?_
      refine lv_if_ne (tgt := 58) hx hb dX4_wrong_43 (by decide) (fun c_9 => ?_) (fun c_9 => ?_)
      · have hf := ifn c_9 hf
        exact ke58 _ (Option.some.inj hf).symm _ (lv_sub hl [5] rfl)
      · have hf := ifp c_9 hf
        refine lv_iload hx hb dX4_wrong_46 (lv_at hl 4 rfl) ?_
        refine lv_lload hx hb dX4_wrong_48 (lv_at hl 0 rfl) ?_
        refine lv_l2i hx hb dX4_wrong_50 rfl ?_
        obtain ⟨r_10, e_11, hf⟩ := bo hf
        refine cM_steps B e_11 ⟨Nat.le_of_ble_eq_true rfl, Nat.le_of_ble_eq_true rfl⟩ ⟨Nat.zero_le _, Nat.zero_le _⟩ hl.1 (Nat.le_of_ble_eq_true rfl) dX4_wrong_51 ?_
        refine lv_iconst (v := 1) hx hb dX4_wrong_54 (by decide) ?_
        refine lv_icmp_eq (tgt := 61) hx hb dX4_wrong_55 (by decide) (fun c_12 => ?_) (fun c_12 => ?_)
        · have hf := ifp c_12 hf
          refine lv_lload hx hb dX4_wrong_61 (lv_at hl 0 rfl) ?_
          refine lv_l2i hx hb dX4_wrong_63 rfl ?_
          obtain ⟨x_13, e_14, hf⟩ := bo hf
          refine w_istore (lv' := [(4, .int x_13), (6, .long r_2), (0, .ref (a 0)), (1, .int x1), (2, .int x2), (5, .int x5)]) e_14 hx hb dX4_wrong_64 hl (by decide) rfl (fun ls hl => ?_)
          obtain ⟨x_15, e_16, hf⟩ := bo hf
          refine w_iinc (k := 5) (lv' := [(5, .int x_15), (4, .int x_13), (6, .long r_2), (0, .ref (a 0)), (1, .int x1), (2, .int x2)]) e_16 hx hb dX4_wrong_66 hl rfl (by decide) rfl (fun ls hl => ?_)
          refine lv_goto (tgt := 11) hx hb dX4_wrong_69 (by decide) ?_
          exact kc _ _ (Option.some.inj hf).symm _ (lv_sub hl [3, 4, 5, 1, 0] rfl)
        · have hf := ifn c_12 hf
          exact ke58 _ (Option.some.inj hf).symm _ (lv_sub hl [5] rfl)

set_option maxHeartbeats 4000000 in
theorem vM_wrong_L11 (B : CallFix p m c cX4_wrong 8 s args lw_all RX4) (hK : KK X s) {w : MW} (hP : va_P X.2.2.1 vwCl (MP X a w ++ rest) s.heap) {x1 : Int32} {x2 : Int32} {x4 : Int32} {x5 : Int32} {res : ((Unit) ⊕ Int32)} (hf : lp (fun q : Int32 × Int32 => fM_wrong_L11 w x1 x2 q.1 q.2) (x4, x5) = some res) (ke72 : res = (.inl ()) → ∀ (ls : Array Slot), lv_has ls 8 [] → W p l e (RM 2 42) s m args below meth c s.heap [] 0 0 Q (F0 m 72 ls [])) (ke58 : ∀ (y5 : Int32), res = (.inr y5) → ∀ (ls : Array Slot), lv_has ls 8 [(5, .int y5)] → W p l e (RM 2 42) s m args below meth c s.heap [] 0 0 Q (F0 m 58 ls [])) {ls : Array Slot} (hl : lv_has ls 8 [(0, .ref (a 0)), (1, .int x1), (2, .int x2), (4, .int x4), (5, .int x5)]) : W p l e (RM 2 42) s m args below meth c s.heap [] 0 0 Q (F0 m 11 ls []) := by
  refine lp_ind (r := res) (P := fun q : Int32 × Int32 => ∀ (ls : Array Slot), lv_has ls 8 [(0, .ref (a 0)), (1, .int x1), (2, .int x2), (4, .int q.1), (5, .int q.2)] → W p l e (RM 2 42) s m args below meth c s.heap [] 0 0 Q (F0 m 11 ls [])) ?_ ?_ _ hf _ hl
  · intro q hb ls hl
    exact wM_wrong_L11 B hK hP hb (fun _ _ h => by cases h) (fun h => ke72 (Sum.inr.inj h)) (fun z0 h => ke58 z0 (Sum.inr.inj h)) hl
  · intro q q2 hb ih ls hl
    exact wM_wrong_L11 B hK hP hb (fun z0 z1 h => by cases h; exact fun ls hl => ih ls hl) (fun h => by cases h) (fun _ h => by cases h) hl

noncomputable def fM_wrong (w : MW) (x1 : Int32) (x2 : Int32) (x3 : Int32) : Option (Int32) :=
  (rd (w.2.1 8) 4 x3).bind fun v_1 =>
  (lp (fun q : Int32 × Int32 => fM_wrong_L11 w x1 x2 q.1 q.2) (v_1, 0)).bind
    (Sum.elim (
      fun _ =>
        some (-1)
    )
      (
        fun q_5 => (fun (y_3 : Int32) =>
          some y_3
        ) q_5
      )
    )

set_option maxHeartbeats 4000000 in
theorem wM_wrong (B : CallFix p m c cX4_wrong 8 s args lw_all RX4) (hK : KK X s) {w : MW} (hP : va_P X.2.2.1 vwCl (MP X a w ++ rest) s.heap) {x1 : Int32} {x2 : Int32} {x3 : Int32} {res : Int32} (hf : fM_wrong w x1 x2 x3 = some res) (kr : ∀ (r : Int32), res = r → ∀ (pc : Nat) (ls : Array Slot), decode cX4_wrong pc = .ok (.ireturn, 1) → W p l e (RM 2 42) s m args below meth c s.heap [] 0 0 Q (F0 m pc ls [.int r])) {ls : Array Slot} (hl : lv_has ls 8 [(0, .ref (a 0)), (1, .int x1), (2, .int x2), (3, .int x3)]) : W p l e (RM 2 42) s m args below meth c s.heap [] 0 0 Q (F0 m 0 ls []) := by
  have hx := B.1
  have hb := B.2.1
  unfold fM_wrong at hf
  refine lv_aload_n hx hb dX4_wrong_0 rfl (lv_at hl 0 rfl) ?_
  refine mo_g8 B hK hP dX4_wrong_1 ?_
  refine lv_iload_n hx hb dX4_wrong_4 rfl (lv_at hl 3 rfl) ?_
  obtain ⟨v_1, e_2, hf⟩ := bo hf
  refine mo_ld8 B hK hP e_2 dX4_wrong_5 ?_
  refine lv_istore (lv' := [(4, .int v_1), (0, .ref (a 0)), (1, .int x1), (2, .int x2), (3, .int x3)]) hx hb dX4_wrong_6 hl (by decide) rfl (fun ls hl => ?_)
  refine lv_iconst (v := 0) hx hb dX4_wrong_8 (by decide) ?_
  refine lv_istore (lv' := [(5, .int 0), (4, .int v_1), (0, .ref (a 0)), (1, .int x1), (2, .int x2), (3, .int x3)]) hx hb dX4_wrong_9 hl (by decide) rfl (fun ls hl => ?_)
  rcases bs hf with ⟨⟨⟩, e_6, hf⟩ | ⟨y_3, e_6, hf⟩
  · refine vM_wrong_L11 B hK hP e_6 ?_ (fun _ h => by cases h) (lv_sub hl [2, 3, 4, 1, 0] rfl)
    intro hz
    intro ls hl
    refine lv_iconst (v := (-1)) hx hb dX4_wrong_72 (by decide) ?_
    exact kr _ (Option.some.inj hf).symm _ _ dX4_wrong_73
  · try dsimp only at hf
    refine vM_wrong_L11 B hK hP e_6 (fun h => by cases h) ?_ (lv_sub hl [2, 3, 4, 1, 0] rfl)
    intro z0 hz
    cases hz
    intro ls hl
    refine lv_iload hx hb dX4_wrong_58 (lv_at hl 0 rfl) ?_
    exact kr _ (Option.some.inj hf).symm _ _ dX4_wrong_60

theorem tM_wrong (l : Launch) (X : CX) (a : Nat → Nat) (rest : va_W) (w : MW) (x1 : Int32) (x2 : Int32) (x3 : Int32) (r : Int32) (hf : fM_wrong w x1 x2 x3 = some r) : RO l yX4_wrong cX4_wrong 8 (some .int) 2 42 [.ref (a 0), .int x1, .int x2, .int x3] X (MP X a w ++ rest) (some (.int r)) := by
  refine RO.mk (by decide) (Nat.le_of_ble_eq_true rfl) ?_
  intro p e s m below meth c B hr hlk hK hP ls hl
  exact wM_wrong B hK hP hf (fun r h pc ls hd => by cases h; exact w_iretR B hr hlk rfl hd) hl
theorem cM_wrong (B : CallFix p m c cc nL s args lw_all RX4) (hK : KK X s) (hS : va_S (Az X) s.heap H locs) (hP : va_P X.2.2.1 vwCl (MP X a w ++ rest) H) {x1 : Int32} {x2 : Int32} {x3 : Int32} {r : Int32} (hf : fM_wrong w x1 x2 x3 = some r) (hR : 2 + 1 ≤ R.frames ∧ 69 ≤ R.locals) (hcs : cells ≤ R.cells ∧ slots ≤ R.slots) (hl : ls.size = nL) (hcat : (st.map fun v => v.category).sum ≤ 8) (hdg : decode cc pc = .ok (.invokevirtual 312, 3)) (kk : W p l e R s m args below meth c H locs cells slots Q (F0 m (pc + 3) ls (.int r :: st))) : W p l e R s m args below meth c H locs cells slots Q (F0 m pc ls (.int x3 :: .int x2 :: .int x1 :: .ref (a 0) :: st)) :=
  w_afterR (w_rV_RO (As := [.int x1, .int x2, .int x3]) B hK hS hP (tM_wrong l X a rest w x1 x2 x3 r hf) (lw_V q1888 q1890 qs80 q91 q1891) 0 rfl rfl (n := 3) (by decide +kernel) hR hcs rfl hl rfl hcat hdg) kk
end S_wrong

section S_judge
variable {p : Program} {l : Launch} {e : Env} {R : Room} {s : State} {m : MethodId} {args : Array Value} {below : List Frame} {meth : Method} {c : Code} {H : Heap} {locs : List Loc} {cells slots : Nat} {Q : State → Prop} {cc : ByteArray} {nL pc : Nat} {ls : Array Slot} {st : List Value} {X : CX} {a : Nat → Nat} {w : MW} {rest : va_W}
noncomputable def fM_judge_J25 (w : MW)  : Option (Int32 × MW) :=
  b2 (fM_no w (-2)) fun r_1 w_2 =>
  some (r_1, w_2)

set_option maxHeartbeats 4000000 in
theorem wM_judge_J25 (B : CallFix p m c cX4_judge 5 s args lw_all RX4) (hK : KK X s) {w : MW}  {res : Int32 × MW} (hf : fM_judge_J25 w  = some res) (kr : ∀ (r : Int32) (w1 : MW), res = (r, w1) → ∀ (H : Heap) (locs : List Loc), GG X (MP X a w1 ++ rest) s.heap H locs → ∀ (pc : Nat) (ls : Array Slot), decode cX4_judge pc = .ok (.ireturn, 1) → W p l e (RMw 3 0 0 69) s m args below meth c H locs 0 0 Q (F0 m pc ls [.int r])) {H : Heap} {locs : List Loc} (hG : GG X (MP X a w ++ rest) s.heap H locs) {ls : Array Slot} (hl : lv_has ls 5 [(0, .ref (a 0))]) : W p l e (RMw 3 0 0 69) s m args below meth c H locs 0 0 Q (F0 m 25 ls []) := by
  have hx := B.1
  have hb := B.2.1
  unfold fM_judge_J25 at hf
  refine lv_aload_n hx hb dX4_judge_25 rfl (lv_at hl 0 rfl) ?_
  refine lv_bipush (v := (-2)) hx hb dX4_judge_26 (by decide) ?_
  obtain ⟨r_1, w_2, e_3, hf⟩ := b2s hf
  refine cM_no B hK hG e_3 ⟨Nat.le_of_ble_eq_true rfl, Nat.le_of_ble_eq_true rfl⟩ ⟨Nat.zero_le _, Nat.zero_le _⟩ hl.1 (Nat.le_of_ble_eq_true rfl) dX4_judge_28 (fun H locs hG => ?_)
  exact kr _ _ (Option.some.inj hf).symm _ _ hG _ _ dX4_judge_31

noncomputable def fM_judge (w : MW) (x1 : Int32) (x2 : Int32) (x3 : Int32) : Option (Int32 × MW) :=
  (fM_isShelf x1).bind fun r_1 =>
  if r_1 = 0 then
    fM_judge_J25 w 
  else
    (fM_within x2 0 40).bind fun r_4 =>
    if r_4 = 0 then
      fM_judge_J25 w 
    else
      (fM_isWalker w x3).bind fun r_7 =>
      if r_7 = 0 then
        fM_judge_J25 w 
      else
        (fM_noTold w x1 x2).bind fun r_10 =>
        if 0 ≤ r_10 then
          (fM_wrong w x1 x2 x3).bind fun r_13 =>
          some (r_13, w)
        else
          b2 (fM_no w r_10) fun r_15 w_16 =>
          some (r_15, w_16)

set_option maxHeartbeats 4000000 in
theorem wM_judge (B : CallFix p m c cX4_judge 5 s args lw_all RX4) (hK : KK X s) {w : MW} {x1 : Int32} {x2 : Int32} {x3 : Int32} {res : Int32 × MW} (hf : fM_judge w x1 x2 x3 = some res) (kr : ∀ (r : Int32) (w1 : MW), res = (r, w1) → ∀ (H : Heap) (locs : List Loc), GG X (MP X a w1 ++ rest) s.heap H locs → ∀ (pc : Nat) (ls : Array Slot), decode cX4_judge pc = .ok (.ireturn, 1) → W p l e (RMw 3 0 0 69) s m args below meth c H locs 0 0 Q (F0 m pc ls [.int r])) {H : Heap} {locs : List Loc} (hG : GG X (MP X a w ++ rest) s.heap H locs) {ls : Array Slot} (hl : lv_has ls 5 [(0, .ref (a 0)), (1, .int x1), (2, .int x2), (3, .int x3)]) : W p l e (RMw 3 0 0 69) s m args below meth c H locs 0 0 Q (F0 m 0 ls []) := by
  have hx := B.1
  have hb := B.2.1
  unfold fM_judge at hf
  refine lv_iload_n hx hb dX4_judge_0 rfl (lv_at hl 1 rfl) ?_
  obtain ⟨r_1, e_2, hf⟩ := bo hf
  refine cM_isShelf B e_2 ⟨Nat.le_of_ble_eq_true rfl, Nat.le_of_ble_eq_true rfl⟩ ⟨Nat.zero_le _, Nat.zero_le _⟩ hl.1 (Nat.le_of_ble_eq_true rfl) dX4_judge_1 ?_
  refine lv_if_eq (tgt := 25) hx hb dX4_judge_4 (by decide) (fun c_3 => ?_) (fun c_3 => ?_)
  · have hf := ifp c_3 hf
    exact wM_judge_J25 B hK hf kr hG (lv_sub hl [0] rfl)
  · have hf := ifn c_3 hf
    refine lv_iload_n hx hb dX4_judge_7 rfl (lv_at hl 2 rfl) ?_
    refine lv_iconst (v := 0) hx hb dX4_judge_8 (by decide) ?_
    refine lv_bipush (v := 40) hx hb dX4_judge_9 (by decide) ?_
    obtain ⟨r_4, e_5, hf⟩ := bo hf
    refine cM_within B e_5 ⟨Nat.le_of_ble_eq_true rfl, Nat.le_of_ble_eq_true rfl⟩ ⟨Nat.zero_le _, Nat.zero_le _⟩ hl.1 (Nat.le_of_ble_eq_true rfl) dX4_judge_11 ?_
    refine lv_if_eq (tgt := 25) hx hb dX4_judge_14 (by decide) (fun c_6 => ?_) (fun c_6 => ?_)
    · have hf := ifp c_6 hf
      exact wM_judge_J25 B hK hf kr hG (lv_sub hl [0] rfl)
    · have hf := ifn c_6 hf
      refine lv_aload_n hx hb dX4_judge_17 rfl (lv_at hl 0 rfl) ?_
      refine lv_iload_n hx hb dX4_judge_18 rfl (lv_at hl 3 rfl) ?_
      obtain ⟨r_7, e_8, hf⟩ := bo hf
      refine cM_isWalker B hK hG.2.2 hG.1 e_8 ⟨Nat.le_of_ble_eq_true rfl, Nat.le_of_ble_eq_true rfl⟩ ⟨Nat.zero_le _, Nat.zero_le _⟩ hl.1 (Nat.le_of_ble_eq_true rfl) dX4_judge_19 ?_
      refine lv_if_ne (tgt := 32) hx hb dX4_judge_22 (by decide) (fun c_9 => ?_) (fun c_9 => ?_)
      · have hf := ifn c_9 hf
        refine lv_aload_n hx hb dX4_judge_32 rfl (lv_at hl 0 rfl) ?_
        refine lv_iload_n hx hb dX4_judge_33 rfl (lv_at hl 1 rfl) ?_
        refine lv_iload_n hx hb dX4_judge_34 rfl (lv_at hl 2 rfl) ?_
        obtain ⟨r_10, e_11, hf⟩ := bo hf
        refine cM_noTold B hK hG.2.2 hG.1 e_11 ⟨Nat.le_of_ble_eq_true rfl, Nat.le_of_ble_eq_true rfl⟩ ⟨Nat.zero_le _, Nat.zero_le _⟩ hl.1 (Nat.le_of_ble_eq_true rfl) dX4_judge_35 ?_
        refine lv_istore (lv' := [(4, .int r_10), (0, .ref (a 0)), (1, .int x1), (2, .int x2), (3, .int x3)]) hx hb dX4_judge_38 hl (by decide) rfl (fun ls hl => ?_)
        refine lv_iload hx hb dX4_judge_40 (lv_at hl 0 rfl) ?_
        refine lv_if_ge (tgt := 54) hx hb dX4_judge_42 (by decide) (fun c_12 => ?_) (fun c_12 => ?_)
        · have hf := ifp c_12 hf
          refine lv_aload_n hx hb dX4_judge_54 rfl (lv_at hl 1 rfl) ?_
          refine lv_iload_n hx hb dX4_judge_55 rfl (lv_at hl 2 rfl) ?_
          refine lv_iload_n hx hb dX4_judge_56 rfl (lv_at hl 3 rfl) ?_
          refine lv_iload_n hx hb dX4_judge_57 rfl (lv_at hl 4 rfl) ?_
          obtain ⟨r_13, e_14, hf⟩ := bo hf
          refine cM_wrong B hK hG.2.2 hG.1 e_14 ⟨Nat.le_of_ble_eq_true rfl, Nat.le_of_ble_eq_true rfl⟩ ⟨Nat.zero_le _, Nat.zero_le _⟩ hl.1 (Nat.le_of_ble_eq_true rfl) dX4_judge_58 ?_
          exact kr _ _ (Option.some.inj hf).symm _ _ hG _ _ dX4_judge_61
        · have hf := ifn c_12 hf
          refine lv_aload_n hx hb dX4_judge_45 rfl (lv_at hl 1 rfl) ?_
          refine lv_iload hx hb dX4_judge_46 (lv_at hl 0 rfl) ?_
          obtain ⟨r_15, w_16, e_17, hf⟩ := b2s hf
          refine cM_no B hK hG e_17 ⟨Nat.le_of_ble_eq_true rfl, Nat.le_of_ble_eq_true rfl⟩ ⟨Nat.zero_le _, Nat.zero_le _⟩ hl.1 (Nat.le_of_ble_eq_true rfl) dX4_judge_48 (fun H locs hG => ?_)
          refine lv_goto (tgt := 61) hx hb dX4_judge_51 (by decide) ?_
          exact kr _ _ (Option.some.inj hf).symm _ _ hG _ _ dX4_judge_61
      · have hf := ifp c_9 hf
        exact wM_judge_J25 B hK hf kr hG (lv_sub hl [0] rfl)

theorem tM_judge (l : Launch) (X : CX) (a : Nat → Nat) (rest : va_W) (w w' : MW) (x1 : Int32) (x2 : Int32) (x3 : Int32) (r : Int32) (hf : fM_judge w x1 x2 x3 = some (r, w')) : RW l yX4_judge cX4_judge 5 (some .int) 3 0 0 69 [.ref (a 0), .int x1, .int x2, .int x3] X (MP X a w ++ rest) (MP X a w' ++ rest) (some (.int r)) := by
  refine RW.mk (by decide) (Nat.le_of_ble_eq_true rfl) ?_
  intro p e s m below meth c B hr hlk hK hG ls hl
  exact wM_judge B hK hf (fun r w h H locs hG pc ls hd => by cases h; exact w_iretW B hr hlk hG hd) hG hl
end S_judge

section S_noWalk
variable {p : Program} {l : Launch} {e : Env} {R : Room} {s : State} {m : MethodId} {args : Array Value} {below : List Frame} {meth : Method} {c : Code} {H : Heap} {locs : List Loc} {cells slots : Nat} {Q : State → Prop} {cc : ByteArray} {nL pc : Nat} {ls : Array Slot} {st : List Value} {X : CX} {a : Nat → Nat} {w : MW} {rest : va_W}
noncomputable def fM_noWalk (w : MW) (x1 : Int32) (x2 : Int32) (x3 : Int32) : Option (Int32) :=
  (fM_noTold w x1 x2).bind fun r_1 =>
  if 0 ≤ r_1 then
    (fM_wrong w x1 x2 x3).bind fun r_4 =>
    if r_4 = (-1) then
      some 0
    else
      some (-5)
  else
    some r_1

set_option maxHeartbeats 4000000 in
theorem wM_noWalk (B : CallFix p m c cX4_noWalk 5 s args lw_all RX4) (hK : KK X s) {w : MW} (hP : va_P X.2.2.1 vwCl (MP X a w ++ rest) s.heap) {x1 : Int32} {x2 : Int32} {x3 : Int32} {res : Int32} (hf : fM_noWalk w x1 x2 x3 = some res) (kr : ∀ (r : Int32), res = r → ∀ (pc : Nat) (ls : Array Slot), decode cX4_noWalk pc = .ok (.ireturn, 1) → W p l e (RM 3 69) s m args below meth c s.heap [] 0 0 Q (F0 m pc ls [.int r])) {ls : Array Slot} (hl : lv_has ls 5 [(0, .ref (a 0)), (1, .int x1), (2, .int x2), (3, .int x3)]) : W p l e (RM 3 69) s m args below meth c s.heap [] 0 0 Q (F0 m 0 ls []) := by
  have hx := B.1
  have hb := B.2.1
  unfold fM_noWalk at hf
  refine lv_aload_n hx hb dX4_noWalk_0 rfl (lv_at hl 0 rfl) ?_
  refine lv_iload_n hx hb dX4_noWalk_1 rfl (lv_at hl 1 rfl) ?_
  refine lv_iload_n hx hb dX4_noWalk_2 rfl (lv_at hl 2 rfl) ?_
  obtain ⟨r_1, e_2, hf⟩ := bo hf
  refine cM_noTold B hK va_S.rf hP e_2 ⟨Nat.le_of_ble_eq_true rfl, Nat.le_of_ble_eq_true rfl⟩ ⟨Nat.zero_le _, Nat.zero_le _⟩ hl.1 (Nat.le_of_ble_eq_true rfl) dX4_noWalk_3 ?_
  refine lv_istore (lv' := [(4, .int r_1), (0, .ref (a 0)), (1, .int x1), (2, .int x2), (3, .int x3)]) hx hb dX4_noWalk_6 hl (by decide) rfl (fun ls hl => ?_)
  refine lv_iload hx hb dX4_noWalk_8 (lv_at hl 0 rfl) ?_
  refine lv_if_ge (tgt := 18) hx hb dX4_noWalk_10 (by decide) (fun c_3 => ?_) (fun c_3 => ?_)
  · have hf := ifp c_3 hf
    refine lv_aload_n hx hb dX4_noWalk_18 rfl (lv_at hl 1 rfl) ?_
    refine lv_iload_n hx hb dX4_noWalk_19 rfl (lv_at hl 2 rfl) ?_
    refine lv_iload_n hx hb dX4_noWalk_20 rfl (lv_at hl 3 rfl) ?_
    refine lv_iload_n hx hb dX4_noWalk_21 rfl (lv_at hl 4 rfl) ?_
    obtain ⟨r_4, e_5, hf⟩ := bo hf
    refine cM_wrong B hK va_S.rf hP e_5 ⟨Nat.le_of_ble_eq_true rfl, Nat.le_of_ble_eq_true rfl⟩ ⟨Nat.zero_le _, Nat.zero_le _⟩ hl.1 (Nat.le_of_ble_eq_true rfl) dX4_noWalk_22 ?_
    refine lv_iconst (v := (-1)) hx hb dX4_noWalk_25 (by decide) ?_
    refine lv_icmp_ne (tgt := 33) hx hb dX4_noWalk_26 (by decide) (fun c_6 => ?_) (fun c_6 => ?_)
    · have hf := ifn c_6 hf
      refine lv_bipush (v := (-5)) hx hb dX4_noWalk_33 (by decide) ?_
      exact kr _ (Option.some.inj hf).symm _ _ dX4_noWalk_35
    · have hf := ifp c_6 hf
      refine lv_iconst (v := 0) hx hb dX4_noWalk_29 (by decide) ?_
      refine lv_goto (tgt := 35) hx hb dX4_noWalk_30 (by decide) ?_
      exact kr _ (Option.some.inj hf).symm _ _ dX4_noWalk_35
  · have hf := ifn c_3 hf
    refine lv_iload hx hb dX4_noWalk_13 (lv_at hl 0 rfl) ?_
    refine lv_goto (tgt := 35) hx hb dX4_noWalk_15 (by decide) ?_
    exact kr _ (Option.some.inj hf).symm _ _ dX4_noWalk_35

theorem tM_noWalk (l : Launch) (X : CX) (a : Nat → Nat) (rest : va_W) (w : MW) (x1 : Int32) (x2 : Int32) (x3 : Int32) (r : Int32) (hf : fM_noWalk w x1 x2 x3 = some r) : RO l yX4_noWalk cX4_noWalk 5 (some .int) 3 69 [.ref (a 0), .int x1, .int x2, .int x3] X (MP X a w ++ rest) (some (.int r)) := by
  refine RO.mk (by decide) (Nat.le_of_ble_eq_true rfl) ?_
  intro p e s m below meth c B hr hlk hK hP ls hl
  exact wM_noWalk B hK hP hf (fun r h pc ls hd => by cases h; exact w_iretR B hr hlk rfl hd) hl
theorem cM_noWalk (B : CallFix p m c cc nL s args lw_all RX4) (hK : KK X s) (hS : va_S (Az X) s.heap H locs) (hP : va_P X.2.2.1 vwCl (MP X a w ++ rest) H) {x1 : Int32} {x2 : Int32} {x3 : Int32} {r : Int32} (hf : fM_noWalk w x1 x2 x3 = some r) (hR : 3 + 1 ≤ R.frames ∧ 93 ≤ R.locals) (hcs : cells ≤ R.cells ∧ slots ≤ R.slots) (hl : ls.size = nL) (hcat : (st.map fun v => v.category).sum ≤ 8) (hdg : decode cc pc = .ok (.invokevirtual 315, 3)) (kk : W p l e R s m args below meth c H locs cells slots Q (F0 m (pc + 3) ls (.int r :: st))) : W p l e R s m args below meth c H locs cells slots Q (F0 m pc ls (.int x3 :: .int x2 :: .int x1 :: .ref (a 0) :: st)) :=
  w_afterR (w_rV_RO (As := [.int x1, .int x2, .int x3]) B hK hS hP (tM_noWalk l X a rest w x1 x2 x3 r hf) (lw_V q1896 q1898 qs81 q91 q1899) 0 rfl rfl (n := 3) (by decide +kernel) hR hcs rfl hl rfl hcat hdg) kk
end S_noWalk
