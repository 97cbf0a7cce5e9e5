set_option maxRecDepth 100000
section S_number
variable {p : Program} {l : Launch} {e : Env} {R : Room} {s : State} {m : MethodId} {args : Array Value} {below : List Frame} {meth : Method} {c : Code} {H : Heap} {locs : List Loc} {cells slots : Nat} {Q : State → Prop} {cc : ByteArray} {nL pc : Nat} {ls : Array Slot} {st : List Value} {X : CX} {a : Nat → Nat} {w : MW} {rest : va_W}
noncomputable def fM_number (w : MW) (x1 : Int32) (x2 : Int32) : Option (Int32 × MW) :=
  (fM_next w ).bind fun w_1 =>
  if (w_1.1 15) = 48 then
    (fM_within (w_1.1 16) x1 x2).bind fun r_4 =>
    if r_4 = 0 then
      some ((-1), w_1)
    else
      some ((w_1.1 16), w_1)
  else
    some ((-1), w_1)

set_option maxHeartbeats 4000000 in
theorem wM_number (B : CallFix p m c cX4_number 3 s args lw_all RX4) (hK : KK X s) {w : MW} {x1 : Int32} {x2 : Int32} {res : Int32 × MW} (hf : fM_number w x1 x2 = some res) (kr : ∀ (r : Int32) (w1 : MW), res = (r, w1) → ∀ (H : Heap) (locs : List Loc), GG X (MP X a w1 ++ rest) s.heap H locs → ∀ (pc : Nat) (ls : Array Slot), decode cX4_number pc = .ok (.ireturn, 1) → W p l e (RMw 2 0 0 41) s m args below meth c H locs 0 0 Q (F0 m pc ls [.int r])) {H : Heap} {locs : List Loc} (hG : GG X (MP X a w ++ rest) s.heap H locs) {ls : Array Slot} (hl : lv_has ls 3 [(0, .ref (a 0)), (1, .int x1), (2, .int x2)]) : W p l e (RMw 2 0 0 41) s m args below meth c H locs 0 0 Q (F0 m 0 ls []) := by
  have hx := B.1
  have hb := B.2.1
  unfold fM_number at hf
  refine lv_aload_n hx hb dX4_number_0 rfl (lv_at hl 0 rfl) ?_
  obtain ⟨w_1, e_2, hf⟩ := bo hf
  refine cM_next B hK hG e_2 ⟨Nat.le_of_ble_eq_true rfl, Nat.le_of_ble_eq_true rfl⟩ ⟨Nat.zero_le _, Nat.zero_le _⟩ hl.1 (Nat.le_of_ble_eq_true rfl) dX4_number_1 (fun H locs hG => ?_)
  refine lv_aload_n hx hb dX4_number_4 rfl (lv_at hl 0 rfl) ?_
  refine mo_g15 B hK hG.1 dX4_number_5 ?_
  refine lv_bipush (v := 48) hx hb dX4_number_8 (by decide) ?_
  refine lv_icmp_ne (tgt := 32) hx hb dX4_number_10 (by decide) (fun c_3 => ?_) (fun c_3 => ?_)
  · have hf := ifn c_3 hf
    refine lv_iconst (v := (-1)) hx hb dX4_number_32 (by decide) ?_
    exact kr _ _ (Option.some.inj hf).symm _ _ hG _ _ dX4_number_33
  · have hf := ifp c_3 hf
    refine lv_aload_n hx hb dX4_number_13 rfl (lv_at hl 0 rfl) ?_
    refine mo_g16 B hK hG.1 dX4_number_14 ?_
    refine lv_iload_n hx hb dX4_number_17 rfl (lv_at hl 1 rfl) ?_
    refine lv_iload_n hx hb dX4_number_18 rfl (lv_at hl 2 rfl) ?_
    obtain ⟨r_4, e_5, hf⟩ := bo hf
    refine cM_within B e_5 ⟨Nat.le_of_ble_eq_true rfl, Nat.le_of_ble_eq_true rfl⟩ ⟨Nat.zero_le _, Nat.zero_le _⟩ hl.1 (Nat.le_of_ble_eq_true rfl) dX4_number_19 ?_
    refine lv_if_eq (tgt := 32) hx hb dX4_number_22 (by decide) (fun c_6 => ?_) (fun c_6 => ?_)
    · have hf := ifp c_6 hf
      refine lv_iconst (v := (-1)) hx hb dX4_number_32 (by decide) ?_
      exact kr _ _ (Option.some.inj hf).symm _ _ hG _ _ dX4_number_33
    · have hf := ifn c_6 hf
      refine lv_aload_n hx hb dX4_number_25 rfl (lv_at hl 0 rfl) ?_
      refine mo_g16 B hK hG.1 dX4_number_26 ?_
      refine lv_goto (tgt := 33) hx hb dX4_number_29 (by decide) ?_
      exact kr _ _ (Option.some.inj hf).symm _ _ hG _ _ dX4_number_33

theorem tM_number (l : Launch) (X : CX) (a : Nat → Nat) (rest : va_W) (w w' : MW) (x1 : Int32) (x2 : Int32) (r : Int32) (hf : fM_number w x1 x2 = some (r, w')) : RW l yX4_number cX4_number 3 (some .int) 2 0 0 41 [.ref (a 0), .int x1, .int x2] X (MP X a w ++ rest) (MP X a w' ++ rest) (some (.int r)) := by
  refine RW.mk (by decide) (Nat.le_of_ble_eq_true rfl) ?_
  intro p e s m below meth c B hr hlk hK hG ls hl
  exact wM_number B hK hf (fun r w h H locs hG pc ls hd => by cases h; exact w_iretW B hr hlk hG hd) hG hl
theorem cM_number (B : CallFix p m c cc nL s args lw_all RX4) (hK : KK X s) (hG : GG X (MP X a w ++ rest) s.heap H locs) {x1 : Int32} {x2 : Int32} {r : Int32} {w' : MW} (hf : fM_number w x1 x2 = some (r, w')) (hR : 2 + 1 ≤ R.frames ∧ 63 ≤ R.locals) (hcs : cells ≤ R.cells ∧ slots ≤ R.slots) (hl : ls.size = nL) (hcat : (st.map fun v => v.category).sum ≤ 8) (hdg : decode cc pc = .ok (.invokevirtual 165, 3)) (kk : ∀ (H1 : Heap) (locs1 : List Loc), GG X (MP X a w' ++ rest) s.heap H1 locs1 → W p l e R s m args below meth c H1 locs1 cells slots Q (F0 m (pc + 3) ls (.int r :: st))) : W p l e R s m args below meth c H locs cells slots Q (F0 m pc ls (.int x2 :: .int x1 :: .ref (a 0) :: st)) :=
  w_afterW (w_rV_RW (As := [.int x1, .int x2]) B hK hG (tM_number l X a rest w w' x1 x2 r hf) (lw_V q1671 q1673 qs55 q91 q1674) 0 rfl rfl (n := 2) (by decide +kernel) hR hcs rfl hl rfl hcat hdg) hG.2.2 kk
end S_number

section S_place
variable {p : Program} {l : Launch} {e : Env} {R : Room} {s : State} {m : MethodId} {args : Array Value} {below : List Frame} {meth : Method} {c : Code} {H : Heap} {locs : List Loc} {cells slots : Nat} {Q : State → Prop} {cc : ByteArray} {nL pc : Nat} {ls : Array Slot} {st : List Value} {X : CX} {a : Nat → Nat} {w : MW} {rest : va_W}
noncomputable def fM_place (w : MW)  : Option (Int32 × MW) :=
  b2 (fM_number w 0 66) fun r_1 w_2 =>
  if r_1 = (-1) then
    some ((-1), w_2)
  else
    (fM_isCell w_2 (r_1.toInt64)).bind fun r_5 =>
    if r_5 = 0 then
      some ((-1), w_2)
    else
      some (r_1, w_2)

set_option maxHeartbeats 4000000 in
theorem wM_place (B : CallFix p m c cX4_place 2 s args lw_all RX4) (hK : KK X s) {w : MW}  {res : Int32 × MW} (hf : fM_place w  = some res) (kr : ∀ (r : Int32) (w1 : MW), res = (r, w1) → ∀ (H : Heap) (locs : List Loc), GG X (MP X a w1 ++ rest) s.heap H locs → ∀ (pc : Nat) (ls : Array Slot), decode cX4_place pc = .ok (.ireturn, 1) → W p l e (RMw 3 0 0 63) s m args below meth c H locs 0 0 Q (F0 m pc ls [.int r])) {H : Heap} {locs : List Loc} (hG : GG X (MP X a w ++ rest) s.heap H locs) {ls : Array Slot} (hl : lv_has ls 2 [(0, .ref (a 0))]) : W p l e (RMw 3 0 0 63) s m args below meth c H locs 0 0 Q (F0 m 0 ls []) := by
  have hx := B.1
  have hb := B.2.1
  unfold fM_place at hf
  refine lv_aload_n hx hb dX4_place_0 rfl (lv_at hl 0 rfl) ?_
  refine lv_iconst (v := 0) hx hb dX4_place_1 (by decide) ?_
  refine lv_bipush (v := 66) hx hb dX4_place_2 (by decide) ?_
  obtain ⟨r_1, w_2, e_3, hf⟩ := b2s hf
  refine cM_number B hK hG e_3 ⟨Nat.le_of_ble_eq_true rfl, Nat.le_of_ble_eq_true rfl⟩ ⟨Nat.zero_le _, Nat.zero_le _⟩ hl.1 (Nat.le_of_ble_eq_true rfl) dX4_place_4 (fun H locs hG => ?_)
  refine lv_istore_n (lv' := [(1, .int r_1), (0, .ref (a 0))]) hx hb dX4_place_7 rfl hl (by decide) rfl (fun ls hl => ?_)
  refine lv_iload_n hx hb dX4_place_8 rfl (lv_at hl 0 rfl) ?_
  refine lv_iconst (v := (-1)) hx hb dX4_place_9 (by decide) ?_
  refine lv_icmp_eq (tgt := 22) hx hb dX4_place_10 (by decide) (fun c_4 => ?_) (fun c_4 => ?_)
  · have hf := ifp c_4 hf
    refine lv_iconst (v := (-1)) hx hb dX4_place_22 (by decide) ?_
    refine lv_goto (tgt := 27) hx hb dX4_place_23 (by decide) ?_
    exact kr _ _ (Option.some.inj hf).symm _ _ hG _ _ dX4_place_27
  · have hf := ifn c_4 hf
    refine lv_aload_n hx hb dX4_place_13 rfl (lv_at hl 1 rfl) ?_
    refine lv_iload_n hx hb dX4_place_14 rfl (lv_at hl 0 rfl) ?_
    refine lv_i2l hx hb dX4_place_15 rfl ?_
    obtain ⟨r_5, e_6, hf⟩ := bo hf
    refine cM_isCell B hK hG.2.2 hG.1 e_6 ⟨Nat.le_of_ble_eq_true rfl, Nat.le_of_ble_eq_true rfl⟩ ⟨Nat.zero_le _, Nat.zero_le _⟩ hl.1 (Nat.le_of_ble_eq_true rfl) dX4_place_16 ?_
    refine lv_if_ne (tgt := 26) hx hb dX4_place_19 (by decide) (fun c_7 => ?_) (fun c_7 => ?_)
    · have hf := ifn c_7 hf
      refine lv_iload_n hx hb dX4_place_26 rfl (lv_at hl 0 rfl) ?_
      exact kr _ _ (Option.some.inj hf).symm _ _ hG _ _ dX4_place_27
    · have hf := ifp c_7 hf
      refine lv_iconst (v := (-1)) hx hb dX4_place_22 (by decide) ?_
      refine lv_goto (tgt := 27) hx hb dX4_place_23 (by decide) ?_
      exact kr _ _ (Option.some.inj hf).symm _ _ hG _ _ dX4_place_27

theorem tM_place (l : Launch) (X : CX) (a : Nat → Nat) (rest : va_W) (w w' : MW)  (r : Int32) (hf : fM_place w  = some (r, w')) : RW l yX4_place cX4_place 2 (some .int) 3 0 0 63 [.ref (a 0)] X (MP X a w ++ rest) (MP X a w' ++ rest) (some (.int r)) := by
  refine RW.mk (by decide) (Nat.le_of_ble_eq_true rfl) ?_
  intro p e s m below meth c B hr hlk hK hG ls hl
  exact wM_place B hK hf (fun r w h H locs hG pc ls hd => by cases h; exact w_iretW B hr hlk hG hd) hG hl
theorem cM_place (B : CallFix p m c cc nL s args lw_all RX4) (hK : KK X s) (hG : GG X (MP X a w ++ rest) s.heap H locs)  {r : Int32} {w' : MW} (hf : fM_place w  = some (r, w')) (hR : 3 + 1 ≤ R.frames ∧ 84 ≤ R.locals) (hcs : cells ≤ R.cells ∧ slots ≤ R.slots) (hl : ls.size = nL) (hcat : (st.map fun v => v.category).sum ≤ 8) (hdg : decode cc pc = .ok (.invokevirtual 176, 3)) (kk : ∀ (H1 : Heap) (locs1 : List Loc), GG X (MP X a w' ++ rest) s.heap H1 locs1 → W p l e R s m args below meth c H1 locs1 cells slots Q (F0 m (pc + 3) ls (.int r :: st))) : W p l e R s m args below meth c H locs cells slots Q (F0 m pc ls (.ref (a 0) :: st)) :=
  w_afterW (w_rV_RW (As := []) B hK hG (tM_place l X a rest w w'  r hf) (lw_V q1676 q1678 qs56 q91 q1679) 0 rfl rfl (n := 0) (by decide +kernel) hR hcs rfl hl rfl hcat hdg) hG.2.2 kk
end S_place

section S_postOf
variable {p : Program} {l : Launch} {e : Env} {R : Room} {s : State} {m : MethodId} {args : Array Value} {below : List Frame} {meth : Method} {c : Code} {H : Heap} {locs : List Loc} {cells slots : Nat} {Q : State → Prop} {cc : ByteArray} {nL pc : Nat} {ls : Array Slot} {st : List Value} {X : CX} {a : Nat → Nat} {w : MW} {rest : va_W}
noncomputable def fM_postOf_J18 (w : MW)  : Option (Int32 × MW) :=
  b2 (fM_no w (-2)) fun r_1 w_2 =>
  some (r_1, w_2)

set_option maxHeartbeats 4000000 in
theorem wM_postOf_J18 (B : CallFix p m c cX4_postOf 3 s args lw_all RX4) (hK : KK X s) {w : MW}  {res : Int32 × MW} (hf : fM_postOf_J18 w  = some res) (kr : ∀ (r : Int32) (w1 : MW), res = (r, w1) → ∀ (H : Heap) (locs : List Loc), GG X (MP X a w1 ++ rest) s.heap H locs → ∀ (pc : Nat) (ls : Array Slot), decode cX4_postOf pc = .ok (.ireturn, 1) → W p l e (RMw 6 0 0 128) s m args below meth c H locs 0 0 Q (F0 m pc ls [.int r])) {H : Heap} {locs : List Loc} (hG : GG X (MP X a w ++ rest) s.heap H locs) {ls : Array Slot} (hl : lv_has ls 3 [(0, .ref (a 0))]) : W p l e (RMw 6 0 0 128) s m args below meth c H locs 0 0 Q (F0 m 18 ls []) := by
  have hx := B.1
  have hb := B.2.1
  unfold fM_postOf_J18 at hf
  refine lv_aload_n hx hb dX4_postOf_18 rfl (lv_at hl 0 rfl) ?_
  refine lv_bipush (v := (-2)) hx hb dX4_postOf_19 (by decide) ?_
  obtain ⟨r_1, w_2, e_3, hf⟩ := b2s hf
  refine cM_no B hK hG e_3 ⟨Nat.le_of_ble_eq_true rfl, Nat.le_of_ble_eq_true rfl⟩ ⟨Nat.zero_le _, Nat.zero_le _⟩ hl.1 (Nat.le_of_ble_eq_true rfl) dX4_postOf_21 (fun H locs hG => ?_)
  exact kr _ _ (Option.some.inj hf).symm _ _ hG _ _ dX4_postOf_24

noncomputable def fM_postOf (w : MW) (x1 : Int32) (x2 : Int32) : Option (Int32 × MW) :=
  (fM_isPost w (x1.toInt64)).bind fun r_1 =>
  if r_1 = 0 then
    fM_postOf_J18 w 
  else
    (fM_within x2 0 3).bind fun r_4 =>
    if r_4 = 0 then
      fM_postOf_J18 w 
    else
      (fM_asThingsAre w ).bind fun w_7 =>
      if x2 = 0 then
        (rd (w_7.2.1 4) 9 x1).bind fun v_18 =>
        some (v_18, w_7)
      else
        if x2 = 1 then
          (rd (w_7.2.1 5) 9 x1).bind fun v_16 =>
          some (v_16, w_7)
        else
          if x2 = 2 then
            (rd (w_7.2.1 6) 9 x1).bind fun v_14 =>
            some (v_14, w_7)
          else
            (fM_armOf w_7 x1).bind fun r_12 =>
            some (r_12, w_7)

set_option maxHeartbeats 4000000 in
theorem wM_postOf (B : CallFix p m c cX4_postOf 3 s args lw_all RX4) (hK : KK X s) {w : MW} {x1 : Int32} {x2 : Int32} {res : Int32 × MW} (hf : fM_postOf w x1 x2 = some res) (kr : ∀ (r : Int32) (w1 : MW), res = (r, w1) → ∀ (H : Heap) (locs : List Loc), GG X (MP X a w1 ++ rest) s.heap H locs → ∀ (pc : Nat) (ls : Array Slot), decode cX4_postOf pc = .ok (.ireturn, 1) → W p l e (RMw 6 0 0 128) s m args below meth c H locs 0 0 Q (F0 m pc ls [.int r])) {H : Heap} {locs : List Loc} (hG : GG X (MP X a w ++ rest) s.heap H locs) {ls : Array Slot} (hl : lv_has ls 3 [(0, .ref (a 0)), (1, .int x1), (2, .int x2)]) : W p l e (RMw 6 0 0 128) s m args below meth c H locs 0 0 Q (F0 m 0 ls []) := by
  have hx := B.1
  have hb := B.2.1
  unfold fM_postOf at hf
  refine lv_aload_n hx hb dX4_postOf_0 rfl (lv_at hl 0 rfl) ?_
  refine lv_iload_n hx hb dX4_postOf_1 rfl (lv_at hl 1 rfl) ?_
  refine lv_i2l hx hb dX4_postOf_2 rfl ?_
  obtain ⟨r_1, e_2, hf⟩ := bo hf
  refine cM_isPost B hK hG.2.2 hG.1 e_2 ⟨Nat.le_of_ble_eq_true rfl, Nat.le_of_ble_eq_true rfl⟩ ⟨Nat.zero_le _, Nat.zero_le _⟩ hl.1 (Nat.le_of_ble_eq_true rfl) dX4_postOf_3 ?_
  refine lv_if_eq (tgt := 18) hx hb dX4_postOf_6 (by decide) (fun c_3 => ?_) (fun c_3 => ?_)
  · have hf := ifp c_3 hf
    exact wM_postOf_J18 B hK hf kr hG (lv_sub hl [0] rfl)
  · have hf := ifn c_3 hf
    refine lv_iload_n hx hb dX4_postOf_9 rfl (lv_at hl 2 rfl) ?_
    refine lv_iconst (v := 0) hx hb dX4_postOf_10 (by decide) ?_
    refine lv_iconst (v := 3) hx hb dX4_postOf_11 (by decide) ?_
    obtain ⟨r_4, e_5, hf⟩ := bo hf
    refine cM_within B e_5 ⟨Nat.le_of_ble_eq_true rfl, Nat.le_of_ble_eq_true rfl⟩ ⟨Nat.zero_le _, Nat.zero_le _⟩ hl.1 (Nat.le_of_ble_eq_true rfl) dX4_postOf_12 ?_
    refine lv_if_ne (tgt := 25) hx hb dX4_postOf_15 (by decide) (fun c_6 => ?_) (fun c_6 => ?_)
    · have hf := ifn c_6 hf
      refine lv_aload_n hx hb dX4_postOf_25 rfl (lv_at hl 0 rfl) ?_
      obtain ⟨w_7, e_8, hf⟩ := bo hf
      refine cM_asThingsAre B hK hG e_8 ⟨Nat.le_of_ble_eq_true rfl, Nat.le_of_ble_eq_true rfl⟩ ⟨Nat.zero_le _, Nat.zero_le _⟩ hl.1 (Nat.le_of_ble_eq_true rfl) dX4_postOf_26 (fun H locs hG => ?_)
      refine lv_iload_n hx hb dX4_postOf_29 rfl (lv_at hl 2 rfl) ?_
      refine lv_if_ne (tgt := 42) hx hb dX4_postOf_30 (by decide) (fun c_9 => ?_) (fun c_9 => ?_)
      · have hf := ifn c_9 hf
        refine lv_iload_n hx hb dX4_postOf_42 rfl (lv_at hl 2 rfl) ?_
        refine lv_iconst (v := 1) hx hb dX4_postOf_43 (by decide) ?_
        refine lv_icmp_ne (tgt := 56) hx hb dX4_postOf_44 (by decide) (fun c_10 => ?_) (fun c_10 => ?_)
        · have hf := ifn c_10 hf
          refine lv_iload_n hx hb dX4_postOf_56 rfl (lv_at hl 2 rfl) ?_
          refine lv_iconst (v := 2) hx hb dX4_postOf_57 (by decide) ?_
          refine lv_icmp_ne (tgt := 70) hx hb dX4_postOf_58 (by decide) (fun c_11 => ?_) (fun c_11 => ?_)
          · have hf := ifn c_11 hf
            refine lv_aload_n hx hb dX4_postOf_70 rfl (lv_at hl 0 rfl) ?_
            refine lv_iload_n hx hb dX4_postOf_71 rfl (lv_at hl 1 rfl) ?_
            obtain ⟨r_12, e_13, hf⟩ := bo hf
            refine cM_armOf B hK hG.2.2 hG.1 e_13 ⟨Nat.le_of_ble_eq_true rfl, Nat.le_of_ble_eq_true rfl⟩ ⟨Nat.zero_le _, Nat.zero_le _⟩ hl.1 (Nat.le_of_ble_eq_true rfl) dX4_postOf_72 ?_
            exact kr _ _ (Option.some.inj hf).symm _ _ hG _ _ dX4_postOf_75
          · have hf := ifp c_11 hf
            refine lv_aload_n hx hb dX4_postOf_61 rfl (lv_at hl 0 rfl) ?_
            refine mo_g6 B hK hG.1 dX4_postOf_62 ?_
            refine lv_iload_n hx hb dX4_postOf_65 rfl (lv_at hl 1 rfl) ?_
            obtain ⟨v_14, e_15, hf⟩ := bo hf
            refine mo_ld6 B hK hG.1 e_15 dX4_postOf_66 ?_
            refine lv_goto (tgt := 75) hx hb dX4_postOf_67 (by decide) ?_
            exact kr _ _ (Option.some.inj hf).symm _ _ hG _ _ dX4_postOf_75
        · have hf := ifp c_10 hf
          refine lv_aload_n hx hb dX4_postOf_47 rfl (lv_at hl 0 rfl) ?_
          refine mo_g5 B hK hG.1 dX4_postOf_48 ?_
          refine lv_iload_n hx hb dX4_postOf_51 rfl (lv_at hl 1 rfl) ?_
          obtain ⟨v_16, e_17, hf⟩ := bo hf
          refine mo_ld5 B hK hG.1 e_17 dX4_postOf_52 ?_
          refine lv_goto (tgt := 75) hx hb dX4_postOf_53 (by decide) ?_
          exact kr _ _ (Option.some.inj hf).symm _ _ hG _ _ dX4_postOf_75
      · have hf := ifp c_9 hf
        refine lv_aload_n hx hb dX4_postOf_33 rfl (lv_at hl 0 rfl) ?_
        refine mo_g4 B hK hG.1 dX4_postOf_34 ?_
        refine lv_iload_n hx hb dX4_postOf_37 rfl (lv_at hl 1 rfl) ?_
        obtain ⟨v_18, e_19, hf⟩ := bo hf
        refine mo_ld4 B hK hG.1 e_19 dX4_postOf_38 ?_
        refine lv_goto (tgt := 75) hx hb dX4_postOf_39 (by decide) ?_
        exact kr _ _ (Option.some.inj hf).symm _ _ hG _ _ dX4_postOf_75
    · have hf := ifp c_6 hf
      exact wM_postOf_J18 B hK hf kr hG (lv_sub hl [0] rfl)

theorem tM_postOf (l : Launch) (X : CX) (a : Nat → Nat) (rest : va_W) (w w' : MW) (x1 : Int32) (x2 : Int32) (r : Int32) (hf : fM_postOf w x1 x2 = some (r, w')) : RW l yX4_postOf cX4_postOf 3 (some .int) 6 0 0 128 [.ref (a 0), .int x1, .int x2] X (MP X a w ++ rest) (MP X a w' ++ rest) (some (.int r)) := by
  refine RW.mk (by decide) (Nat.le_of_ble_eq_true rfl) ?_
  intro p e s m below meth c B hr hlk hK hG ls hl
  exact wM_postOf B hK hf (fun r w h H locs hG pc ls hd => by cases h; exact w_iretW B hr hlk hG hd) hG hl
end S_postOf

section S_beside
variable {p : Program} {l : Launch} {e : Env} {R : Room} {s : State} {m : MethodId} {args : Array Value} {below : List Frame} {meth : Method} {c : Code} {H : Heap} {locs : List Loc} {cells slots : Nat} {Q : State → Prop} {cc : ByteArray} {nL pc : Nat} {ls : Array Slot} {st : List Value} {X : CX} {a : Nat → Nat} {w : MW} {rest : va_W}
noncomputable def fM_beside_J48 (w : MW) (x3 : Int32) (t0 : Int32) (t1 : Int32) : Option (Int32) :=
  (some (t0 + t1)).bind fun x_1 =>
  (fM_within x3 0 ((w.1 0) - 1)).bind fun r_3 =>
  if r_3 = 0 then
    some (-1)
  else
    (fM_within x_1 0 ((w.1 0) - 1)).bind fun r_6 =>
    if r_6 = 0 then
      some (-1)
    else
      some ((10 * x3) + x_1)

set_option maxHeartbeats 4000000 in
theorem wM_beside_J48 (B : CallFix p m c cX4_beside 5 s args lw_all RX4) (hK : KK X s) {w : MW} (hP : va_P X.2.2.1 vwCl (MP X a w ++ rest) s.heap) {x3 : Int32} {t0 : Int32} {t1 : Int32} {res : Int32} (hf : fM_beside_J48 w x3 t0 t1 = some res) (kr : ∀ (r : Int32), res = r → ∀ (pc : Nat) (ls : Array Slot), decode cX4_beside pc = .ok (.ireturn, 1) → W p l e (RM 1 22) s m args below meth c s.heap [] 0 0 Q (F0 m pc ls [.int r])) {ls : Array Slot} (hl : lv_has ls 5 [(0, .ref (a 0)), (3, .int x3)]) : W p l e (RM 1 22) s m args below meth c s.heap [] 0 0 Q (F0 m 48 ls [.int t1, .int t0]) := by
  have hx := B.1
  have hb := B.2.1
  unfold fM_beside_J48 at hf
  refine lv_iadd hx hb dX4_beside_48 ?_
  obtain ⟨x_1, e_2, hf⟩ := bo hf
  refine w_istore (lv' := [(4, .int x_1), (0, .ref (a 0)), (3, .int x3)]) e_2 hx hb dX4_beside_49 hl (by decide) rfl (fun ls hl => ?_)
  refine lv_iload_n hx hb dX4_beside_51 rfl (lv_at hl 2 rfl) ?_
  refine lv_iconst (v := 0) hx hb dX4_beside_52 (by decide) ?_
  refine lv_aload_n hx hb dX4_beside_53 rfl (lv_at hl 1 rfl) ?_
  refine mo_g0 B hK hP dX4_beside_54 ?_
  refine lv_iconst (v := 1) hx hb dX4_beside_57 (by decide) ?_
  refine lv_isub hx hb dX4_beside_58 ?_
  obtain ⟨r_3, e_4, hf⟩ := bo hf
  refine cM_within B e_4 ⟨Nat.le_of_ble_eq_true rfl, Nat.le_of_ble_eq_true rfl⟩ ⟨Nat.zero_le _, Nat.zero_le _⟩ hl.1 (Nat.le_of_ble_eq_true rfl) dX4_beside_59 ?_
  refine lv_if_eq (tgt := 90) hx hb dX4_beside_62 (by decide) (fun c_5 => ?_) (fun c_5 => ?_)
  · have hf := ifp c_5 hf
    refine lv_iconst (v := (-1)) hx hb dX4_beside_90 (by decide) ?_
    exact kr _ (Option.some.inj hf).symm _ _ dX4_beside_91
  · have hf := ifn c_5 hf
    refine lv_iload hx hb dX4_beside_65 (lv_at hl 0 rfl) ?_
    refine lv_iconst (v := 0) hx hb dX4_beside_67 (by decide) ?_
    refine lv_aload_n hx hb dX4_beside_68 rfl (lv_at hl 1 rfl) ?_
    refine mo_g0 B hK hP dX4_beside_69 ?_
    refine lv_iconst (v := 1) hx hb dX4_beside_72 (by decide) ?_
    refine lv_isub hx hb dX4_beside_73 ?_
    obtain ⟨r_6, e_7, hf⟩ := bo hf
    refine cM_within B e_7 ⟨Nat.le_of_ble_eq_true rfl, Nat.le_of_ble_eq_true rfl⟩ ⟨Nat.zero_le _, Nat.zero_le _⟩ hl.1 (Nat.le_of_ble_eq_true rfl) dX4_beside_74 ?_
    refine lv_if_eq (tgt := 90) hx hb dX4_beside_77 (by decide) (fun c_8 => ?_) (fun c_8 => ?_)
    · have hf := ifp c_8 hf
      refine lv_iconst (v := (-1)) hx hb dX4_beside_90 (by decide) ?_
      exact kr _ (Option.some.inj hf).symm _ _ dX4_beside_91
    · have hf := ifn c_8 hf
      refine lv_bipush (v := 10) hx hb dX4_beside_80 (by decide) ?_
      refine lv_iload_n hx hb dX4_beside_82 rfl (lv_at hl 2 rfl) ?_
      refine lv_imul hx hb dX4_beside_83 ?_
      refine lv_iload hx hb dX4_beside_84 (lv_at hl 0 rfl) ?_
      refine lv_iadd hx hb dX4_beside_86 ?_
      refine lv_goto (tgt := 91) hx hb dX4_beside_87 (by decide) ?_
      exact kr _ (Option.some.inj hf).symm _ _ dX4_beside_91

noncomputable def fM_beside_J23 (w : MW) (x1 : Int32) (x2 : Int32) (t0 : Int32) (t1 : Int32) : Option (Int32) :=
  (some (t0 + t1)).bind fun x_1 =>
  if x2 = 3 then
    fM_beside_J48 w x_1 (irem x1 10) (-1)
  else
    if x2 = 4 then
      fM_beside_J48 w x_1 (irem x1 10) 1
    else
      fM_beside_J48 w x_1 (irem x1 10) 0

set_option maxHeartbeats 4000000 in
theorem wM_beside_J23 (B : CallFix p m c cX4_beside 5 s args lw_all RX4) (hK : KK X s) {w : MW} (hP : va_P X.2.2.1 vwCl (MP X a w ++ rest) s.heap) {x1 : Int32} {x2 : Int32} {t0 : Int32} {t1 : Int32} {res : Int32} (hf : fM_beside_J23 w x1 x2 t0 t1 = some res) (kr : ∀ (r : Int32), res = r → ∀ (pc : Nat) (ls : Array Slot), decode cX4_beside pc = .ok (.ireturn, 1) → W p l e (RM 1 22) s m args below meth c s.heap [] 0 0 Q (F0 m pc ls [.int r])) {ls : Array Slot} (hl : lv_has ls 5 [(0, .ref (a 0)), (1, .int x1), (2, .int x2)]) : W p l e (RM 1 22) s m args below meth c s.heap [] 0 0 Q (F0 m 23 ls [.int t1, .int t0]) := by
  have hx := B.1
  have hb := B.2.1
  unfold fM_beside_J23 at hf
  refine lv_iadd hx hb dX4_beside_23 ?_
  obtain ⟨x_1, e_2, hf⟩ := bo hf
  refine w_istore_n (lv' := [(3, .int x_1), (0, .ref (a 0)), (1, .int x1), (2, .int x2)]) e_2 hx hb dX4_beside_24 rfl hl (by decide) rfl (fun ls hl => ?_)
  refine lv_iload_n hx hb dX4_beside_25 rfl (lv_at hl 2 rfl) ?_
  refine lv_bipush (v := 10) hx hb dX4_beside_26 (by decide) ?_
  refine w_irem hx hb dX4_beside_28 (by decide) ?_
  refine lv_iload_n hx hb dX4_beside_29 rfl (lv_at hl 3 rfl) ?_
  refine lv_iconst (v := 3) hx hb dX4_beside_30 (by decide) ?_
  refine lv_icmp_ne (tgt := 38) hx hb dX4_beside_31 (by decide) (fun c_3 => ?_) (fun c_3 => ?_)
  · have hf := ifn c_3 hf
    refine lv_iload_n hx hb dX4_beside_38 rfl (lv_at hl 3 rfl) ?_
    refine lv_iconst (v := 4) hx hb dX4_beside_39 (by decide) ?_
    refine lv_icmp_ne (tgt := 47) hx hb dX4_beside_40 (by decide) (fun c_4 => ?_) (fun c_4 => ?_)
    · have hf := ifn c_4 hf
      refine lv_iconst (v := 0) hx hb dX4_beside_47 (by decide) ?_
      exact wM_beside_J48 B hK hP hf kr (lv_sub hl [1, 0] rfl)
    · have hf := ifp c_4 hf
      refine lv_iconst (v := 1) hx hb dX4_beside_43 (by decide) ?_
      refine lv_goto (tgt := 48) hx hb dX4_beside_44 (by decide) ?_
      exact wM_beside_J48 B hK hP hf kr (lv_sub hl [1, 0] rfl)
  · have hf := ifp c_3 hf
    refine lv_iconst (v := (-1)) hx hb dX4_beside_34 (by decide) ?_
    refine lv_goto (tgt := 48) hx hb dX4_beside_35 (by decide) ?_
    exact wM_beside_J48 B hK hP hf kr (lv_sub hl [1, 0] rfl)

noncomputable def fM_beside (w : MW) (x1 : Int32) (x2 : Int32) : Option (Int32) :=
  if x2 = 1 then
    fM_beside_J23 w x1 x2 (x1 / 10) (-1)
  else
    if x2 = 2 then
      fM_beside_J23 w x1 x2 (x1 / 10) 1
    else
      fM_beside_J23 w x1 x2 (x1 / 10) 0

set_option maxHeartbeats 4000000 in
theorem wM_beside (B : CallFix p m c cX4_beside 5 s args lw_all RX4) (hK : KK X s) {w : MW} (hP : va_P X.2.2.1 vwCl (MP X a w ++ rest) s.heap) {x1 : Int32} {x2 : Int32} {res : Int32} (hf : fM_beside w x1 x2 = some res) (kr : ∀ (r : Int32), res = r → ∀ (pc : Nat) (ls : Array Slot), decode cX4_beside pc = .ok (.ireturn, 1) → W p l e (RM 1 22) s m args below meth c s.heap [] 0 0 Q (F0 m pc ls [.int r])) {ls : Array Slot} (hl : lv_has ls 5 [(0, .ref (a 0)), (1, .int x1), (2, .int x2)]) : W p l e (RM 1 22) s m args below meth c s.heap [] 0 0 Q (F0 m 0 ls []) := by
  have hx := B.1
  have hb := B.2.1
  unfold fM_beside at hf
  refine lv_iload_n hx hb dX4_beside_0 rfl (lv_at hl 1 rfl) ?_
  refine lv_bipush (v := 10) hx hb dX4_beside_1 (by decide) ?_
  refine lv_idiv hx hb dX4_beside_3 (by decide) ?_
  refine lv_iload_n hx hb dX4_beside_4 rfl (lv_at hl 2 rfl) ?_
  refine lv_iconst (v := 1) hx hb dX4_beside_5 (by decide) ?_
  refine lv_icmp_ne (tgt := 13) hx hb dX4_beside_6 (by decide) (fun c_1 => ?_) (fun c_1 => ?_)
  · have hf := ifn c_1 hf
    refine lv_iload_n hx hb dX4_beside_13 rfl (lv_at hl 2 rfl) ?_
    refine lv_iconst (v := 2) hx hb dX4_beside_14 (by decide) ?_
    refine lv_icmp_ne (tgt := 22) hx hb dX4_beside_15 (by decide) (fun c_2 => ?_) (fun c_2 => ?_)
    · have hf := ifn c_2 hf
      refine lv_iconst (v := 0) hx hb dX4_beside_22 (by decide) ?_
      exact wM_beside_J23 B hK hP hf kr hl
    · have hf := ifp c_2 hf
      refine lv_iconst (v := 1) hx hb dX4_beside_18 (by decide) ?_
      refine lv_goto (tgt := 23) hx hb dX4_beside_19 (by decide) ?_
      exact wM_beside_J23 B hK hP hf kr hl
  · have hf := ifp c_1 hf
    refine lv_iconst (v := (-1)) hx hb dX4_beside_9 (by decide) ?_
    refine lv_goto (tgt := 23) hx hb dX4_beside_10 (by decide) ?_
    exact wM_beside_J23 B hK hP hf kr hl

theorem tM_beside (l : Launch) (X : CX) (a : Nat → Nat) (rest : va_W) (w : MW) (x1 : Int32) (x2 : Int32) (r : Int32) (hf : fM_beside w x1 x2 = some r) : RO l yX4_beside cX4_beside 5 (some .int) 1 22 [.ref (a 0), .int x1, .int x2] X (MP X a w ++ rest) (some (.int r)) := by
  refine RO.mk (by decide) (Nat.le_of_ble_eq_true rfl) ?_
  intro p e s m below meth c B hr hlk hK hP ls hl
  exact wM_beside B hK hP hf (fun r h pc ls hd => by cases h; exact w_iretR B hr hlk rfl hd) hl
theorem cM_beside (B : CallFix p m c cc nL s args lw_all RX4) (hK : KK X s) (hS : va_S (Az X) s.heap H locs) (hP : va_P X.2.2.1 vwCl (MP X a w ++ rest) H) {x1 : Int32} {x2 : Int32} {r : Int32} (hf : fM_beside w x1 x2 = some r) (hR : 1 + 1 ≤ R.frames ∧ 46 ≤ R.locals) (hcs : cells ≤ R.cells ∧ slots ≤ R.slots) (hl : ls.size = nL) (hcat : (st.map fun v => v.category).sum ≤ 8) (hdg : decode cc pc = .ok (.invokevirtual 297, 3)) (kk : W p l e R s m args below meth c H locs cells slots Q (F0 m (pc + 3) ls (.int r :: st))) : W p l e R s m args below meth c H locs cells slots Q (F0 m pc ls (.int x2 :: .int x1 :: .ref (a 0) :: st)) :=
  w_afterR (w_rV_RO (As := [.int x1, .int x2]) B hK hS hP (tM_beside l X a rest w x1 x2 r hf) (lw_V q1708 q1710 qs61 q91 q1711) 0 rfl rfl (n := 2) (by decide +kernel) hR hcs rfl hl rfl hcat hdg) kk
end S_beside

section S_can
variable {p : Program} {l : Launch} {e : Env} {R : Room} {s : State} {m : MethodId} {args : Array Value} {below : List Frame} {meth : Method} {c : Code} {H : Heap} {locs : List Loc} {cells slots : Nat} {Q : State → Prop} {cc : ByteArray} {nL pc : Nat} {ls : Array Slot} {st : List Value} {X : CX} {a : Nat → Nat} {w : MW} {rest : va_W}
noncomputable def fM_can (w : MW) (x1 : Int32) (x2 : Int32) : Option (Int32) :=
  if x2 = 0 then
    some 1
  else
    (fM_beside w x1 x2).bind fun r_2 =>
    if r_2 = (-1) then
      some 0
    else
      (fM_beside w x1 x2).bind fun r_5 =>
      (rd (w.2.1 1) 67 r_5).bind fun v_7 =>
      if v_7 = 0 then
        some 1
      else
        some 0

set_option maxHeartbeats 4000000 in
theorem wM_can (B : CallFix p m c cX4_can 3 s args lw_all RX4) (hK : KK X s) {w : MW} (hP : va_P X.2.2.1 vwCl (MP X a w ++ rest) s.heap) {x1 : Int32} {x2 : Int32} {res : Int32} (hf : fM_can w x1 x2 = some res) (kr : ∀ (r : Int32), res = r → narrow .boolean (.int r) = .int r → ∀ (pc : Nat) (ls : Array Slot), decode cX4_can pc = .ok (.ireturn, 1) → W p l e (RM 2 46) s m args below meth c s.heap [] 0 0 Q (F0 m pc ls [.int r])) {ls : Array Slot} (hl : lv_has ls 3 [(0, .ref (a 0)), (1, .int x1), (2, .int x2)]) : W p l e (RM 2 46) s m args below meth c s.heap [] 0 0 Q (F0 m 0 ls []) := by
  have hx := B.1
  have hb := B.2.1
  unfold fM_can at hf
  refine lv_iload_n hx hb dX4_can_0 rfl (lv_at hl 2 rfl) ?_
  refine lv_if_eq (tgt := 28) hx hb dX4_can_1 (by decide) (fun c_1 => ?_) (fun c_1 => ?_)
  · have hf := ifp c_1 hf
    refine lv_iconst (v := 1) hx hb dX4_can_28 (by decide) ?_
    refine lv_goto (tgt := 33) hx hb dX4_can_29 (by decide) ?_
    exact kr _ (Option.some.inj hf).symm (by decide) _ _ dX4_can_33
  · have hf := ifn c_1 hf
    refine lv_aload_n hx hb dX4_can_4 rfl (lv_at hl 0 rfl) ?_
    refine lv_iload_n hx hb dX4_can_5 rfl (lv_at hl 1 rfl) ?_
    refine lv_iload_n hx hb dX4_can_6 rfl (lv_at hl 2 rfl) ?_
    obtain ⟨r_2, e_3, hf⟩ := bo hf
    refine cM_beside B hK va_S.rf hP e_3 ⟨Nat.le_of_ble_eq_true rfl, Nat.le_of_ble_eq_true rfl⟩ ⟨Nat.zero_le _, Nat.zero_le _⟩ hl.1 (Nat.le_of_ble_eq_true rfl) dX4_can_7 ?_
    refine lv_iconst (v := (-1)) hx hb dX4_can_10 (by decide) ?_
    refine lv_icmp_eq (tgt := 32) hx hb dX4_can_11 (by decide) (fun c_4 => ?_) (fun c_4 => ?_)
    · have hf := ifp c_4 hf
      refine lv_iconst (v := 0) hx hb dX4_can_32 (by decide) ?_
      exact kr _ (Option.some.inj hf).symm (by decide) _ _ dX4_can_33
    · have hf := ifn c_4 hf
      refine lv_aload_n hx hb dX4_can_14 rfl (lv_at hl 0 rfl) ?_
      refine mo_g1 B hK hP dX4_can_15 ?_
      refine lv_aload_n hx hb dX4_can_18 rfl (lv_at hl 0 rfl) ?_
      refine lv_iload_n hx hb dX4_can_19 rfl (lv_at hl 1 rfl) ?_
      refine lv_iload_n hx hb dX4_can_20 rfl (lv_at hl 2 rfl) ?_
      obtain ⟨r_5, e_6, hf⟩ := bo hf
      refine cM_beside B hK va_S.rf hP e_6 ⟨Nat.le_of_ble_eq_true rfl, Nat.le_of_ble_eq_true rfl⟩ ⟨Nat.zero_le _, Nat.zero_le _⟩ hl.1 (Nat.le_of_ble_eq_true rfl) dX4_can_21 ?_
      obtain ⟨v_7, e_8, hf⟩ := bo hf
      refine mo_ld1 B hK hP e_8 dX4_can_24 ?_
      refine lv_if_ne (tgt := 32) hx hb dX4_can_25 (by decide) (fun c_9 => ?_) (fun c_9 => ?_)
      · have hf := ifn c_9 hf
        refine lv_iconst (v := 0) hx hb dX4_can_32 (by decide) ?_
        exact kr _ (Option.some.inj hf).symm (by decide) _ _ dX4_can_33
      · have hf := ifp c_9 hf
        refine lv_iconst (v := 1) hx hb dX4_can_28 (by decide) ?_
        refine lv_goto (tgt := 33) hx hb dX4_can_29 (by decide) ?_
        exact kr _ (Option.some.inj hf).symm (by decide) _ _ dX4_can_33

theorem tM_can (l : Launch) (X : CX) (a : Nat → Nat) (rest : va_W) (w : MW) (x1 : Int32) (x2 : Int32) (r : Int32) (hf : fM_can w x1 x2 = some r) : RO l yX4_can cX4_can 3 (some .boolean) 2 46 [.ref (a 0), .int x1, .int x2] X (MP X a w ++ rest) (some (.int r)) := by
  refine RO.mk (by decide) (Nat.le_of_ble_eq_true rfl) ?_
  intro p e s m below meth c B hr hlk hK hP ls hl
  exact wM_can B hK hP hf (fun r h hn pc ls hd => by cases h; exact w_zretR B hr hlk hn rfl hd) hl
theorem cM_can (B : CallFix p m c cc nL s args lw_all RX4) (hK : KK X s) (hS : va_S (Az X) s.heap H locs) (hP : va_P X.2.2.1 vwCl (MP X a w ++ rest) H) {x1 : Int32} {x2 : Int32} {r : Int32} (hf : fM_can w x1 x2 = some r) (hR : 2 + 1 ≤ R.frames ∧ 68 ≤ R.locals) (hcs : cells ≤ R.cells ∧ slots ≤ R.slots) (hl : ls.size = nL) (hcat : (st.map fun v => v.category).sum ≤ 8) (hdg : decode cc pc = .ok (.invokevirtual 300, 3)) (kk : W p l e R s m args below meth c H locs cells slots Q (F0 m (pc + 3) ls (.int r :: st))) : W p l e R s m args below meth c H locs cells slots Q (F0 m pc ls (.int x2 :: .int x1 :: .ref (a 0) :: st)) :=
  w_afterR (w_rV_RO (As := [.int x1, .int x2]) B hK hS hP (tM_can l X a rest w x1 x2 r hf) (lw_V q1704 q1706 qs60 q91 q1707) 0 rfl rfl (n := 2) (by decide +kernel) hR hcs rfl hl rfl hcat hdg) kk
end S_can

section S_walks
variable {p : Program} {l : Launch} {e : Env} {R : Room} {s : State} {m : MethodId} {args : Array Value} {below : List Frame} {meth : Method} {c : Code} {H : Heap} {locs : List Loc} {cells slots : Nat} {Q : State → Prop} {cc : ByteArray} {nL pc : Nat} {ls : Array Slot} {st : List Value} {X : CX} {a : Nat → Nat} {w : MW} {rest : va_W}
noncomputable def fM_walks_L2 (w : MW) (x1 : Int32) (x2 : Int32) : Option ((Int32 × MW) ⊕ (MW)) :=
  if 67 ≤ x2 then
    some (.inr w)
  else
    (mst w 26 67 x2 0).bind fun w_2 =>
    (some (x2 + 1)).bind fun x_4 =>
    some (.inl (x_4, w_2))

set_option maxHeartbeats 4000000 in
theorem wM_walks_L2 (B : CallFix p m c cX4_walks 6 s args lw_all RX4) (hK : KK X s) {w : MW} {x1 : Int32} {x2 : Int32} {res : (Int32 × MW) ⊕ (MW)} (hf : fM_walks_L2 w x1 x2 = some res) (kc : ∀ (y2 : Int32) (w1 : MW), res = .inl (y2, w1) → ∀ (H : Heap) (locs : List Loc), GG X (MP X a w1 ++ rest) s.heap H locs → ∀ (ls : Array Slot), lv_has ls 6 [(0, .ref (a 0)), (1, .int x1), (2, .int y2)] → W p l e (RMw 3 0 0 68) s m args below meth c H locs 0 0 Q (F0 m 2 ls [])) (ke21 : ∀ (w1 : MW), res = .inr w1 → ∀ (H : Heap) (locs : List Loc), GG X (MP X a w1 ++ rest) s.heap H locs → ∀ (ls : Array Slot), lv_has ls 6 [(0, .ref (a 0)), (1, .int x1)] → W p l e (RMw 3 0 0 68) s m args below meth c H locs 0 0 Q (F0 m 21 ls [])) {H : Heap} {locs : List Loc} (hG : GG X (MP X a w ++ rest) s.heap H locs) {ls : Array Slot} (hl : lv_has ls 6 [(0, .ref (a 0)), (1, .int x1), (2, .int x2)]) : W p l e (RMw 3 0 0 68) s m args below meth c H locs 0 0 Q (F0 m 2 ls []) := by
  have hx := B.1
  have hb := B.2.1
  unfold fM_walks_L2 at hf
  refine lv_iload_n hx hb dX4_walks_2 rfl (lv_at hl 2 rfl) ?_
  refine lv_bipush (v := 67) hx hb dX4_walks_3 (by decide) ?_
  refine lv_icmp_ge (tgt := 21) hx hb dX4_walks_5 (by decide) (fun c_1 => ?_) (fun c_1 => ?_)
  · have hf := ifp c_1 hf
    exact ke21 _ (Option.some.inj hf).symm _ _ hG _ (lv_sub hl [0, 1] rfl)
  · have hf := ifn c_1 hf
    refine lv_aload_n hx hb dX4_walks_8 rfl (lv_at hl 0 rfl) ?_
    refine mo_g26 B hK hG.1 dX4_walks_9 ?_
    refine lv_iload_n hx hb dX4_walks_12 rfl (lv_at hl 2 rfl) ?_
    refine lv_iconst (v := 0) hx hb dX4_walks_13 (by decide) ?_
    obtain ⟨w_2, e_3, hf⟩ := bo hf
    refine mo_st26 B hK hG e_3 dX4_walks_14 (fun H locs hG => ?_)
    obtain ⟨x_4, e_5, hf⟩ := bo hf
    refine w_iinc (k := 2) (lv' := [(2, .int x_4), (0, .ref (a 0)), (1, .int x1)]) e_5 hx hb dX4_walks_15 hl rfl (by decide) rfl (fun ls hl => ?_)
    refine lv_goto (tgt := 2) hx hb dX4_walks_18 (by decide) ?_
    exact kc _ _ (Option.some.inj hf).symm _ _ hG _ (lv_sub hl [1, 2, 0] rfl)

set_option maxHeartbeats 4000000 in
theorem vM_walks_L2 (B : CallFix p m c cX4_walks 6 s args lw_all RX4) (hK : KK X s) {w : MW} {x1 : Int32} {x2 : Int32} {res : MW} (hf : lp (fun q : Int32 × MW => fM_walks_L2 q.2 x1 q.1) (x2, w) = some res) (ke21 : ∀ (w1 : MW), res = w1 → ∀ (H : Heap) (locs : List Loc), GG X (MP X a w1 ++ rest) s.heap H locs → ∀ (ls : Array Slot), lv_has ls 6 [(0, .ref (a 0)), (1, .int x1)] → W p l e (RMw 3 0 0 68) s m args below meth c H locs 0 0 Q (F0 m 21 ls [])) {H : Heap} {locs : List Loc} (hG : GG X (MP X a w ++ rest) s.heap H locs) {ls : Array Slot} (hl : lv_has ls 6 [(0, .ref (a 0)), (1, .int x1), (2, .int x2)]) : W p l e (RMw 3 0 0 68) s m args below meth c H locs 0 0 Q (F0 m 2 ls []) := by
  refine lp_ind (r := res) (P := fun q : Int32 × MW => ∀ (H : Heap) (locs : List Loc) (ls : Array Slot), GG X (MP X a q.2 ++ rest) s.heap H locs → lv_has ls 6 [(0, .ref (a 0)), (1, .int x1), (2, .int q.1)] → W p l e (RMw 3 0 0 68) s m args below meth c H locs 0 0 Q (F0 m 2 ls [])) ?_ ?_ _ hf _ _ _ hG hl
  · intro q hb H locs ls hG hl
    exact wM_walks_L2 B hK hb (fun _ _ h => by cases h) (fun z0 h => ke21 z0 (Sum.inr.inj h)) hG hl
  · intro q q2 hb ih H locs ls hG hl
    exact wM_walks_L2 B hK hb (fun z0 z1 h => by cases h; exact fun H locs hG ls hl => ih H locs ls hG hl) (fun _ h => by cases h) hG hl

noncomputable def fM_walks_L47 (w : MW) (x2 : Int32) (x3 : Int32) (x4 : Int32) : Option ((Int32 × MW) ⊕ (MW)) :=
  if 5 ≤ x4 then
    some (.inr w)
  else
    (rd (w.2.1 26) 67 x3).bind fun v_2 =>
    if v_2 = x2 then
      (fM_can w x3 x4).bind fun r_7 =>
      if r_7 = 0 then
        (some (x4 + 1)).bind fun x_21 =>
        some (.inl (x_21, w))
      else
        (fM_beside w x3 x4).bind fun r_10 =>
        (rd (w.2.1 26) 67 r_10).bind fun v_12 =>
        if v_12 = 0 then
          (mst w 26 67 r_10 (x2 + 1)).bind fun w_17 =>
          (some (x4 + 1)).bind fun x_19 =>
          some (.inl (x_19, w_17))
        else
          (some (x4 + 1)).bind fun x_15 =>
          some (.inl (x_15, w))
    else
      (some (x4 + 1)).bind fun x_5 =>
      some (.inl (x_5, w))

set_option maxHeartbeats 4000000 in
theorem wM_walks_L47 (B : CallFix p m c cX4_walks 6 s args lw_all RX4) (hK : KK X s) {w : MW} {x2 : Int32} {x3 : Int32} {x4 : Int32} {res : (Int32 × MW) ⊕ (MW)} (hf : fM_walks_L47 w x2 x3 x4 = some res) (kc : ∀ (y4 : Int32) (w1 : MW), res = .inl (y4, w1) → ∀ (H : Heap) (locs : List Loc), GG X (MP X a w1 ++ rest) s.heap H locs → ∀ (ls : Array Slot), lv_has ls 6 [(0, .ref (a 0)), (2, .int x2), (3, .int x3), (4, .int y4)] → W p l e (RMw 3 0 0 68) s m args below meth c H locs 0 0 Q (F0 m 47 ls [])) (ke111 : ∀ (w1 : MW), res = .inr w1 → ∀ (H : Heap) (locs : List Loc), GG X (MP X a w1 ++ rest) s.heap H locs → ∀ (ls : Array Slot), lv_has ls 6 [(0, .ref (a 0)), (2, .int x2), (3, .int x3)] → W p l e (RMw 3 0 0 68) s m args below meth c H locs 0 0 Q (F0 m 111 ls [])) {H : Heap} {locs : List Loc} (hG : GG X (MP X a w ++ rest) s.heap H locs) {ls : Array Slot} (hl : lv_has ls 6 [(0, .ref (a 0)), (2, .int x2), (3, .int x3), (4, .int x4)]) : W p l e (RMw 3 0 0 68) s m args below meth c H locs 0 0 Q (F0 m 47 ls []) := by
  have hx := B.1
  have hb := B.2.1
  unfold fM_walks_L47 at hf
  refine lv_iload hx hb dX4_walks_47 (lv_at hl 3 rfl) ?_
  refine lv_iconst (v := 5) hx hb dX4_walks_49 (by decide) ?_
  refine lv_icmp_ge (tgt := 111) hx hb dX4_walks_50 (by decide) (fun c_1 => ?_) (fun c_1 => ?_)
  · have hf := ifp c_1 hf
    exact ke111 _ (Option.some.inj hf).symm _ _ hG _ (lv_sub hl [0, 1, 2] rfl)
  · have hf := ifn c_1 hf
    refine lv_aload_n hx hb dX4_walks_53 rfl (lv_at hl 0 rfl) ?_
    refine mo_g26 B hK hG.1 dX4_walks_54 ?_
    refine lv_iload_n hx hb dX4_walks_57 rfl (lv_at hl 2 rfl) ?_
    obtain ⟨v_2, e_3, hf⟩ := bo hf
    refine mo_ld26 B hK hG.1 e_3 dX4_walks_58 ?_
    refine lv_iload_n hx hb dX4_walks_59 rfl (lv_at hl 1 rfl) ?_
    refine lv_icmp_ne (tgt := 105) hx hb dX4_walks_60 (by decide) (fun c_4 => ?_) (fun c_4 => ?_)
    · have hf := ifn c_4 hf
      obtain ⟨x_5, e_6, hf⟩ := bo hf
      refine w_iinc (k := 3) (lv' := [(4, .int x_5), (0, .ref (a 0)), (2, .int x2), (3, .int x3)]) e_6 hx hb dX4_walks_105 hl rfl (by decide) rfl (fun ls hl => ?_)
      refine lv_goto (tgt := 47) hx hb dX4_walks_108 (by decide) ?_
      exact kc _ _ (Option.some.inj hf).symm _ _ hG _ (lv_sub hl [1, 2, 3, 0] rfl)
    · have hf := ifp c_4 hf
      refine lv_aload_n hx hb dX4_walks_63 rfl (lv_at hl 0 rfl) ?_
      refine lv_iload_n hx hb dX4_walks_64 rfl (lv_at hl 2 rfl) ?_
      refine lv_iload hx hb dX4_walks_65 (lv_at hl 3 rfl) ?_
      obtain ⟨r_7, e_8, hf⟩ := bo hf
      refine cM_can B hK hG.2.2 hG.1 e_8 ⟨Nat.le_of_ble_eq_true rfl, Nat.le_of_ble_eq_true rfl⟩ ⟨Nat.zero_le _, Nat.zero_le _⟩ hl.1 (Nat.le_of_ble_eq_true rfl) dX4_walks_67 ?_
      refine lv_if_ne (tgt := 76) hx hb dX4_walks_70 (by decide) (fun c_9 => ?_) (fun c_9 => ?_)
      · have hf := ifn c_9 hf
        refine lv_aload_n hx hb dX4_walks_76 rfl (lv_at hl 0 rfl) ?_
        refine lv_iload_n hx hb dX4_walks_77 rfl (lv_at hl 2 rfl) ?_
        refine lv_iload hx hb dX4_walks_78 (lv_at hl 3 rfl) ?_
        obtain ⟨r_10, e_11, hf⟩ := bo hf
        refine cM_beside B hK hG.2.2 hG.1 e_11 ⟨Nat.le_of_ble_eq_true rfl, Nat.le_of_ble_eq_true rfl⟩ ⟨Nat.zero_le _, Nat.zero_le _⟩ hl.1 (Nat.le_of_ble_eq_true rfl) dX4_walks_80 ?_
        refine lv_istore (lv' := [(5, .int r_10), (0, .ref (a 0)), (2, .int x2), (3, .int x3), (4, .int x4)]) hx hb dX4_walks_83 hl (by decide) rfl (fun ls hl => ?_)
        refine lv_aload_n hx hb dX4_walks_85 rfl (lv_at hl 1 rfl) ?_
        refine mo_g26 B hK hG.1 dX4_walks_86 ?_
        refine lv_iload hx hb dX4_walks_89 (lv_at hl 0 rfl) ?_
        obtain ⟨v_12, e_13, hf⟩ := bo hf
        refine mo_ld26 B hK hG.1 e_13 dX4_walks_91 ?_
        refine lv_if_ne (tgt := 105) hx hb dX4_walks_92 (by decide) (fun c_14 => ?_) (fun c_14 => ?_)
        · have hf := ifn c_14 hf
          obtain ⟨x_15, e_16, hf⟩ := bo hf
          refine w_iinc (k := 4) (lv' := [(4, .int x_15), (5, .int r_10), (0, .ref (a 0)), (2, .int x2), (3, .int x3)]) e_16 hx hb dX4_walks_105 hl rfl (by decide) rfl (fun ls hl => ?_)
          refine lv_goto (tgt := 47) hx hb dX4_walks_108 (by decide) ?_
          exact kc _ _ (Option.some.inj hf).symm _ _ hG _ (lv_sub hl [2, 3, 4, 0] rfl)
        · have hf := ifp c_14 hf
          refine lv_aload_n hx hb dX4_walks_95 rfl (lv_at hl 1 rfl) ?_
          refine mo_g26 B hK hG.1 dX4_walks_96 ?_
          refine lv_iload hx hb dX4_walks_99 (lv_at hl 0 rfl) ?_
          refine lv_iload_n hx hb dX4_walks_101 rfl (lv_at hl 2 rfl) ?_
          refine lv_iconst (v := 1) hx hb dX4_walks_102 (by decide) ?_
          refine lv_iadd hx hb dX4_walks_103 ?_
          obtain ⟨w_17, e_18, hf⟩ := bo hf
          refine mo_st26 B hK hG e_18 dX4_walks_104 (fun H locs hG => ?_)
          obtain ⟨x_19, e_20, hf⟩ := bo hf
          refine w_iinc (k := 4) (lv' := [(4, .int x_19), (5, .int r_10), (0, .ref (a 0)), (2, .int x2), (3, .int x3)]) e_20 hx hb dX4_walks_105 hl rfl (by decide) rfl (fun ls hl => ?_)
          refine lv_goto (tgt := 47) hx hb dX4_walks_108 (by decide) ?_
          exact kc _ _ (Option.some.inj hf).symm _ _ hG _ (lv_sub hl [2, 3, 4, 0] rfl)
      · have hf := ifp c_9 hf
        refine lv_goto (tgt := 105) hx hb dX4_walks_73 (by decide) ?_
        obtain ⟨x_21, e_22, hf⟩ := bo hf
        refine w_iinc (k := 3) (lv' := [(4, .int x_21), (0, .ref (a 0)), (2, .int x2), (3, .int x3)]) e_22 hx hb dX4_walks_105 hl rfl (by decide) rfl (fun ls hl => ?_)
        refine lv_goto (tgt := 47) hx hb dX4_walks_108 (by decide) ?_
        exact kc _ _ (Option.some.inj hf).symm _ _ hG _ (lv_sub hl [1, 2, 3, 0] rfl)

set_option maxHeartbeats 4000000 in
theorem vM_walks_L47 (B : CallFix p m c cX4_walks 6 s args lw_all RX4) (hK : KK X s) {w : MW} {x2 : Int32} {x3 : Int32} {x4 : Int32} {res : MW} (hf : lp (fun q : Int32 × MW => fM_walks_L47 q.2 x2 x3 q.1) (x4, w) = some res) (ke111 : ∀ (w1 : MW), res = w1 → ∀ (H : Heap) (locs : List Loc), GG X (MP X a w1 ++ rest) s.heap H locs → ∀ (ls : Array Slot), lv_has ls 6 [(0, .ref (a 0)), (2, .int x2), (3, .int x3)] → W p l e (RMw 3 0 0 68) s m args below meth c H locs 0 0 Q (F0 m 111 ls [])) {H : Heap} {locs : List Loc} (hG : GG X (MP X a w ++ rest) s.heap H locs) {ls : Array Slot} (hl : lv_has ls 6 [(0, .ref (a 0)), (2, .int x2), (3, .int x3), (4, .int x4)]) : W p l e (RMw 3 0 0 68) s m args below meth c H locs 0 0 Q (F0 m 47 ls []) := by
  refine lp_ind (r := res) (P := fun q : Int32 × MW => ∀ (H : Heap) (locs : List Loc) (ls : Array Slot), GG X (MP X a q.2 ++ rest) s.heap H locs → lv_has ls 6 [(0, .ref (a 0)), (2, .int x2), (3, .int x3), (4, .int q.1)] → W p l e (RMw 3 0 0 68) s m args below meth c H locs 0 0 Q (F0 m 47 ls [])) ?_ ?_ _ hf _ _ _ hG hl
  · intro q hb H locs ls hG hl
    exact wM_walks_L47 B hK hb (fun _ _ h => by cases h) (fun z0 h => ke111 z0 (Sum.inr.inj h)) hG hl
  · intro q q2 hb ih H locs ls hG hl
    exact wM_walks_L47 B hK hb (fun z0 z1 h => by cases h; exact fun H locs hG ls hl => ih H locs ls hG hl) (fun _ h => by cases h) hG hl

noncomputable def fM_walks_L38 (w : MW) (x2 : Int32) (x3 : Int32) : Option ((Int32 × MW) ⊕ (MW)) :=
  if 67 ≤ x3 then
    some (.inr w)
  else
    (lp (fun q : Int32 × MW => fM_walks_L47 q.2 x2 x3 q.1) (1, w)).bind (
      fun q_5 => (fun (w_2 : MW) =>
        (some (x3 + 1)).bind fun x_3 =>
        some (.inl (x_3, w_2))
      ) q_5
    )

set_option maxHeartbeats 4000000 in
theorem wM_walks_L38 (B : CallFix p m c cX4_walks 6 s args lw_all RX4) (hK : KK X s) {w : MW} {x2 : Int32} {x3 : Int32} {res : (Int32 × MW) ⊕ (MW)} (hf : fM_walks_L38 w x2 x3 = some res) (kc : ∀ (y3 : Int32) (w1 : MW), res = .inl (y3, w1) → ∀ (H : Heap) (locs : List Loc), GG X (MP X a w1 ++ rest) s.heap H locs → ∀ (ls : Array Slot), lv_has ls 6 [(0, .ref (a 0)), (2, .int x2), (3, .int y3)] → W p l e (RMw 3 0 0 68) s m args below meth c H locs 0 0 Q (F0 m 38 ls [])) (ke117 : ∀ (w1 : MW), res = .inr w1 → ∀ (H : Heap) (locs : List Loc), GG X (MP X a w1 ++ rest) s.heap H locs → ∀ (ls : Array Slot), lv_has ls 6 [(0, .ref (a 0)), (2, .int x2)] → W p l e (RMw 3 0 0 68) s m args below meth c H locs 0 0 Q (F0 m 117 ls [])) {H : Heap} {locs : List Loc} (hG : GG X (MP X a w ++ rest) s.heap H locs) {ls : Array Slot} (hl : lv_has ls 6 [(0, .ref (a 0)), (2, .int x2), (3, .int x3)]) : W p l e (RMw 3 0 0 68) s m args below meth c H locs 0 0 Q (F0 m 38 ls []) := by
  have hx := B.1
  have hb := B.2.1
  unfold fM_walks_L38 at hf
  refine lv_iload_n hx hb dX4_walks_38 rfl (lv_at hl 2 rfl) ?_
  refine lv_bipush (v := 67) hx hb dX4_walks_39 (by decide) ?_
  refine lv_icmp_ge (tgt := 117) hx hb dX4_walks_41 (by decide) (fun c_1 => ?_) (fun c_1 => ?_)
  · have hf := ifp c_1 hf
    exact ke117 _ (Option.some.inj hf).symm _ _ hG _ (lv_sub hl [0, 1] rfl)
  · have hf := ifn c_1 hf
    refine lv_iconst (v := 1) hx hb dX4_walks_44 (by decide) ?_
    refine lv_istore (lv' := [(4, .int 1), (0, .ref (a 0)), (2, .int x2), (3, .int x3)]) hx hb dX4_walks_45 hl (by decide) rfl (fun ls hl => ?_)
    obtain ⟨w_2, e_6, hf⟩ := bo hf
    try dsimp only at hf
    refine vM_walks_L47 B hK e_6 ?_ hG (lv_sub hl [1, 2, 3, 0] rfl)
    intro z0 hz
    cases hz
    intro H locs hG ls hl
    obtain ⟨x_3, e_4, hf⟩ := bo hf
    refine w_iinc (k := 2) (lv' := [(3, .int x_3), (0, .ref (a 0)), (2, .int x2)]) e_4 hx hb dX4_walks_111 hl rfl (by decide) rfl (fun ls hl => ?_)
    refine lv_goto (tgt := 38) hx hb dX4_walks_114 (by decide) ?_
    exact kc _ _ (Option.some.inj hf).symm _ _ hG _ (lv_sub hl [1, 2, 0] rfl)

set_option maxHeartbeats 4000000 in
theorem vM_walks_L38 (B : CallFix p m c cX4_walks 6 s args lw_all RX4) (hK : KK X s) {w : MW} {x2 : Int32} {x3 : Int32} {res : MW} (hf : lp (fun q : Int32 × MW => fM_walks_L38 q.2 x2 q.1) (x3, w) = some res) (ke117 : ∀ (w1 : MW), res = w1 → ∀ (H : Heap) (locs : List Loc), GG X (MP X a w1 ++ rest) s.heap H locs → ∀ (ls : Array Slot), lv_has ls 6 [(0, .ref (a 0)), (2, .int x2)] → W p l e (RMw 3 0 0 68) s m args below meth c H locs 0 0 Q (F0 m 117 ls [])) {H : Heap} {locs : List Loc} (hG : GG X (MP X a w ++ rest) s.heap H locs) {ls : Array Slot} (hl : lv_has ls 6 [(0, .ref (a 0)), (2, .int x2), (3, .int x3)]) : W p l e (RMw 3 0 0 68) s m args below meth c H locs 0 0 Q (F0 m 38 ls []) := by
  refine lp_ind (r := res) (P := fun q : Int32 × MW => ∀ (H : Heap) (locs : List Loc) (ls : Array Slot), GG X (MP X a q.2 ++ rest) s.heap H locs → lv_has ls 6 [(0, .ref (a 0)), (2, .int x2), (3, .int q.1)] → W p l e (RMw 3 0 0 68) s m args below meth c H locs 0 0 Q (F0 m 38 ls [])) ?_ ?_ _ hf _ _ _ hG hl
  · intro q hb H locs ls hG hl
    exact wM_walks_L38 B hK hb (fun _ _ h => by cases h) (fun z0 h => ke117 z0 (Sum.inr.inj h)) hG hl
  · intro q q2 hb ih H locs ls hG hl
    exact wM_walks_L38 B hK hb (fun z0 z1 h => by cases h; exact fun H locs hG ls hl => ih H locs ls hG hl) (fun _ h => by cases h) hG hl

noncomputable def fM_walks_L30 (w : MW) (x2 : Int32) : Option ((Int32 × MW) ⊕ (MW)) :=
  if 50 ≤ x2 then
    some (.inr w)
  else
    (lp (fun q : Int32 × MW => fM_walks_L38 q.2 x2 q.1) (0, w)).bind (
      fun q_5 => (fun (w_2 : MW) =>
        (some (x2 + 1)).bind fun x_3 =>
        some (.inl (x_3, w_2))
      ) q_5
    )

set_option maxHeartbeats 4000000 in
theorem wM_walks_L30 (B : CallFix p m c cX4_walks 6 s args lw_all RX4) (hK : KK X s) {w : MW} {x2 : Int32} {res : (Int32 × MW) ⊕ (MW)} (hf : fM_walks_L30 w x2 = some res) (kc : ∀ (y2 : Int32) (w1 : MW), res = .inl (y2, w1) → ∀ (H : Heap) (locs : List Loc), GG X (MP X a w1 ++ rest) s.heap H locs → ∀ (ls : Array Slot), lv_has ls 6 [(0, .ref (a 0)), (2, .int y2)] → W p l e (RMw 3 0 0 68) s m args below meth c H locs 0 0 Q (F0 m 30 ls [])) (ke123 : ∀ (w1 : MW), res = .inr w1 → ∀ (H : Heap) (locs : List Loc), GG X (MP X a w1 ++ rest) s.heap H locs → ∀ (ls : Array Slot), lv_has ls 6 [] → W p l e (RMw 3 0 0 68) s m args below meth c H locs 0 0 Q (F0 m 123 ls [])) {H : Heap} {locs : List Loc} (hG : GG X (MP X a w ++ rest) s.heap H locs) {ls : Array Slot} (hl : lv_has ls 6 [(0, .ref (a 0)), (2, .int x2)]) : W p l e (RMw 3 0 0 68) s m args below meth c H locs 0 0 Q (F0 m 30 ls []) := by
  have hx := B.1
  have hb := B.2.1
  unfold fM_walks_L30 at hf
  refine lv_iload_n hx hb dX4_walks_30 rfl (lv_at hl 1 rfl) ?_
  refine lv_bipush (v := 50) hx hb dX4_walks_31 (by decide) ?_
  refine lv_icmp_ge (tgt := 123) hx hb dX4_walks_33 (by decide) (fun c_1 => ?_) (fun c_1 => ?_)
  · have hf := ifp c_1 hf
    exact ke123 _ (Option.some.inj hf).symm _ _ hG _ (lv_sub hl [] rfl)
  · have hf := ifn c_1 hf
    refine lv_iconst (v := 0) hx hb dX4_walks_36 (by decide) ?_
    refine lv_istore_n (lv' := [(3, .int 0), (0, .ref (a 0)), (2, .int x2)]) hx hb dX4_walks_37 rfl hl (by decide) rfl (fun ls hl => ?_)
    obtain ⟨w_2, e_6, hf⟩ := bo hf
    try dsimp only at hf
    refine vM_walks_L38 B hK e_6 ?_ hG (lv_sub hl [1, 2, 0] rfl)
    intro z0 hz
    cases hz
    intro H locs hG ls hl
    obtain ⟨x_3, e_4, hf⟩ := bo hf
    refine w_iinc (k := 1) (lv' := [(2, .int x_3), (0, .ref (a 0))]) e_4 hx hb dX4_walks_117 hl rfl (by decide) rfl (fun ls hl => ?_)
    refine lv_goto (tgt := 30) hx hb dX4_walks_120 (by decide) ?_
    exact kc _ _ (Option.some.inj hf).symm _ _ hG _ (lv_sub hl [1, 0] rfl)

set_option maxHeartbeats 4000000 in
theorem vM_walks_L30 (B : CallFix p m c cX4_walks 6 s args lw_all RX4) (hK : KK X s) {w : MW} {x2 : Int32} {res : MW} (hf : lp (fun q : Int32 × MW => fM_walks_L30 q.2 q.1) (x2, w) = some res) (ke123 : ∀ (w1 : MW), res = w1 → ∀ (H : Heap) (locs : List Loc), GG X (MP X a w1 ++ rest) s.heap H locs → ∀ (ls : Array Slot), lv_has ls 6 [] → W p l e (RMw 3 0 0 68) s m args below meth c H locs 0 0 Q (F0 m 123 ls [])) {H : Heap} {locs : List Loc} (hG : GG X (MP X a w ++ rest) s.heap H locs) {ls : Array Slot} (hl : lv_has ls 6 [(0, .ref (a 0)), (2, .int x2)]) : W p l e (RMw 3 0 0 68) s m args below meth c H locs 0 0 Q (F0 m 30 ls []) := by
  refine lp_ind (r := res) (P := fun q : Int32 × MW => ∀ (H : Heap) (locs : List Loc) (ls : Array Slot), GG X (MP X a q.2 ++ rest) s.heap H locs → lv_has ls 6 [(0, .ref (a 0)), (2, .int q.1)] → W p l e (RMw 3 0 0 68) s m args below meth c H locs 0 0 Q (F0 m 30 ls [])) ?_ ?_ _ hf _ _ _ hG hl
  · intro q hb H locs ls hG hl
    exact wM_walks_L30 B hK hb (fun _ _ h => by cases h) (fun z0 h => ke123 z0 (Sum.inr.inj h)) hG hl
  · intro q q2 hb ih H locs ls hG hl
    exact wM_walks_L30 B hK hb (fun z0 z1 h => by cases h; exact fun H locs hG ls hl => ih H locs ls hG hl) (fun _ h => by cases h) hG hl

noncomputable def fM_walks (w : MW) (x1 : Int32) : Option (MW) :=
  (lp (fun q : Int32 × MW => fM_walks_L2 q.2 x1 q.1) (0, w)).bind (
    fun q_7 => (fun (w_1 : MW) =>
      (mst w_1 26 67 x1 1).bind fun w_2 =>
      (lp (fun q : Int32 × MW => fM_walks_L30 q.2 q.1) (1, w_2)).bind (
        fun q_5 => (fun (w_4 : MW) =>
          some w_4
        ) q_5
      )
    ) q_7
  )

set_option maxHeartbeats 4000000 in
theorem wM_walks (B : CallFix p m c cX4_walks 6 s args lw_all RX4) (hK : KK X s) {w : MW} {x1 : Int32} {res : MW} (hf : fM_walks w x1 = some res) (kr : ∀ (w1 : MW), res = w1 → ∀ (H : Heap) (locs : List Loc), GG X (MP X a w1 ++ rest) s.heap H locs → ∀ (pc : Nat) (ls : Array Slot), decode cX4_walks pc = .ok (.return_, 1) → W p l e (RMw 3 0 0 68) s m args below meth c H locs 0 0 Q (F0 m pc ls [])) {H : Heap} {locs : List Loc} (hG : GG X (MP X a w ++ rest) s.heap H locs) {ls : Array Slot} (hl : lv_has ls 6 [(0, .ref (a 0)), (1, .int x1)]) : W p l e (RMw 3 0 0 68) s m args below meth c H locs 0 0 Q (F0 m 0 ls []) := by
  have hx := B.1
  have hb := B.2.1
  unfold fM_walks at hf
  refine lv_iconst (v := 0) hx hb dX4_walks_0 (by decide) ?_
  refine lv_istore_n (lv' := [(2, .int 0), (0, .ref (a 0)), (1, .int x1)]) hx hb dX4_walks_1 rfl hl (by decide) rfl (fun ls hl => ?_)
  obtain ⟨w_1, e_8, hf⟩ := bo hf
  try dsimp only at hf
  refine vM_walks_L2 B hK e_8 ?_ hG (lv_sub hl [1, 2, 0] rfl)
  intro z0 hz
  cases hz
  intro H locs hG ls hl
  refine lv_aload_n hx hb dX4_walks_21 rfl (lv_at hl 0 rfl) ?_
  refine mo_g26 B hK hG.1 dX4_walks_22 ?_
  refine lv_iload_n hx hb dX4_walks_25 rfl (lv_at hl 1 rfl) ?_
  refine lv_iconst (v := 1) hx hb dX4_walks_26 (by decide) ?_
  obtain ⟨w_2, e_3, hf⟩ := bo hf
  refine mo_st26 B hK hG e_3 dX4_walks_27 (fun H locs hG => ?_)
  refine lv_iconst (v := 1) hx hb dX4_walks_28 (by decide) ?_
  refine lv_istore_n (lv' := [(2, .int 1), (0, .ref (a 0)), (1, .int x1)]) hx hb dX4_walks_29 rfl hl (by decide) rfl (fun ls hl => ?_)
  obtain ⟨w_4, e_6, hf⟩ := bo hf
  try dsimp only at hf
  refine vM_walks_L30 B hK e_6 ?_ hG (lv_sub hl [1, 0] rfl)
  intro z0 hz
  cases hz
  intro H locs hG ls hl
  exact kr _ (Option.some.inj hf).symm _ _ hG _ _ dX4_walks_123

theorem tM_walks (l : Launch) (X : CX) (a : Nat → Nat) (rest : va_W) (w w' : MW) (x1 : Int32) (hf : fM_walks w x1 = some w') : RW l yX4_walks cX4_walks 6 none 3 0 0 68 [.ref (a 0), .int x1] X (MP X a w ++ rest) (MP X a w' ++ rest) none := by
  refine RW.mk (by decide) (Nat.le_of_ble_eq_true rfl) ?_
  intro p e s m below meth c B hr hlk hK hG ls hl
  exact wM_walks B hK hf (fun w h H locs hG pc ls hd => by cases h; exact w_vretW B hr hlk hG hd) hG hl
theorem cM_walks (B : CallFix p m c cc nL s args lw_all RX4) (hK : KK X s) (hG : GG X (MP X a w ++ rest) s.heap H locs) {x1 : Int32} {w' : MW} (hf : fM_walks w x1 = some w') (hR : 3 + 1 ≤ R.frames ∧ 93 ≤ R.locals) (hcs : cells ≤ R.cells ∧ slots ≤ R.slots) (hl : ls.size = nL) (hcat : (st.map fun v => v.category).sum ≤ 8) (hdg : decode cc pc = .ok (.invokevirtual 303, 3)) (kk : ∀ (H1 : Heap) (locs1 : List Loc), GG X (MP X a w' ++ rest) s.heap H1 locs1 → W p l e R s m args below meth c H1 locs1 cells slots Q (F0 m (pc + 3) ls st)) : W p l e R s m args below meth c H locs cells slots Q (F0 m pc ls (.int x1 :: .ref (a 0) :: st)) :=
  w_afterWv (w_rV_RW (As := [.int x1]) B hK hG (tM_walks l X a rest w w' x1 hf) (lw_V q1700 q1702 qs59 q91 q1703) 0 rfl rfl (n := 1) (by decide +kernel) hR hcs rfl hl rfl hcat hdg) hG.2.2 kk
end S_walks

section S_pathOf
variable {p : Program} {l : Launch} {e : Env} {R : Room} {s : State} {m : MethodId} {args : Array Value} {below : List Frame} {meth : Method} {c : Code} {H : Heap} {locs : List Loc} {cells slots : Nat} {Q : State → Prop} {cc : ByteArray} {nL pc : Nat} {ls : Array Slot} {st : List Value} {X : CX} {a : Nat → Nat} {w : MW} {rest : va_W}
noncomputable def fM_pathOf (w : MW) (x1 : Int32) (x2 : Int32) : Option (Int32 × MW) :=
  (fM_walks w x1).bind fun w_1 =>
  (rd (w_1.2.1 26) 67 x2).bind fun v_3 =>
  some ((v_3 - 1), w_1)

set_option maxHeartbeats 4000000 in
theorem wM_pathOf (B : CallFix p m c cX4_pathOf 3 s args lw_all RX4) (hK : KK X s) {w : MW} {x1 : Int32} {x2 : Int32} {res : Int32 × MW} (hf : fM_pathOf w x1 x2 = some res) (kr : ∀ (r : Int32) (w1 : MW), res = (r, w1) → ∀ (H : Heap) (locs : List Loc), GG X (MP X a w1 ++ rest) s.heap H locs → ∀ (pc : Nat) (ls : Array Slot), decode cX4_pathOf pc = .ok (.ireturn, 1) → W p l e (RMw 4 0 0 93) s m args below meth c H locs 0 0 Q (F0 m pc ls [.int r])) {H : Heap} {locs : List Loc} (hG : GG X (MP X a w ++ rest) s.heap H locs) {ls : Array Slot} (hl : lv_has ls 3 [(0, .ref (a 0)), (1, .int x1), (2, .int x2)]) : W p l e (RMw 4 0 0 93) s m args below meth c H locs 0 0 Q (F0 m 0 ls []) := by
  have hx := B.1
  have hb := B.2.1
  unfold fM_pathOf at hf
  refine lv_aload_n hx hb dX4_pathOf_0 rfl (lv_at hl 0 rfl) ?_
  refine lv_iload_n hx hb dX4_pathOf_1 rfl (lv_at hl 1 rfl) ?_
  obtain ⟨w_1, e_2, hf⟩ := bo hf
  refine cM_walks B hK hG e_2 ⟨Nat.le_of_ble_eq_true rfl, Nat.le_of_ble_eq_true rfl⟩ ⟨Nat.zero_le _, Nat.zero_le _⟩ hl.1 (Nat.le_of_ble_eq_true rfl) dX4_pathOf_2 (fun H locs hG => ?_)
  refine lv_aload_n hx hb dX4_pathOf_5 rfl (lv_at hl 0 rfl) ?_
  refine mo_g26 B hK hG.1 dX4_pathOf_6 ?_
  refine lv_iload_n hx hb dX4_pathOf_9 rfl (lv_at hl 2 rfl) ?_
  obtain ⟨v_3, e_4, hf⟩ := bo hf
  refine mo_ld26 B hK hG.1 e_4 dX4_pathOf_10 ?_
  refine lv_iconst (v := 1) hx hb dX4_pathOf_11 (by decide) ?_
  refine lv_isub hx hb dX4_pathOf_12 ?_
  exact kr _ _ (Option.some.inj hf).symm _ _ hG _ _ dX4_pathOf_13

theorem tM_pathOf (l : Launch) (X : CX) (a : Nat → Nat) (rest : va_W) (w w' : MW) (x1 : Int32) (x2 : Int32) (r : Int32) (hf : fM_pathOf w x1 x2 = some (r, w')) : RW l yX4_pathOf cX4_pathOf 3 (some .int) 4 0 0 93 [.ref (a 0), .int x1, .int x2] X (MP X a w ++ rest) (MP X a w' ++ rest) (some (.int r)) := by
  refine RW.mk (by decide) (Nat.le_of_ble_eq_true rfl) ?_
  intro p e s m below meth c B hr hlk hK hG ls hl
  exact wM_pathOf B hK hf (fun r w h H locs hG pc ls hd => by cases h; exact w_iretW B hr hlk hG hd) hG hl
theorem cM_pathOf (B : CallFix p m c cc nL s args lw_all RX4) (hK : KK X s) (hG : GG X (MP X a w ++ rest) s.heap H locs) {x1 : Int32} {x2 : Int32} {r : Int32} {w' : MW} (hf : fM_pathOf w x1 x2 = some (r, w')) (hR : 4 + 1 ≤ R.frames ∧ 115 ≤ R.locals) (hcs : cells ≤ R.cells ∧ slots ≤ R.slots) (hl : ls.size = nL) (hcat : (st.map fun v => v.category).sum ≤ 8) (hdg : decode cc pc = .ok (.invokevirtual 235, 3)) (kk : ∀ (H1 : Heap) (locs1 : List Loc), GG X (MP X a w' ++ rest) s.heap H1 locs1 → W p l e R s m args below meth c H1 locs1 cells slots Q (F0 m (pc + 3) ls (.int r :: st))) : W p l e R s m args below meth c H locs cells slots Q (F0 m pc ls (.int x2 :: .int x1 :: .ref (a 0) :: st)) :=
  w_afterW (w_rV_RW (As := [.int x1, .int x2]) B hK hG (tM_pathOf l X a rest w w' x1 x2 r hf) (lw_V q1696 q1698 qs58 q91 q1699) 0 rfl rfl (n := 2) (by decide +kernel) hR hcs rfl hl rfl hcat hdg) hG.2.2 kk
end S_pathOf

section S_walkerOf
variable {p : Program} {l : Launch} {e : Env} {R : Room} {s : State} {m : MethodId} {args : Array Value} {below : List Frame} {meth : Method} {c : Code} {H : Heap} {locs : List Loc} {cells slots : Nat} {Q : State → Prop} {cc : ByteArray} {nL pc : Nat} {ls : Array Slot} {st : List Value} {X : CX} {a : Nat → Nat} {w : MW} {rest : va_W}
noncomputable def fM_walkerOf (w : MW) (x1 : Int32) (x2 : Int32) : Option (Int32 × MW) :=
  (fM_isWalker w x1).bind fun r_1 =>
  if r_1 = 0 then
    b2 (fM_no w (-2)) fun r_23 w_24 =>
    some (r_23, w_24)
  else
    if x2 = 0 then
      (rd (w.2.1 8) 4 x1).bind fun v_5 =>
      some (v_5, w)
    else
      if x2 = 1 then
        (rd (w.2.1 9) 4 x1).bind fun v_8 =>
        some (v_8, w)
      else
        if x2 = 2 then
          (fM_isLost w x1).bind fun r_11 =>
          if r_11 = 0 then
            some (0, w)
          else
            some (1, w)
        else
          if x2 = 3 then
            (rd (w.2.1 8) 4 x1).bind fun v_15 =>
            b2 (fM_pathOf w v_15 (w.1 2)) fun r_17 w_18 =>
            some (r_17, w_18)
          else
            b2 (fM_no w (-2)) fun r_20 w_21 =>
            some (r_20, w_21)

set_option maxHeartbeats 4000000 in
theorem wM_walkerOf (B : CallFix p m c cX4_walkerOf 3 s args lw_all RX4) (hK : KK X s) {w : MW} {x1 : Int32} {x2 : Int32} {res : Int32 × MW} (hf : fM_walkerOf w x1 x2 = some res) (kr : ∀ (r : Int32) (w1 : MW), res = (r, w1) → ∀ (H : Heap) (locs : List Loc), GG X (MP X a w1 ++ rest) s.heap H locs → ∀ (pc : Nat) (ls : Array Slot), decode cX4_walkerOf pc = .ok (.ireturn, 1) → W p l e (RMw 5 0 0 115) s m args below meth c H locs 0 0 Q (F0 m pc ls [.int r])) {H : Heap} {locs : List Loc} (hG : GG X (MP X a w ++ rest) s.heap H locs) {ls : Array Slot} (hl : lv_has ls 3 [(0, .ref (a 0)), (1, .int x1), (2, .int x2)]) : W p l e (RMw 5 0 0 115) s m args below meth c H locs 0 0 Q (F0 m 0 ls []) := by
  have hx := B.1
  have hb := B.2.1
  unfold fM_walkerOf at hf
  refine lv_aload_n hx hb dX4_walkerOf_0 rfl (lv_at hl 0 rfl) ?_
  refine lv_iload_n hx hb dX4_walkerOf_1 rfl (lv_at hl 1 rfl) ?_
  obtain ⟨r_1, e_2, hf⟩ := bo hf
  refine cM_isWalker B hK hG.2.2 hG.1 e_2 ⟨Nat.le_of_ble_eq_true rfl, Nat.le_of_ble_eq_true rfl⟩ ⟨Nat.zero_le _, Nat.zero_le _⟩ hl.1 (Nat.le_of_ble_eq_true rfl) dX4_walkerOf_2 ?_
  refine lv_if_ne (tgt := 15) hx hb dX4_walkerOf_5 (by decide) (fun c_3 => ?_) (fun c_3 => ?_)
  · have hf := ifn c_3 hf
    refine lv_iload_n hx hb dX4_walkerOf_15 rfl (lv_at hl 2 rfl) ?_
    by_cases c_4 : x2 = 0
    · have hf := ifp c_4 hf
      refine w_tab (tgt := 48) 0 c_4 hx hb dX4_walkerOf_16 (by decide) (by decide) rfl (by decide) ?_
      refine lv_aload_n hx hb dX4_walkerOf_48 rfl (lv_at hl 0 rfl) ?_
      refine mo_g8 B hK hG.1 dX4_walkerOf_49 ?_
      refine lv_iload_n hx hb dX4_walkerOf_52 rfl (lv_at hl 1 rfl) ?_
      obtain ⟨v_5, e_6, hf⟩ := bo hf
      refine mo_ld8 B hK hG.1 e_6 dX4_walkerOf_53 ?_
      exact kr _ _ (Option.some.inj hf).symm _ _ hG _ _ dX4_walkerOf_54
    · have hf := ifn c_4 hf
      by_cases c_7 : x2 = 1
      · have hf := ifp c_7 hf
        refine w_tab (tgt := 55) 1 c_7 hx hb dX4_walkerOf_16 (by decide) (by decide) rfl (by decide) ?_
        refine lv_aload_n hx hb dX4_walkerOf_55 rfl (lv_at hl 0 rfl) ?_
        refine mo_g9 B hK hG.1 dX4_walkerOf_56 ?_
        refine lv_iload_n hx hb dX4_walkerOf_59 rfl (lv_at hl 1 rfl) ?_
        obtain ⟨v_8, e_9, hf⟩ := bo hf
        refine mo_ld9 B hK hG.1 e_9 dX4_walkerOf_60 ?_
        exact kr _ _ (Option.some.inj hf).symm _ _ hG _ _ dX4_walkerOf_61
      · have hf := ifn c_7 hf
        by_cases c_10 : x2 = 2
        · have hf := ifp c_10 hf
          refine w_tab (tgt := 62) 2 c_10 hx hb dX4_walkerOf_16 (by decide) (by decide) rfl (by decide) ?_
          refine lv_aload_n hx hb dX4_walkerOf_62 rfl (lv_at hl 0 rfl) ?_
          refine lv_iload_n hx hb dX4_walkerOf_63 rfl (lv_at hl 1 rfl) ?_
          obtain ⟨r_11, e_12, hf⟩ := bo hf
          refine cM_isLost B hK hG.2.2 hG.1 e_12 ⟨Nat.le_of_ble_eq_true rfl, Nat.le_of_ble_eq_true rfl⟩ ⟨Nat.zero_le _, Nat.zero_le _⟩ hl.1 (Nat.le_of_ble_eq_true rfl) dX4_walkerOf_64 ?_
          refine lv_if_eq (tgt := 74) hx hb dX4_walkerOf_67 (by decide) (fun c_13 => ?_) (fun c_13 => ?_)
          · have hf := ifp c_13 hf
            refine lv_iconst (v := 0) hx hb dX4_walkerOf_74 (by decide) ?_
            exact kr _ _ (Option.some.inj hf).symm _ _ hG _ _ dX4_walkerOf_75
          · have hf := ifn c_13 hf
            refine lv_iconst (v := 1) hx hb dX4_walkerOf_70 (by decide) ?_
            refine lv_goto (tgt := 75) hx hb dX4_walkerOf_71 (by decide) ?_
            exact kr _ _ (Option.some.inj hf).symm _ _ hG _ _ dX4_walkerOf_75
        · have hf := ifn c_10 hf
          by_cases c_14 : x2 = 3
          · have hf := ifp c_14 hf
            refine w_tab (tgt := 76) 3 c_14 hx hb dX4_walkerOf_16 (by decide) (by decide) rfl (by decide) ?_
            refine lv_aload_n hx hb dX4_walkerOf_76 rfl (lv_at hl 0 rfl) ?_
            refine lv_aload_n hx hb dX4_walkerOf_77 rfl (lv_at hl 0 rfl) ?_
            refine mo_g8 B hK hG.1 dX4_walkerOf_78 ?_
            refine lv_iload_n hx hb dX4_walkerOf_81 rfl (lv_at hl 1 rfl) ?_
            obtain ⟨v_15, e_16, hf⟩ := bo hf
            refine mo_ld8 B hK hG.1 e_16 dX4_walkerOf_82 ?_
            refine lv_aload_n hx hb dX4_walkerOf_83 rfl (lv_at hl 0 rfl) ?_
            refine mo_g2 B hK hG.1 dX4_walkerOf_84 ?_
            obtain ⟨r_17, w_18, e_19, hf⟩ := b2s hf
            refine cM_pathOf B hK hG e_19 ⟨Nat.le_of_ble_eq_true rfl, Nat.le_of_ble_eq_true rfl⟩ ⟨Nat.zero_le _, Nat.zero_le _⟩ hl.1 (Nat.le_of_ble_eq_true rfl) dX4_walkerOf_87 (fun H locs hG => ?_)
            exact kr _ _ (Option.some.inj hf).symm _ _ hG _ _ dX4_walkerOf_90
          · have hf := ifn c_14 hf
            refine lv_tableOut (tgt := 91) hx hb dX4_walkerOf_16 (by have := lv_neT c_4 (a := 0) rfl; have := lv_neT c_7 (a := 1) rfl; have := lv_neT c_10 (a := 2) rfl; have := lv_neT c_14 (a := 3) rfl; omega) (by decide) ?_
            refine lv_aload_n hx hb dX4_walkerOf_91 rfl (lv_at hl 0 rfl) ?_
            refine lv_bipush (v := (-2)) hx hb dX4_walkerOf_92 (by decide) ?_
            obtain ⟨r_20, w_21, e_22, hf⟩ := b2s hf
            refine cM_no B hK hG e_22 ⟨Nat.le_of_ble_eq_true rfl, Nat.le_of_ble_eq_true rfl⟩ ⟨Nat.zero_le _, Nat.zero_le _⟩ hl.1 (Nat.le_of_ble_eq_true rfl) dX4_walkerOf_94 (fun H locs hG => ?_)
            exact kr _ _ (Option.some.inj hf).symm _ _ hG _ _ dX4_walkerOf_97
  · have hf := ifp c_3 hf
    refine lv_aload_n hx hb dX4_walkerOf_8 rfl (lv_at hl 0 rfl) ?_
    refine lv_bipush (v := (-2)) hx hb dX4_walkerOf_9 (by decide) ?_
    obtain ⟨r_23, w_24, e_25, hf⟩ := b2s hf
    refine cM_no B hK hG e_25 ⟨Nat.le_of_ble_eq_true rfl, Nat.le_of_ble_eq_true rfl⟩ ⟨Nat.zero_le _, Nat.zero_le _⟩ hl.1 (Nat.le_of_ble_eq_true rfl) dX4_walkerOf_11 (fun H locs hG => ?_)
    exact kr _ _ (Option.some.inj hf).symm _ _ hG _ _ dX4_walkerOf_14

theorem tM_walkerOf (l : Launch) (X : CX) (a : Nat → Nat) (rest : va_W) (w w' : MW) (x1 : Int32) (x2 : Int32) (r : Int32) (hf : fM_walkerOf w x1 x2 = some (r, w')) : RW l yX4_walkerOf cX4_walkerOf 3 (some .int) 5 0 0 115 [.ref (a 0), .int x1, .int x2] X (MP X a w ++ rest) (MP X a w' ++ rest) (some (.int r)) := by
  refine RW.mk (by decide) (Nat.le_of_ble_eq_true rfl) ?_
  intro p e s m below meth c B hr hlk hK hG ls hl
  exact wM_walkerOf B hK hf (fun r w h H locs hG pc ls hd => by cases h; exact w_iretW B hr hlk hG hd) hG hl
end S_walkerOf

section S_isBog
variable {p : Program} {l : Launch} {e : Env} {R : Room} {s : State} {m : MethodId} {args : Array Value} {below : List Frame} {meth : Method} {c : Code} {H : Heap} {locs : List Loc} {cells slots : Nat} {Q : State → Prop} {cc : ByteArray} {nL pc : Nat} {ls : Array Slot} {st : List Value} {X : CX} {a : Nat → Nat} {w : MW} {rest : va_W}
noncomputable def fM_isBog (w : MW) (x1 : Int32) : Option (Int32 × MW) :=
  (fM_isCell w (x1.toInt64)).bind fun r_1 =>
  if r_1 = 0 then
    b2 (fM_no w (-2)) fun r_4 w_5 =>
    some (r_4, w_5)
  else
    (rd (w.2.1 1) 67 x1).bind fun v_7 =>
    if v_7 = 0 then
      some (0, w)
    else
      some (1, w)

set_option maxHeartbeats 4000000 in
theorem wM_isBog (B : CallFix p m c cX4_isBog 2 s args lw_all RX4) (hK : KK X s) {w : MW} {x1 : Int32} {res : Int32 × MW} (hf : fM_isBog w x1 = some res) (kr : ∀ (r : Int32) (w1 : MW), res = (r, w1) → ∀ (H : Heap) (locs : List Loc), GG X (MP X a w1 ++ rest) s.heap H locs → ∀ (pc : Nat) (ls : Array Slot), decode cX4_isBog pc = .ok (.ireturn, 1) → W p l e (RMw 1 0 0 22) s m args below meth c H locs 0 0 Q (F0 m pc ls [.int r])) {H : Heap} {locs : List Loc} (hG : GG X (MP X a w ++ rest) s.heap H locs) {ls : Array Slot} (hl : lv_has ls 2 [(0, .ref (a 0)), (1, .int x1)]) : W p l e (RMw 1 0 0 22) s m args below meth c H locs 0 0 Q (F0 m 0 ls []) := by
  have hx := B.1
  have hb := B.2.1
  unfold fM_isBog at hf
  refine lv_aload_n hx hb dX4_isBog_0 rfl (lv_at hl 0 rfl) ?_
  refine lv_iload_n hx hb dX4_isBog_1 rfl (lv_at hl 1 rfl) ?_
  refine lv_i2l hx hb dX4_isBog_2 rfl ?_
  obtain ⟨r_1, e_2, hf⟩ := bo hf
  refine cM_isCell B hK hG.2.2 hG.1 e_2 ⟨Nat.le_of_ble_eq_true rfl, Nat.le_of_ble_eq_true rfl⟩ ⟨Nat.zero_le _, Nat.zero_le _⟩ hl.1 (Nat.le_of_ble_eq_true rfl) dX4_isBog_3 ?_
  refine lv_if_eq (tgt := 26) hx hb dX4_isBog_6 (by decide) (fun c_3 => ?_) (fun c_3 => ?_)
  · have hf := ifp c_3 hf
    refine lv_aload_n hx hb dX4_isBog_26 rfl (lv_at hl 0 rfl) ?_
    refine lv_bipush (v := (-2)) hx hb dX4_isBog_27 (by decide) ?_
    obtain ⟨r_4, w_5, e_6, hf⟩ := b2s hf
    refine cM_no B hK hG e_6 ⟨Nat.le_of_ble_eq_true rfl, Nat.le_of_ble_eq_true rfl⟩ ⟨Nat.zero_le _, Nat.zero_le _⟩ hl.1 (Nat.le_of_ble_eq_true rfl) dX4_isBog_29 (fun H locs hG => ?_)
    exact kr _ _ (Option.some.inj hf).symm _ _ hG _ _ dX4_isBog_32
  · have hf := ifn c_3 hf
    refine lv_aload_n hx hb dX4_isBog_9 rfl (lv_at hl 0 rfl) ?_
    refine mo_g1 B hK hG.1 dX4_isBog_10 ?_
    refine lv_iload_n hx hb dX4_isBog_13 rfl (lv_at hl 1 rfl) ?_
    obtain ⟨v_7, e_8, hf⟩ := bo hf
    refine mo_ld1 B hK hG.1 e_8 dX4_isBog_14 ?_
    refine lv_if_eq (tgt := 22) hx hb dX4_isBog_15 (by decide) (fun c_9 => ?_) (fun c_9 => ?_)
    · have hf := ifp c_9 hf
      refine lv_iconst (v := 0) hx hb dX4_isBog_22 (by decide) ?_
      refine lv_goto (tgt := 32) hx hb dX4_isBog_23 (by decide) ?_
      exact kr _ _ (Option.some.inj hf).symm _ _ hG _ _ dX4_isBog_32
    · have hf := ifn c_9 hf
      refine lv_iconst (v := 1) hx hb dX4_isBog_18 (by decide) ?_
      refine lv_goto (tgt := 32) hx hb dX4_isBog_19 (by decide) ?_
      exact kr _ _ (Option.some.inj hf).symm _ _ hG _ _ dX4_isBog_32

theorem tM_isBog (l : Launch) (X : CX) (a : Nat → Nat) (rest : va_W) (w w' : MW) (x1 : Int32) (r : Int32) (hf : fM_isBog w x1 = some (r, w')) : RW l yX4_isBog cX4_isBog 2 (some .int) 1 0 0 22 [.ref (a 0), .int x1] X (MP X a w ++ rest) (MP X a w' ++ rest) (some (.int r)) := by
  refine RW.mk (by decide) (Nat.le_of_ble_eq_true rfl) ?_
  intro p e s m below meth c B hr hlk hK hG ls hl
  exact wM_isBog B hK hf (fun r w h H locs hG pc ls hd => by cases h; exact w_iretW B hr hlk hG hd) hG hl
end S_isBog

section S_way
variable {p : Program} {l : Launch} {e : Env} {R : Room} {s : State} {m : MethodId} {args : Array Value} {below : List Frame} {meth : Method} {c : Code} {H : Heap} {locs : List Loc} {cells slots : Nat} {Q : State → Prop} {cc : ByteArray} {nL pc : Nat} {ls : Array Slot} {st : List Value} {X : CX} {a : Nat → Nat} {w : MW} {rest : va_W}
noncomputable def fM_way_J26 (w : MW)  : Option (Int32 × MW) :=
  b2 (fM_no w (-2)) fun r_1 w_2 =>
  some (r_1, w_2)

set_option maxHeartbeats 4000000 in
theorem wM_way_J26 (B : CallFix p m c cX4_way 3 s args lw_all RX4) (hK : KK X s) {w : MW}  {res : Int32 × MW} (hf : fM_way_J26 w  = some res) (kr : ∀ (r : Int32) (w1 : MW), res = (r, w1) → ∀ (H : Heap) (locs : List Loc), GG X (MP X a w1 ++ rest) s.heap H locs → ∀ (pc : Nat) (ls : Array Slot), decode cX4_way pc = .ok (.ireturn, 1) → W p l e (RMw 3 0 0 65) s m args below meth c H locs 0 0 Q (F0 m pc ls [.int r])) {H : Heap} {locs : List Loc} (hG : GG X (MP X a w ++ rest) s.heap H locs) {ls : Array Slot} (hl : lv_has ls 3 [(0, .ref (a 0))]) : W p l e (RMw 3 0 0 65) s m args below meth c H locs 0 0 Q (F0 m 26 ls []) := by
  have hx := B.1
  have hb := B.2.1
  unfold fM_way_J26 at hf
  refine lv_aload_n hx hb dX4_way_26 rfl (lv_at hl 0 rfl) ?_
  refine lv_bipush (v := (-2)) hx hb dX4_way_27 (by decide) ?_
  obtain ⟨r_1, w_2, e_3, hf⟩ := b2s hf
  refine cM_no B hK hG e_3 ⟨Nat.le_of_ble_eq_true rfl, Nat.le_of_ble_eq_true rfl⟩ ⟨Nat.zero_le _, Nat.zero_le _⟩ hl.1 (Nat.le_of_ble_eq_true rfl) dX4_way_29 (fun H locs hG => ?_)
  exact kr _ _ (Option.some.inj hf).symm _ _ hG _ _ dX4_way_32

noncomputable def fM_way (w : MW) (x1 : Int32) (x2 : Int32) : Option (Int32 × MW) :=
  (fM_isCell w (x1.toInt64)).bind fun r_1 =>
  if r_1 = 0 then
    fM_way_J26 w 
  else
    (fM_isCell w (x2.toInt64)).bind fun r_4 =>
    if r_4 = 0 then
      fM_way_J26 w 
    else
      (fM_wayTo x1 x2).bind fun r_7 =>
      some (r_7, w)

set_option maxHeartbeats 4000000 in
theorem wM_way (B : CallFix p m c cX4_way 3 s args lw_all RX4) (hK : KK X s) {w : MW} {x1 : Int32} {x2 : Int32} {res : Int32 × MW} (hf : fM_way w x1 x2 = some res) (kr : ∀ (r : Int32) (w1 : MW), res = (r, w1) → ∀ (H : Heap) (locs : List Loc), GG X (MP X a w1 ++ rest) s.heap H locs → ∀ (pc : Nat) (ls : Array Slot), decode cX4_way pc = .ok (.ireturn, 1) → W p l e (RMw 3 0 0 65) s m args below meth c H locs 0 0 Q (F0 m pc ls [.int r])) {H : Heap} {locs : List Loc} (hG : GG X (MP X a w ++ rest) s.heap H locs) {ls : Array Slot} (hl : lv_has ls 3 [(0, .ref (a 0)), (1, .int x1), (2, .int x2)]) : W p l e (RMw 3 0 0 65) s m args below meth c H locs 0 0 Q (F0 m 0 ls []) := by
  have hx := B.1
  have hb := B.2.1
  unfold fM_way at hf
  refine lv_aload_n hx hb dX4_way_0 rfl (lv_at hl 0 rfl) ?_
  refine lv_iload_n hx hb dX4_way_1 rfl (lv_at hl 1 rfl) ?_
  refine lv_i2l hx hb dX4_way_2 rfl ?_
  obtain ⟨r_1, e_2, hf⟩ := bo hf
  refine cM_isCell B hK hG.2.2 hG.1 e_2 ⟨Nat.le_of_ble_eq_true rfl, Nat.le_of_ble_eq_true rfl⟩ ⟨Nat.zero_le _, Nat.zero_le _⟩ hl.1 (Nat.le_of_ble_eq_true rfl) dX4_way_3 ?_
  refine lv_if_eq (tgt := 26) hx hb dX4_way_6 (by decide) (fun c_3 => ?_) (fun c_3 => ?_)
  · have hf := ifp c_3 hf
    exact wM_way_J26 B hK hf kr hG (lv_sub hl [0] rfl)
  · have hf := ifn c_3 hf
    refine lv_aload_n hx hb dX4_way_9 rfl (lv_at hl 0 rfl) ?_
    refine lv_iload_n hx hb dX4_way_10 rfl (lv_at hl 2 rfl) ?_
    refine lv_i2l hx hb dX4_way_11 rfl ?_
    obtain ⟨r_4, e_5, hf⟩ := bo hf
    refine cM_isCell B hK hG.2.2 hG.1 e_5 ⟨Nat.le_of_ble_eq_true rfl, Nat.le_of_ble_eq_true rfl⟩ ⟨Nat.zero_le _, Nat.zero_le _⟩ hl.1 (Nat.le_of_ble_eq_true rfl) dX4_way_12 ?_
    refine lv_if_eq (tgt := 26) hx hb dX4_way_15 (by decide) (fun c_6 => ?_) (fun c_6 => ?_)
    · have hf := ifp c_6 hf
      exact wM_way_J26 B hK hf kr hG (lv_sub hl [0] rfl)
    · have hf := ifn c_6 hf
      refine lv_iload_n hx hb dX4_way_18 rfl (lv_at hl 1 rfl) ?_
      refine lv_iload_n hx hb dX4_way_19 rfl (lv_at hl 2 rfl) ?_
      obtain ⟨r_7, e_8, hf⟩ := bo hf
      refine cM_wayTo B e_8 ⟨Nat.le_of_ble_eq_true rfl, Nat.le_of_ble_eq_true rfl⟩ ⟨Nat.zero_le _, Nat.zero_le _⟩ hl.1 (Nat.le_of_ble_eq_true rfl) dX4_way_20 ?_
      refine lv_goto (tgt := 32) hx hb dX4_way_23 (by decide) ?_
      exact kr _ _ (Option.some.inj hf).symm _ _ hG _ _ dX4_way_32

theorem tM_way (l : Launch) (X : CX) (a : Nat → Nat) (rest : va_W) (w w' : MW) (x1 : Int32) (x2 : Int32) (r : Int32) (hf : fM_way w x1 x2 = some (r, w')) : RW l yX4_way cX4_way 3 (some .int) 3 0 0 65 [.ref (a 0), .int x1, .int x2] X (MP X a w ++ rest) (MP X a w' ++ rest) (some (.int r)) := by
  refine RW.mk (by decide) (Nat.le_of_ble_eq_true rfl) ?_
  intro p e s m below meth c B hr hlk hK hG ls hl
  exact wM_way B hK hf (fun r w h H locs hG pc ls hd => by cases h; exact w_iretW B hr hlk hG hd) hG hl
end S_way

section S_one
variable {p : Program} {l : Launch} {e : Env} {R : Room} {s : State} {m : MethodId} {args : Array Value} {below : List Frame} {meth : Method} {c : Code} {H : Heap} {locs : List Loc} {cells slots : Nat} {Q : State → Prop} {cc : ByteArray} {nL pc : Nat} {ls : Array Slot} {st : List Value} {X : CX} {a : Nat → Nat} {w : MW} {rest : va_W}
noncomputable def fM_one (w : MW) (x1 : Int32) : Option (MW) :=
  (some (mpt w 24 1)).bind fun w_1 =>
  (mst w_1 25 4 0 x1).bind fun w_3 =>
  some w_3

set_option maxHeartbeats 4000000 in
theorem wM_one (B : CallFix p m c cX4_one 2 s args lw_all RX4) (hK : KK X s) {w : MW} {x1 : Int32} {res : MW} (hf : fM_one w x1 = some res) (kr : ∀ (w1 : MW), res = w1 → ∀ (H : Heap) (locs : List Loc), GG X (MP X a w1 ++ rest) s.heap H locs → ∀ (pc : Nat) (ls : Array Slot), decode cX4_one pc = .ok (.return_, 1) → W p l e (RMw 0 0 0 0) s m args below meth c H locs 0 0 Q (F0 m pc ls [])) {H : Heap} {locs : List Loc} (hG : GG X (MP X a w ++ rest) s.heap H locs) {ls : Array Slot} (hl : lv_has ls 2 [(0, .ref (a 0)), (1, .int x1)]) : W p l e (RMw 0 0 0 0) s m args below meth c H locs 0 0 Q (F0 m 0 ls []) := by
  have hx := B.1
  have hb := B.2.1
  unfold fM_one at hf
  refine lv_aload_n hx hb dX4_one_0 rfl (lv_at hl 0 rfl) ?_
  refine lv_iconst (v := 1) hx hb dX4_one_1 (by decide) ?_
  obtain ⟨w_1, e_2, hf⟩ := bo hf
  refine mo_p24 B hK hG e_2 dX4_one_2 (fun H locs hG => ?_)
  refine lv_aload_n hx hb dX4_one_5 rfl (lv_at hl 0 rfl) ?_
  refine mo_g25 B hK hG.1 dX4_one_6 ?_
  refine lv_iconst (v := 0) hx hb dX4_one_9 (by decide) ?_
  refine lv_iload_n hx hb dX4_one_10 rfl (lv_at hl 1 rfl) ?_
  obtain ⟨w_3, e_4, hf⟩ := bo hf
  refine mo_st25 B hK hG e_4 dX4_one_11 (fun H locs hG => ?_)
  exact kr _ (Option.some.inj hf).symm _ _ hG _ _ dX4_one_12

theorem tM_one (l : Launch) (X : CX) (a : Nat → Nat) (rest : va_W) (w w' : MW) (x1 : Int32) (hf : fM_one w x1 = some w') : RW l yX4_one cX4_one 2 none 0 0 0 0 [.ref (a 0), .int x1] X (MP X a w ++ rest) (MP X a w' ++ rest) none := by
  refine RW.mk (by decide) (Nat.le_of_ble_eq_true rfl) ?_
  intro p e s m below meth c B hr hlk hK hG ls hl
  exact wM_one B hK hf (fun w h H locs hG pc ls hd => by cases h; exact w_vretW B hr hlk hG hd) hG hl
theorem cM_one (B : CallFix p m c cc nL s args lw_all RX4) (hK : KK X s) (hG : GG X (MP X a w ++ rest) s.heap H locs) {x1 : Int32} {w' : MW} (hf : fM_one w x1 = some w') (hR : 0 + 1 ≤ R.frames ∧ 21 ≤ R.locals) (hcs : cells ≤ R.cells ∧ slots ≤ R.slots) (hl : ls.size = nL) (hcat : (st.map fun v => v.category).sum ≤ 8) (hdg : decode cc pc = .ok (.invokevirtual 231, 3)) (kk : ∀ (H1 : Heap) (locs1 : List Loc), GG X (MP X a w' ++ rest) s.heap H1 locs1 → W p l e R s m args below meth c H1 locs1 cells slots Q (F0 m (pc + 3) ls st)) : W p l e R s m args below meth c H locs cells slots Q (F0 m pc ls (.int x1 :: .ref (a 0) :: st)) :=
  w_afterWv (w_rV_RW (As := [.int x1]) B hK hG (tM_one l X a rest w w' x1 hf) (lw_V q1728 q1730 qs63 q91 q1731) 0 rfl rfl (n := 1) (by decide +kernel) hR hcs rfl hl rfl hcat hdg) hG.2.2 kk
end S_one

section S_armFor
variable {p : Program} {l : Launch} {e : Env} {R : Room} {s : State} {m : MethodId} {args : Array Value} {below : List Frame} {meth : Method} {c : Code} {H : Heap} {locs : List Loc} {cells slots : Nat} {Q : State → Prop} {cc : ByteArray} {nL pc : Nat} {ls : Array Slot} {st : List Value} {X : CX} {a : Nat → Nat} {w : MW} {rest : va_W}
noncomputable def fM_armFor (w : MW) (x1 : Int32) (x2 : Int32) : Option (Int32 × MW) :=
  (fM_one w x2).bind fun w_1 =>
  (fM_armOf w_1 x1).bind fun r_3 =>
  some (r_3, w_1)

set_option maxHeartbeats 4000000 in
theorem wM_armFor (B : CallFix p m c cX4_armFor 3 s args lw_all RX4) (hK : KK X s) {w : MW} {x1 : Int32} {x2 : Int32} {res : Int32 × MW} (hf : fM_armFor w x1 x2 = some res) (kr : ∀ (r : Int32) (w1 : MW), res = (r, w1) → ∀ (H : Heap) (locs : List Loc), GG X (MP X a w1 ++ rest) s.heap H locs → ∀ (pc : Nat) (ls : Array Slot), decode cX4_armFor pc = .ok (.ireturn, 1) → W p l e (RMw 6 0 0 128) s m args below meth c H locs 0 0 Q (F0 m pc ls [.int r])) {H : Heap} {locs : List Loc} (hG : GG X (MP X a w ++ rest) s.heap H locs) {ls : Array Slot} (hl : lv_has ls 3 [(0, .ref (a 0)), (1, .int x1), (2, .int x2)]) : W p l e (RMw 6 0 0 128) s m args below meth c H locs 0 0 Q (F0 m 0 ls []) := by
  have hx := B.1
  have hb := B.2.1
  unfold fM_armFor at hf
  refine lv_aload_n hx hb dX4_armFor_0 rfl (lv_at hl 0 rfl) ?_
  refine lv_iload_n hx hb dX4_armFor_1 rfl (lv_at hl 2 rfl) ?_
  obtain ⟨w_1, e_2, hf⟩ := bo hf
  refine cM_one B hK hG e_2 ⟨Nat.le_of_ble_eq_true rfl, Nat.le_of_ble_eq_true rfl⟩ ⟨Nat.zero_le _, Nat.zero_le _⟩ hl.1 (Nat.le_of_ble_eq_true rfl) dX4_armFor_2 (fun H locs hG => ?_)
  refine lv_aload_n hx hb dX4_armFor_5 rfl (lv_at hl 0 rfl) ?_
  refine lv_iload_n hx hb dX4_armFor_6 rfl (lv_at hl 1 rfl) ?_
  obtain ⟨r_3, e_4, hf⟩ := bo hf
  refine cM_armOf B hK hG.2.2 hG.1 e_4 ⟨Nat.le_of_ble_eq_true rfl, Nat.le_of_ble_eq_true rfl⟩ ⟨Nat.zero_le _, Nat.zero_le _⟩ hl.1 (Nat.le_of_ble_eq_true rfl) dX4_armFor_7 ?_
  exact kr _ _ (Option.some.inj hf).symm _ _ hG _ _ dX4_armFor_10

theorem tM_armFor (l : Launch) (X : CX) (a : Nat → Nat) (rest : va_W) (w w' : MW) (x1 : Int32) (x2 : Int32) (r : Int32) (hf : fM_armFor w x1 x2 = some (r, w')) : RW l yX4_armFor cX4_armFor 3 (some .int) 6 0 0 128 [.ref (a 0), .int x1, .int x2] X (MP X a w ++ rest) (MP X a w' ++ rest) (some (.int r)) := by
  refine RW.mk (by decide) (Nat.le_of_ble_eq_true rfl) ?_
  intro p e s m below meth c B hr hlk hK hG ls hl
  exact wM_armFor B hK hf (fun r w h H locs hG pc ls hd => by cases h; exact w_iretW B hr hlk hG hd) hG hl
theorem cM_armFor (B : CallFix p m c cc nL s args lw_all RX4) (hK : KK X s) (hG : GG X (MP X a w ++ rest) s.heap H locs) {x1 : Int32} {x2 : Int32} {r : Int32} {w' : MW} (hf : fM_armFor w x1 x2 = some (r, w')) (hR : 6 + 1 ≤ R.frames ∧ 150 ≤ R.locals) (hcs : cells ≤ R.cells ∧ slots ≤ R.slots) (hl : ls.size = nL) (hcat : (st.map fun v => v.category).sum ≤ 8) (hdg : decode cc pc = .ok (.invokevirtual 238, 3)) (kk : ∀ (H1 : Heap) (locs1 : List Loc), GG X (MP X a w' ++ rest) s.heap H1 locs1 → W p l e R s m args below meth c H1 locs1 cells slots Q (F0 m (pc + 3) ls (.int r :: st))) : W p l e R s m args below meth c H locs cells slots Q (F0 m pc ls (.int x2 :: .int x1 :: .ref (a 0) :: st)) :=
  w_afterW (w_rV_RW (As := [.int x1, .int x2]) B hK hG (tM_armFor l X a rest w w' x1 x2 r hf) (lw_V q1724 q1726 qs62 q91 q1727) 0 rfl rfl (n := 2) (by decide +kernel) hR hcs rfl hl rfl hcat hdg) hG.2.2 kk
end S_armFor

section S_arm
variable {p : Program} {l : Launch} {e : Env} {R : Room} {s : State} {m : MethodId} {args : Array Value} {below : List Frame} {meth : Method} {c : Code} {H : Heap} {locs : List Loc} {cells slots : Nat} {Q : State → Prop} {cc : ByteArray} {nL pc : Nat} {ls : Array Slot} {st : List Value} {X : CX} {a : Nat → Nat} {w : MW} {rest : va_W}
noncomputable def fM_arm_J27 (w : MW)  : Option (Int32 × MW) :=
  b2 (fM_no w (-2)) fun r_1 w_2 =>
  some (r_1, w_2)

set_option maxHeartbeats 4000000 in
theorem wM_arm_J27 (B : CallFix p m c cX4_arm 3 s args lw_all RX4) (hK : KK X s) {w : MW}  {res : Int32 × MW} (hf : fM_arm_J27 w  = some res) (kr : ∀ (r : Int32) (w1 : MW), res = (r, w1) → ∀ (H : Heap) (locs : List Loc), GG X (MP X a w1 ++ rest) s.heap H locs → ∀ (pc : Nat) (ls : Array Slot), decode cX4_arm pc = .ok (.ireturn, 1) → W p l e (RMw 7 0 0 150) s m args below meth c H locs 0 0 Q (F0 m pc ls [.int r])) {H : Heap} {locs : List Loc} (hG : GG X (MP X a w ++ rest) s.heap H locs) {ls : Array Slot} (hl : lv_has ls 3 [(0, .ref (a 0))]) : W p l e (RMw 7 0 0 150) s m args below meth c H locs 0 0 Q (F0 m 27 ls []) := by
  have hx := B.1
  have hb := B.2.1
  unfold fM_arm_J27 at hf
  refine lv_aload_n hx hb dX4_arm_27 rfl (lv_at hl 0 rfl) ?_
  refine lv_bipush (v := (-2)) hx hb dX4_arm_28 (by decide) ?_
  obtain ⟨r_1, w_2, e_3, hf⟩ := b2s hf
  refine cM_no B hK hG e_3 ⟨Nat.le_of_ble_eq_true rfl, Nat.le_of_ble_eq_true rfl⟩ ⟨Nat.zero_le _, Nat.zero_le _⟩ hl.1 (Nat.le_of_ble_eq_true rfl) dX4_arm_30 (fun H locs hG => ?_)
  exact kr _ _ (Option.some.inj hf).symm _ _ hG _ _ dX4_arm_33

noncomputable def fM_arm (w : MW) (x1 : Int32) (x2 : Int32) : Option (Int32 × MW) :=
  (fM_isPost w (x1.toInt64)).bind fun r_1 =>
  if r_1 = 0 then
    fM_arm_J27 w 
  else
    (fM_isCell w (x2.toInt64)).bind fun r_4 =>
    if r_4 = 0 then
      fM_arm_J27 w 
    else
      b2 (fM_armFor w x1 x2) fun r_7 w_8 =>
      some (r_7, w_8)

set_option maxHeartbeats 4000000 in
theorem wM_arm (B : CallFix p m c cX4_arm 3 s args lw_all RX4) (hK : KK X s) {w : MW} {x1 : Int32} {x2 : Int32} {res : Int32 × MW} (hf : fM_arm w x1 x2 = some res) (kr : ∀ (r : Int32) (w1 : MW), res = (r, w1) → ∀ (H : Heap) (locs : List Loc), GG X (MP X a w1 ++ rest) s.heap H locs → ∀ (pc : Nat) (ls : Array Slot), decode cX4_arm pc = .ok (.ireturn, 1) → W p l e (RMw 7 0 0 150) s m args below meth c H locs 0 0 Q (F0 m pc ls [.int r])) {H : Heap} {locs : List Loc} (hG : GG X (MP X a w ++ rest) s.heap H locs) {ls : Array Slot} (hl : lv_has ls 3 [(0, .ref (a 0)), (1, .int x1), (2, .int x2)]) : W p l e (RMw 7 0 0 150) s m args below meth c H locs 0 0 Q (F0 m 0 ls []) := by
  have hx := B.1
  have hb := B.2.1
  unfold fM_arm at hf
  refine lv_aload_n hx hb dX4_arm_0 rfl (lv_at hl 0 rfl) ?_
  refine lv_iload_n hx hb dX4_arm_1 rfl (lv_at hl 1 rfl) ?_
  refine lv_i2l hx hb dX4_arm_2 rfl ?_
  obtain ⟨r_1, e_2, hf⟩ := bo hf
  refine cM_isPost B hK hG.2.2 hG.1 e_2 ⟨Nat.le_of_ble_eq_true rfl, Nat.le_of_ble_eq_true rfl⟩ ⟨Nat.zero_le _, Nat.zero_le _⟩ hl.1 (Nat.le_of_ble_eq_true rfl) dX4_arm_3 ?_
  refine lv_if_eq (tgt := 27) hx hb dX4_arm_6 (by decide) (fun c_3 => ?_) (fun c_3 => ?_)
  · have hf := ifp c_3 hf
    exact wM_arm_J27 B hK hf kr hG (lv_sub hl [0] rfl)
  · have hf := ifn c_3 hf
    refine lv_aload_n hx hb dX4_arm_9 rfl (lv_at hl 0 rfl) ?_
    refine lv_iload_n hx hb dX4_arm_10 rfl (lv_at hl 2 rfl) ?_
    refine lv_i2l hx hb dX4_arm_11 rfl ?_
    obtain ⟨r_4, e_5, hf⟩ := bo hf
    refine cM_isCell B hK hG.2.2 hG.1 e_5 ⟨Nat.le_of_ble_eq_true rfl, Nat.le_of_ble_eq_true rfl⟩ ⟨Nat.zero_le _, Nat.zero_le _⟩ hl.1 (Nat.le_of_ble_eq_true rfl) dX4_arm_12 ?_
    refine lv_if_eq (tgt := 27) hx hb dX4_arm_15 (by decide) (fun c_6 => ?_) (fun c_6 => ?_)
    · have hf := ifp c_6 hf
      exact wM_arm_J27 B hK hf kr hG (lv_sub hl [0] rfl)
    · have hf := ifn c_6 hf
      refine lv_aload_n hx hb dX4_arm_18 rfl (lv_at hl 0 rfl) ?_
      refine lv_iload_n hx hb dX4_arm_19 rfl (lv_at hl 1 rfl) ?_
      refine lv_iload_n hx hb dX4_arm_20 rfl (lv_at hl 2 rfl) ?_
      obtain ⟨r_7, w_8, e_9, hf⟩ := b2s hf
      refine cM_armFor B hK hG e_9 ⟨Nat.le_of_ble_eq_true rfl, Nat.le_of_ble_eq_true rfl⟩ ⟨Nat.zero_le _, Nat.zero_le _⟩ hl.1 (Nat.le_of_ble_eq_true rfl) dX4_arm_21 (fun H locs hG => ?_)
      refine lv_goto (tgt := 33) hx hb dX4_arm_24 (by decide) ?_
      exact kr _ _ (Option.some.inj hf).symm _ _ hG _ _ dX4_arm_33

theorem tM_arm (l : Launch) (X : CX) (a : Nat → Nat) (rest : va_W) (w w' : MW) (x1 : Int32) (x2 : Int32) (r : Int32) (hf : fM_arm w x1 x2 = some (r, w')) : RW l yX4_arm cX4_arm 3 (some .int) 7 0 0 150 [.ref (a 0), .int x1, .int x2] X (MP X a w ++ rest) (MP X a w' ++ rest) (some (.int r)) := by
  refine RW.mk (by decide) (Nat.le_of_ble_eq_true rfl) ?_
  intro p e s m below meth c B hr hlk hK hG ls hl
  exact wM_arm B hK hf (fun r w h H locs hG pc ls hd => by cases h; exact w_iretW B hr hlk hG hd) hG hl
end S_arm

section S_noTold
variable {p : Program} {l : Launch} {e : Env} {R : Room} {s : State} {m : MethodId} {args : Array Value} {below : List Frame} {meth : Method} {c : Code} {H : Heap} {locs : List Loc} {cells slots : Nat} {Q : State → Prop} {cc : ByteArray} {nL pc : Nat} {ls : Array Slot} {st : List Value} {X : CX} {a : Nat → Nat} {w : MW} {rest : va_W}
noncomputable def fM_noTold (w : MW) (x1 : Int32) (x2 : Int32) : Option (Int32) :=
  (fM_isRow w x1).bind fun r_1 =>
  if r_1 = 0 then
    (fM_noRow w x1).bind fun r_7 =>
    some r_7
  else
    (rd (w.2.1 18) 8 x1).bind fun v_4 =>
    if x2 ≤ v_4 then
      some 0
    else
      some (-2)

set_option maxHeartbeats 4000000 in
theorem wM_noTold (B : CallFix p m c cX4_noTold 3 s args lw_all RX4) (hK : KK X s) {w : MW} (hP : va_P X.2.2.1 vwCl (MP X a w ++ rest) s.heap) {x1 : Int32} {x2 : Int32} {res : Int32} (hf : fM_noTold w x1 x2 = some res) (kr : ∀ (r : Int32), res = r → ∀ (pc : Nat) (ls : Array Slot), decode cX4_noTold pc = .ok (.ireturn, 1) → W p l e (RM 2 43) s m args below meth c s.heap [] 0 0 Q (F0 m pc ls [.int r])) {ls : Array Slot} (hl : lv_has ls 3 [(0, .ref (a 0)), (1, .int x1), (2, .int x2)]) : W p l e (RM 2 43) s m args below meth c s.heap [] 0 0 Q (F0 m 0 ls []) := by
  have hx := B.1
  have hb := B.2.1
  unfold fM_noTold at hf
  refine lv_aload_n hx hb dX4_noTold_0 rfl (lv_at hl 0 rfl) ?_
  refine lv_iload_n hx hb dX4_noTold_1 rfl (lv_at hl 1 rfl) ?_
  obtain ⟨r_1, e_2, hf⟩ := bo hf
  refine cM_isRow B hK va_S.rf hP e_2 ⟨Nat.le_of_ble_eq_true rfl, Nat.le_of_ble_eq_true rfl⟩ ⟨Nat.zero_le _, Nat.zero_le _⟩ hl.1 (Nat.le_of_ble_eq_true rfl) dX4_noTold_2 ?_
  refine lv_if_ne (tgt := 16) hx hb dX4_noTold_5 (by decide) (fun c_3 => ?_) (fun c_3 => ?_)
  · have hf := ifn c_3 hf
    refine lv_iload_n hx hb dX4_noTold_16 rfl (lv_at hl 2 rfl) ?_
    refine lv_aload_n hx hb dX4_noTold_17 rfl (lv_at hl 0 rfl) ?_
    refine mo_g18 B hK hP dX4_noTold_18 ?_
    refine lv_iload_n hx hb dX4_noTold_21 rfl (lv_at hl 1 rfl) ?_
    obtain ⟨v_4, e_5, hf⟩ := bo hf
    refine mo_ld18 B hK hP e_5 dX4_noTold_22 ?_
    refine lv_icmp_le (tgt := 31) hx hb dX4_noTold_23 (by decide) (fun c_6 => ?_) (fun c_6 => ?_)
    · have hf := ifp c_6 hf
      refine lv_iconst (v := 0) hx hb dX4_noTold_31 (by decide) ?_
      exact kr _ (Option.some.inj hf).symm _ _ dX4_noTold_32
    · have hf := ifn c_6 hf
      refine lv_bipush (v := (-2)) hx hb dX4_noTold_26 (by decide) ?_
      refine lv_goto (tgt := 32) hx hb dX4_noTold_28 (by decide) ?_
      exact kr _ (Option.some.inj hf).symm _ _ dX4_noTold_32
  · have hf := ifp c_3 hf
    refine lv_aload_n hx hb dX4_noTold_8 rfl (lv_at hl 0 rfl) ?_
    refine lv_iload_n hx hb dX4_noTold_9 rfl (lv_at hl 1 rfl) ?_
    obtain ⟨r_7, e_8, hf⟩ := bo hf
    refine cM_noRow B hK va_S.rf hP e_8 ⟨Nat.le_of_ble_eq_true rfl, Nat.le_of_ble_eq_true rfl⟩ ⟨Nat.zero_le _, Nat.zero_le _⟩ hl.1 (Nat.le_of_ble_eq_true rfl) dX4_noTold_10 ?_
    refine lv_goto (tgt := 32) hx hb dX4_noTold_13 (by decide) ?_
    exact kr _ (Option.some.inj hf).symm _ _ dX4_noTold_32

theorem tM_noTold (l : Launch) (X : CX) (a : Nat → Nat) (rest : va_W) (w : MW) (x1 : Int32) (x2 : Int32) (r : Int32) (hf : fM_noTold w x1 x2 = some r) : RO l yX4_noTold cX4_noTold 3 (some .int) 2 43 [.ref (a 0), .int x1, .int x2] X (MP X a w ++ rest) (some (.int r)) := by
  refine RO.mk (by decide) (Nat.le_of_ble_eq_true rfl) ?_
  intro p e s m below meth c B hr hlk hK hP ls hl
  exact wM_noTold B hK hP hf (fun r h pc ls hd => by cases h; exact w_iretR B hr hlk rfl hd) hl
theorem cM_noTold (B : CallFix p m c cc nL s args lw_all RX4) (hK : KK X s) (hS : va_S (Az X) s.heap H locs) (hP : va_P X.2.2.1 vwCl (MP X a w ++ rest) H) {x1 : Int32} {x2 : Int32} {r : Int32} (hf : fM_noTold w x1 x2 = some r) (hR : 2 + 1 ≤ R.frames ∧ 65 ≤ R.locals) (hcs : cells ≤ R.cells ∧ slots ≤ R.slots) (hl : ls.size = nL) (hcat : (st.map fun v => v.category).sum ≤ 8) (hdg : decode cc pc = .ok (.invokevirtual 241, 3)) (kk : W p l e R s m args below meth c H locs cells slots Q (F0 m (pc + 3) ls (.int r :: st))) : W p l e R s m args below meth c H locs cells slots Q (F0 m pc ls (.int x2 :: .int x1 :: .ref (a 0) :: st)) :=
  w_afterR (w_rV_RO (As := [.int x1, .int x2]) B hK hS hP (tM_noTold l X a rest w x1 x2 r hf) (lw_V q1740 q1742 qs65 q91 q1743) 0 rfl rfl (n := 2) (by decide +kernel) hR hcs rfl hl rfl hcat hdg) kk
end S_noTold

section S_toldAt
variable {p : Program} {l : Launch} {e : Env} {R : Room} {s : State} {m : MethodId} {args : Array Value} {below : List Frame} {meth : Method} {c : Code} {H : Heap} {locs : List Loc} {cells slots : Nat} {Q : State → Prop} {cc : ByteArray} {nL pc : Nat} {ls : Array Slot} {st : List Value} {X : CX} {a : Nat → Nat} {w : MW} {rest : va_W}
noncomputable def fM_toldAt (w : MW) (x1 : Int32) (x2 : Int32) : Option (Int64) :=
  (rd w.2.2 320 ((40 * x1) + x2)).bind fun v_1 =>
  some v_1

set_option maxHeartbeats 4000000 in
theorem wM_toldAt (B : CallFix p m c cX4_toldAt 3 s args lw_all RX4) (hK : KK X s) {w : MW} (hP : va_P X.2.2.1 vwCl (MP X a w ++ rest) s.heap) {x1 : Int32} {x2 : Int32} {res : Int64} (hf : fM_toldAt w x1 x2 = some res) (kr : ∀ (r : Int64), res = r → ∀ (pc : Nat) (ls : Array Slot), decode cX4_toldAt pc = .ok (.lreturn, 1) → W p l e (RM 0 0) s m args below meth c s.heap [] 0 0 Q (F0 m pc ls [.long r])) {ls : Array Slot} (hl : lv_has ls 3 [(0, .ref (a 0)), (1, .int x1), (2, .int x2)]) : W p l e (RM 0 0) s m args below meth c s.heap [] 0 0 Q (F0 m 0 ls []) := by
  have hx := B.1
  have hb := B.2.1
  unfold fM_toldAt at hf
  refine lv_aload_n hx hb dX4_toldAt_0 rfl (lv_at hl 0 rfl) ?_
  refine mo_g19 B hK hP dX4_toldAt_1 ?_
  refine lv_bipush (v := 40) hx hb dX4_toldAt_4 (by decide) ?_
  refine lv_iload_n hx hb dX4_toldAt_6 rfl (lv_at hl 1 rfl) ?_
  refine lv_imul hx hb dX4_toldAt_7 ?_
  refine lv_iload_n hx hb dX4_toldAt_8 rfl (lv_at hl 2 rfl) ?_
  refine lv_iadd hx hb dX4_toldAt_9 ?_
  obtain ⟨v_1, e_2, hf⟩ := bo hf
  refine mo_ld19 B hK hP e_2 dX4_toldAt_10 ?_
  exact kr _ (Option.some.inj hf).symm _ _ dX4_toldAt_11

theorem tM_toldAt (l : Launch) (X : CX) (a : Nat → Nat) (rest : va_W) (w : MW) (x1 : Int32) (x2 : Int32) (r : Int64) (hf : fM_toldAt w x1 x2 = some r) : RO l yX4_toldAt cX4_toldAt 3 (some .long) 0 0 [.ref (a 0), .int x1, .int x2] X (MP X a w ++ rest) (some (.long r)) := by
  refine RO.mk (by decide) (Nat.le_of_ble_eq_true rfl) ?_
  intro p e s m below meth c B hr hlk hK hP ls hl
  exact wM_toldAt B hK hP hf (fun r h pc ls hd => by cases h; exact w_lretR B hr hlk rfl hd) hl
theorem cM_toldAt (B : CallFix p m c cc nL s args lw_all RX4) (hK : KK X s) (hS : va_S (Az X) s.heap H locs) (hP : va_P X.2.2.1 vwCl (MP X a w ++ rest) H) {x1 : Int32} {x2 : Int32} {r : Int64} (hf : fM_toldAt w x1 x2 = some r) (hR : 0 + 1 ≤ R.frames ∧ 22 ≤ R.locals) (hcs : cells ≤ R.cells ∧ slots ≤ R.slots) (hl : ls.size = nL) (hcat : (st.map fun v => v.category).sum ≤ 8) (hdg : decode cc pc = .ok (.invokevirtual 244, 3)) (kk : W p l e R s m args below meth c H locs cells slots Q (F0 m (pc + 3) ls (.long r :: st))) : W p l e R s m args below meth c H locs cells slots Q (F0 m pc ls (.int x2 :: .int x1 :: .ref (a 0) :: st)) :=
  w_afterR (w_rV_RO (As := [.int x1, .int x2]) B hK hS hP (tM_toldAt l X a rest w x1 x2 r hf) (lw_V q1744 q1746 qs66 q91 q1747) 0 rfl rfl (n := 2) (by decide +kernel) hR hcs rfl hl rfl hcat hdg) kk
end S_toldAt

section S_noPairs
variable {p : Program} {l : Launch} {e : Env} {R : Room} {s : State} {m : MethodId} {args : Array Value} {below : List Frame} {meth : Method} {c : Code} {H : Heap} {locs : List Loc} {cells slots : Nat} {Q : State → Prop} {cc : ByteArray} {nL pc : Nat} {ls : Array Slot} {st : List Value} {X : CX} {a : Nat → Nat} {w : MW} {rest : va_W}
noncomputable def fM_noPairs_L18 (w : MW) (x1 : Int32) (x2 : Int32) (x4 : Int32) : Option ((Int32) ⊕ (((Unit) ⊕ Unit))) :=
  if x2 ≤ x4 then
    some (.inr (.inl ()))
  else
    (fM_toldAt w x1 (2 * x4)).bind fun r_2 =>
    (fM_isPost w r_2).bind fun r_4 =>
    if r_4 = 0 then
      some (.inr (.inr ()))
    else
      (fM_toldAt w x1 ((2 * x4) + 1)).bind fun r_7 =>
      if (lg_cmp r_7 (-1)) < 0 then
        some (.inr (.inr ()))
      else
        (fM_toldAt w x1 ((2 * x4) + 1)).bind fun r_10 =>
        if (lg_cmp r_10 8) ≤ 0 then
          (some (x4 + 1)).bind fun x_13 =>
          some (.inl x_13)
        else
          some (.inr (.inr ()))

set_option maxHeartbeats 4000000 in
theorem wM_noPairs_L18 (B : CallFix p m c cX4_noPairs 5 s args lw_all RX4) (hK : KK X s) {w : MW} (hP : va_P X.2.2.1 vwCl (MP X a w ++ rest) s.heap) {x1 : Int32} {x2 : Int32} {x4 : Int32} {res : (Int32) ⊕ (((Unit) ⊕ Unit))} (hf : fM_noPairs_L18 w x1 x2 x4 = some res) (kc : ∀ (y4 : Int32), res = .inl y4 → ∀ (ls : Array Slot), lv_has ls 5 [(0, .ref (a 0)), (1, .int x1), (2, .int x2), (4, .int y4)] → W p l e (RM 3 65) s m args below meth c s.heap [] 0 0 Q (F0 m 18 ls [])) (ke85 : res = .inr (.inl ()) → ∀ (ls : Array Slot), lv_has ls 5 [] → W p l e (RM 3 65) s m args below meth c s.heap [] 0 0 Q (F0 m 85 ls [])) (ke76 : res = .inr (.inr ()) → ∀ (ls : Array Slot), lv_has ls 5 [] → W p l e (RM 3 65) s m args below meth c s.heap [] 0 0 Q (F0 m 76 ls [])) {ls : Array Slot} (hl : lv_has ls 5 [(0, .ref (a 0)), (1, .int x1), (2, .int x2), (4, .int x4)]) : W p l e (RM 3 65) s m args below meth c s.heap [] 0 0 Q (F0 m 18 ls []) := by
  have hx := B.1
  have hb := B.2.1
  unfold fM_noPairs_L18 at hf
  refine lv_iload hx hb dX4_noPairs_18 (lv_at hl 3 rfl) ?_
  refine lv_iload_n hx hb dX4_noPairs_20 rfl (lv_at hl 2 rfl) ?_
  refine lv_icmp_ge (tgt := 85) hx hb dX4_noPairs_21 (by decide) (fun c_1 => ?_) (fun c_1 => ?_)
  · have hf := ifp c_1 hf
    exact ke85 (Option.some.inj hf).symm _ (lv_sub hl [] rfl)
  · have hf := ifn c_1 hf
    refine lv_aload_n hx hb dX4_noPairs_24 rfl (lv_at hl 0 rfl) ?_
    refine lv_aload_n hx hb dX4_noPairs_25 rfl (lv_at hl 0 rfl) ?_
    refine lv_iload_n hx hb dX4_noPairs_26 rfl (lv_at hl 1 rfl) ?_
    refine lv_iconst (v := 2) hx hb dX4_noPairs_27 (by decide) ?_
    refine lv_iload hx hb dX4_noPairs_28 (lv_at hl 3 rfl) ?_
    refine lv_imul hx hb dX4_noPairs_30 ?_
    obtain ⟨r_2, e_3, hf⟩ := bo hf
    refine cM_toldAt B hK va_S.rf hP e_3 ⟨Nat.le_of_ble_eq_true rfl, Nat.le_of_ble_eq_true rfl⟩ ⟨Nat.zero_le _, Nat.zero_le _⟩ hl.1 (Nat.le_of_ble_eq_true rfl) dX4_noPairs_31 ?_
    obtain ⟨r_4, e_5, hf⟩ := bo hf
    refine cM_isPost B hK va_S.rf hP e_5 ⟨Nat.le_of_ble_eq_true rfl, Nat.le_of_ble_eq_true rfl⟩ ⟨Nat.zero_le _, Nat.zero_le _⟩ hl.1 (Nat.le_of_ble_eq_true rfl) dX4_noPairs_34 ?_
    refine lv_if_eq (tgt := 76) hx hb dX4_noPairs_37 (by decide) (fun c_6 => ?_) (fun c_6 => ?_)
    · have hf := ifp c_6 hf
      exact ke76 (Option.some.inj hf).symm _ (lv_sub hl [] rfl)
    · have hf := ifn c_6 hf
      refine lv_aload_n hx hb dX4_noPairs_40 rfl (lv_at hl 0 rfl) ?_
      refine lv_iload_n hx hb dX4_noPairs_41 rfl (lv_at hl 1 rfl) ?_
      refine lv_iconst (v := 2) hx hb dX4_noPairs_42 (by decide) ?_
      refine lv_iload hx hb dX4_noPairs_43 (lv_at hl 3 rfl) ?_
      refine lv_imul hx hb dX4_noPairs_45 ?_
      refine lv_iconst (v := 1) hx hb dX4_noPairs_46 (by decide) ?_
      refine lv_iadd hx hb dX4_noPairs_47 ?_
      obtain ⟨r_7, e_8, hf⟩ := bo hf
      refine cM_toldAt B hK va_S.rf hP e_8 ⟨Nat.le_of_ble_eq_true rfl, Nat.le_of_ble_eq_true rfl⟩ ⟨Nat.zero_le _, Nat.zero_le _⟩ hl.1 (Nat.le_of_ble_eq_true rfl) dX4_noPairs_48 ?_
      refine lv_ldc2 (v := (-1)) hx hb B.2.2.2.1 (B.2.2.2.2 _ q1748) dX4_noPairs_51 ?_
      refine W.lcmp hx hb dX4_noPairs_54 ?_
      refine lv_if_lt (tgt := 76) hx hb dX4_noPairs_55 (by decide) (fun c_9 => ?_) (fun c_9 => ?_)
      · have hf := ifp c_9 hf
        exact ke76 (Option.some.inj hf).symm _ (lv_sub hl [] rfl)
      · have hf := ifn c_9 hf
        refine lv_aload_n hx hb dX4_noPairs_58 rfl (lv_at hl 0 rfl) ?_
        refine lv_iload_n hx hb dX4_noPairs_59 rfl (lv_at hl 1 rfl) ?_
        refine lv_iconst (v := 2) hx hb dX4_noPairs_60 (by decide) ?_
        refine lv_iload hx hb dX4_noPairs_61 (lv_at hl 3 rfl) ?_
        refine lv_imul hx hb dX4_noPairs_63 ?_
        refine lv_iconst (v := 1) hx hb dX4_noPairs_64 (by decide) ?_
        refine lv_iadd hx hb dX4_noPairs_65 ?_
        obtain ⟨r_10, e_11, hf⟩ := bo hf
        refine cM_toldAt B hK va_S.rf hP e_11 ⟨Nat.le_of_ble_eq_true rfl, Nat.le_of_ble_eq_true rfl⟩ ⟨Nat.zero_le _, Nat.zero_le _⟩ hl.1 (Nat.le_of_ble_eq_true rfl) dX4_noPairs_66 ?_
        refine lv_ldc2 (v := 8) hx hb B.2.2.2.1 (B.2.2.2.2 _ q1749) dX4_noPairs_69 ?_
        refine W.lcmp hx hb dX4_noPairs_72 ?_
        refine lv_if_le (tgt := 79) hx hb dX4_noPairs_73 (by decide) (fun c_12 => ?_) (fun c_12 => ?_)
        · have hf := ifp c_12 hf
          obtain ⟨x_13, e_14, hf⟩ := bo hf
          refine w_iinc (k := 3) (lv' := [(4, .int x_13), (0, .ref (a 0)), (1, .int x1), (2, .int x2)]) e_14 hx hb dX4_noPairs_79 hl rfl (by decide) rfl (fun ls hl => ?_)
          refine lv_goto (tgt := 18) hx hb dX4_noPairs_82 (by decide) ?_
          exact kc _ (Option.some.inj hf).symm _ (lv_sub hl [1, 2, 3, 0] rfl)
        · have hf := ifn c_12 hf
          exact ke76 (Option.some.inj hf).symm _ (lv_sub hl [] rfl)

set_option maxHeartbeats 4000000 in
theorem vM_noPairs_L18 (B : CallFix p m c cX4_noPairs 5 s args lw_all RX4) (hK : KK X s) {w : MW} (hP : va_P X.2.2.1 vwCl (MP X a w ++ rest) s.heap) {x1 : Int32} {x2 : Int32} {x4 : Int32} {res : ((Unit) ⊕ Unit)} (hf : lp (fun q : Int32 => fM_noPairs_L18 w x1 x2 q) x4 = some res) (ke85 : res = (.inl ()) → ∀ (ls : Array Slot), lv_has ls 5 [] → W p l e (RM 3 65) s m args below meth c s.heap [] 0 0 Q (F0 m 85 ls [])) (ke76 : res = (.inr ()) → ∀ (ls : Array Slot), lv_has ls 5 [] → W p l e (RM 3 65) s m args below meth c s.heap [] 0 0 Q (F0 m 76 ls [])) {ls : Array Slot} (hl : lv_has ls 5 [(0, .ref (a 0)), (1, .int x1), (2, .int x2), (4, .int x4)]) : W p l e (RM 3 65) s m args below meth c s.heap [] 0 0 Q (F0 m 18 ls []) := by
  refine lp_ind (r := res) (P := fun q : Int32 => ∀ (ls : Array Slot), lv_has ls 5 [(0, .ref (a 0)), (1, .int x1), (2, .int x2), (4, .int q)] → W p l e (RM 3 65) s m args below meth c s.heap [] 0 0 Q (F0 m 18 ls [])) ?_ ?_ _ hf _ hl
  · intro q hb ls hl
    exact wM_noPairs_L18 B hK hP hb (fun _ h => by cases h) (fun h => ke85 (Sum.inr.inj h)) (fun h => ke76 (Sum.inr.inj h)) hl
  · intro q q2 hb ih ls hl
    exact wM_noPairs_L18 B hK hP hb (fun z0 h => by cases h; exact fun ls hl => ih ls hl) (fun h => by cases h) (fun h => by cases h) hl

noncomputable def fM_noPairs (w : MW) (x1 : Int32) (x2 : Int32) : Option (Int32) :=
  (fM_noTold w x1 (2 * x2)).bind fun r_1 =>
  if 0 ≤ r_1 then
    (lp (fun q : Int32 => fM_noPairs_L18 w x1 x2 q) 0).bind
      (Sum.elim (
        fun _ =>
          some 0
      )
        (
          fun _ =>
            some (-5)
        )
      )
  else
    some r_1

set_option maxHeartbeats 4000000 in
theorem wM_noPairs (B : CallFix p m c cX4_noPairs 5 s args lw_all RX4) (hK : KK X s) {w : MW} (hP : va_P X.2.2.1 vwCl (MP X a w ++ rest) s.heap) {x1 : Int32} {x2 : Int32} {res : Int32} (hf : fM_noPairs w x1 x2 = some res) (kr : ∀ (r : Int32), res = r → ∀ (pc : Nat) (ls : Array Slot), decode cX4_noPairs pc = .ok (.ireturn, 1) → W p l e (RM 3 65) s m args below meth c s.heap [] 0 0 Q (F0 m pc ls [.int r])) {ls : Array Slot} (hl : lv_has ls 5 [(0, .ref (a 0)), (1, .int x1), (2, .int x2)]) : W p l e (RM 3 65) s m args below meth c s.heap [] 0 0 Q (F0 m 0 ls []) := by
  have hx := B.1
  have hb := B.2.1
  unfold fM_noPairs at hf
  refine lv_aload_n hx hb dX4_noPairs_0 rfl (lv_at hl 0 rfl) ?_
  refine lv_iload_n hx hb dX4_noPairs_1 rfl (lv_at hl 1 rfl) ?_
  refine lv_iconst (v := 2) hx hb dX4_noPairs_2 (by decide) ?_
  refine lv_iload_n hx hb dX4_noPairs_3 rfl (lv_at hl 2 rfl) ?_
  refine lv_imul hx hb dX4_noPairs_4 ?_
  obtain ⟨r_1, e_2, hf⟩ := bo hf
  refine cM_noTold B hK va_S.rf hP e_2 ⟨Nat.le_of_ble_eq_true rfl, Nat.le_of_ble_eq_true rfl⟩ ⟨Nat.zero_le _, Nat.zero_le _⟩ hl.1 (Nat.le_of_ble_eq_true rfl) dX4_noPairs_5 ?_
  refine lv_istore_n (lv' := [(3, .int r_1), (0, .ref (a 0)), (1, .int x1), (2, .int x2)]) hx hb dX4_noPairs_8 rfl hl (by decide) rfl (fun ls hl => ?_)
  refine lv_iload_n hx hb dX4_noPairs_9 rfl (lv_at hl 0 rfl) ?_
  refine lv_if_ge (tgt := 15) hx hb dX4_noPairs_10 (by decide) (fun c_3 => ?_) (fun c_3 => ?_)
  · have hf := ifp c_3 hf
    refine lv_iconst (v := 0) hx hb dX4_noPairs_15 (by decide) ?_
    refine lv_istore (lv' := [(4, .int 0), (3, .int r_1), (0, .ref (a 0)), (1, .int x1), (2, .int x2)]) hx hb dX4_noPairs_16 hl (by decide) rfl (fun ls hl => ?_)
    rcases bs hf with ⟨⟨⟩, e_6, hf⟩ | ⟨⟨⟩, e_6, hf⟩
    · refine vM_noPairs_L18 B hK hP e_6 ?_ (fun h => by cases h) (lv_sub hl [2, 3, 4, 0] rfl)
      intro hz
      intro ls hl
      refine lv_iconst (v := 0) hx hb dX4_noPairs_85 (by decide) ?_
      exact kr _ (Option.some.inj hf).symm _ _ dX4_noPairs_86
    · refine vM_noPairs_L18 B hK hP e_6 (fun h => by cases h) ?_ (lv_sub hl [2, 3, 4, 0] rfl)
      intro hz
      intro ls hl
      refine lv_bipush (v := (-5)) hx hb dX4_noPairs_76 (by decide) ?_
      exact kr _ (Option.some.inj hf).symm _ _ dX4_noPairs_78
  · have hf := ifn c_3 hf
    refine lv_iload_n hx hb dX4_noPairs_13 rfl (lv_at hl 0 rfl) ?_
    exact kr _ (Option.some.inj hf).symm _ _ dX4_noPairs_14

theorem tM_noPairs (l : Launch) (X : CX) (a : Nat → Nat) (rest : va_W) (w : MW) (x1 : Int32) (x2 : Int32) (r : Int32) (hf : fM_noPairs w x1 x2 = some r) : RO l yX4_noPairs cX4_noPairs 5 (some .int) 3 65 [.ref (a 0), .int x1, .int x2] X (MP X a w ++ rest) (some (.int r)) := by
  refine RO.mk (by decide) (Nat.le_of_ble_eq_true rfl) ?_
  intro p e s m below meth c B hr hlk hK hP ls hl
  exact wM_noPairs B hK hP hf (fun r h pc ls hd => by cases h; exact w_iretR B hr hlk rfl hd) hl
theorem cM_noPairs (B : CallFix p m c cc nL s args lw_all RX4) (hK : KK X s) (hS : va_S (Az X) s.heap H locs) (hP : va_P X.2.2.1 vwCl (MP X a w ++ rest) H) {x1 : Int32} {x2 : Int32} {r : Int32} (hf : fM_noPairs w x1 x2 = some r) (hR : 3 + 1 ≤ R.frames ∧ 89 ≤ R.locals) (hcs : cells ≤ R.cells ∧ slots ≤ R.slots) (hl : ls.size = nL) (hcat : (st.map fun v => v.category).sum ≤ 8) (hdg : decode cc pc = .ok (.invokevirtual 259, 3)) (kk : W p l e R s m args below meth c H locs cells slots Q (F0 m (pc + 3) ls (.int r :: st))) : W p l e R s m args below meth c H locs cells slots Q (F0 m pc ls (.int x2 :: .int x1 :: .ref (a 0) :: st)) :=
  w_afterR (w_rV_RO (As := [.int x1, .int x2]) B hK hS hP (tM_noPairs l X a rest w x1 x2 r hf) (lw_V q1736 q1738 qs64 q91 q1739) 0 rfl rfl (n := 2) (by decide +kernel) hR hcs rfl hl rfl hcat hdg) kk
end S_noPairs

section S_isDry
variable {p : Program} {l : Launch} {e : Env} {R : Room} {s : State} {m : MethodId} {args : Array Value} {below : List Frame} {meth : Method} {c : Code} {H : Heap} {locs : List Loc} {cells slots : Nat} {Q : State → Prop} {cc : ByteArray} {nL pc : Nat} {ls : Array Slot} {st : List Value} {X : CX} {a : Nat → Nat} {w : MW} {rest : va_W}
noncomputable def fM_isDry (w : MW) (x1 : Int32) : Option (Int32) :=
  (fM_isCell w (x1.toInt64)).bind fun r_1 =>
  if r_1 = 0 then
    some 0
  else
    (rd (w.2.1 1) 67 x1).bind fun v_4 =>
    if v_4 = 0 then
      some 1
    else
      some 0

set_option maxHeartbeats 4000000 in
theorem wM_isDry (B : CallFix p m c cX4_isDry 2 s args lw_all RX4) (hK : KK X s) {w : MW} (hP : va_P X.2.2.1 vwCl (MP X a w ++ rest) s.heap) {x1 : Int32} {res : Int32} (hf : fM_isDry w x1 = some res) (kr : ∀ (r : Int32), res = r → narrow .boolean (.int r) = .int r → ∀ (pc : Nat) (ls : Array Slot), decode cX4_isDry pc = .ok (.ireturn, 1) → W p l e (RM 1 22) s m args below meth c s.heap [] 0 0 Q (F0 m pc ls [.int r])) {ls : Array Slot} (hl : lv_has ls 2 [(0, .ref (a 0)), (1, .int x1)]) : W p l e (RM 1 22) s m args below meth c s.heap [] 0 0 Q (F0 m 0 ls []) := by
  have hx := B.1
  have hb := B.2.1
  unfold fM_isDry at hf
  refine lv_aload_n hx hb dX4_isDry_0 rfl (lv_at hl 0 rfl) ?_
  refine lv_iload_n hx hb dX4_isDry_1 rfl (lv_at hl 1 rfl) ?_
  refine lv_i2l hx hb dX4_isDry_2 rfl ?_
  obtain ⟨r_1, e_2, hf⟩ := bo hf
  refine cM_isCell B hK va_S.rf hP e_2 ⟨Nat.le_of_ble_eq_true rfl, Nat.le_of_ble_eq_true rfl⟩ ⟨Nat.zero_le _, Nat.zero_le _⟩ hl.1 (Nat.le_of_ble_eq_true rfl) dX4_isDry_3 ?_
  refine lv_if_eq (tgt := 22) hx hb dX4_isDry_6 (by decide) (fun c_3 => ?_) (fun c_3 => ?_)
  · have hf := ifp c_3 hf
    refine lv_iconst (v := 0) hx hb dX4_isDry_22 (by decide) ?_
    exact kr _ (Option.some.inj hf).symm (by decide) _ _ dX4_isDry_23
  · have hf := ifn c_3 hf
    refine lv_aload_n hx hb dX4_isDry_9 rfl (lv_at hl 0 rfl) ?_
    refine mo_g1 B hK hP dX4_isDry_10 ?_
    refine lv_iload_n hx hb dX4_isDry_13 rfl (lv_at hl 1 rfl) ?_
    obtain ⟨v_4, e_5, hf⟩ := bo hf
    refine mo_ld1 B hK hP e_5 dX4_isDry_14 ?_
    refine lv_if_ne (tgt := 22) hx hb dX4_isDry_15 (by decide) (fun c_6 => ?_) (fun c_6 => ?_)
    · have hf := ifn c_6 hf
      refine lv_iconst (v := 0) hx hb dX4_isDry_22 (by decide) ?_
      exact kr _ (Option.some.inj hf).symm (by decide) _ _ dX4_isDry_23
    · have hf := ifp c_6 hf
      refine lv_iconst (v := 1) hx hb dX4_isDry_18 (by decide) ?_
      refine lv_goto (tgt := 23) hx hb dX4_isDry_19 (by decide) ?_
      exact kr _ (Option.some.inj hf).symm (by decide) _ _ dX4_isDry_23

theorem tM_isDry (l : Launch) (X : CX) (a : Nat → Nat) (rest : va_W) (w : MW) (x1 : Int32) (r : Int32) (hf : fM_isDry w x1 = some r) : RO l yX4_isDry cX4_isDry 2 (some .boolean) 1 22 [.ref (a 0), .int x1] X (MP X a w ++ rest) (some (.int r)) := by
  refine RO.mk (by decide) (Nat.le_of_ble_eq_true rfl) ?_
  intro p e s m below meth c B hr hlk hK hP ls hl
  exact wM_isDry B hK hP hf (fun r h hn pc ls hd => by cases h; exact w_zretR B hr hlk hn rfl hd) hl
theorem cM_isDry (B : CallFix p m c cc nL s args lw_all RX4) (hK : KK X s) (hS : va_S (Az X) s.heap H locs) (hP : va_P X.2.2.1 vwCl (MP X a w ++ rest) H) {x1 : Int32} {r : Int32} (hf : fM_isDry w x1 = some r) (hR : 1 + 1 ≤ R.frames ∧ 43 ≤ R.locals) (hcs : cells ≤ R.cells ∧ slots ≤ R.slots) (hl : ls.size = nL) (hcat : (st.map fun v => v.category).sum ≤ 8) (hdg : decode cc pc = .ok (.invokevirtual 252, 3)) (kk : W p l e R s m args below meth c H locs cells slots Q (F0 m (pc + 3) ls (.int r :: st))) : W p l e R s m args below meth c H locs cells slots Q (F0 m pc ls (.int x1 :: .ref (a 0) :: st)) :=
  w_afterR (w_rV_RO (As := [.int x1]) B hK hS hP (tM_isDry l X a rest w x1 r hf) (lw_V q1758 q1760 qs69 q91 q1761) 0 rfl rfl (n := 1) (by decide +kernel) hR hcs rfl hl rfl hcat hdg) kk
end S_isDry

section S_fits
variable {p : Program} {l : Launch} {e : Env} {R : Room} {s : State} {m : MethodId} {args : Array Value} {below : List Frame} {meth : Method} {c : Code} {H : Heap} {locs : List Loc} {cells slots : Nat} {Q : State → Prop} {cc : ByteArray} {nL pc : Nat} {ls : Array Slot} {st : List Value} {X : CX} {a : Nat → Nat} {w : MW} {rest : va_W}
noncomputable def fM_fits_L14 (w : MW) (x1 : Int32) (x2 : Int32) (x3 : Int32) (x4 : Int32) (x5 : Int32) : Option ((Int32 × MW) ⊕ (((MW) ⊕ MW))) :=
  if x2 ≤ x5 then
    some (.inr (.inl w))
  else
    if x5 = x3 then
      (some (x5 + 1)).bind fun x_3 =>
      some (.inl (x_3, w))
    else
      (fM_toldAt w x1 (2 * x5)).bind fun r_5 =>
      b2 (fM_armFor w (r_5.toInt32) x4) fun r_7 w_8 =>
      (fM_toldAt w_8 x1 ((2 * x5) + 1)).bind fun r_10 =>
      if (lg_cmp (r_7.toInt64) r_10) = 0 then
        (some (x5 + 1)).bind fun x_13 =>
        some (.inl (x_13, w_8))
      else
        some (.inr (.inr w_8))

set_option maxHeartbeats 4000000 in
theorem wM_fits_L14 (B : CallFix p m c cX4_fits 6 s args lw_all RX4) (hK : KK X s) {w : MW} {x1 : Int32} {x2 : Int32} {x3 : Int32} {x4 : Int32} {x5 : Int32} {res : (Int32 × MW) ⊕ (((MW) ⊕ MW))} (hf : fM_fits_L14 w x1 x2 x3 x4 x5 = some res) (kc : ∀ (y5 : Int32) (w1 : MW), res = .inl (y5, w1) → ∀ (H : Heap) (locs : List Loc), GG X (MP X a w1 ++ rest) s.heap H locs → ∀ (ls : Array Slot), lv_has ls 6 [(0, .ref (a 0)), (1, .int x1), (2, .int x2), (3, .int x3), (4, .int x4), (5, .int y5)] → W p l e (RMw 7 0 0 150) s m args below meth c H locs 0 0 Q (F0 m 14 ls [])) (ke66 : ∀ (w1 : MW), res = .inr (.inl w1) → ∀ (H : Heap) (locs : List Loc), GG X (MP X a w1 ++ rest) s.heap H locs → ∀ (ls : Array Slot), lv_has ls 6 [] → W p l e (RMw 7 0 0 150) s m args below meth c H locs 0 0 Q (F0 m 66 ls [])) (ke58 : ∀ (w1 : MW), res = .inr (.inr w1) → ∀ (H : Heap) (locs : List Loc), GG X (MP X a w1 ++ rest) s.heap H locs → ∀ (ls : Array Slot), lv_has ls 6 [] → W p l e (RMw 7 0 0 150) s m args below meth c H locs 0 0 Q (F0 m 58 ls [])) {H : Heap} {locs : List Loc} (hG : GG X (MP X a w ++ rest) s.heap H locs) {ls : Array Slot} (hl : lv_has ls 6 [(0, .ref (a 0)), (1, .int x1), (2, .int x2), (3, .int x3), (4, .int x4), (5, .int x5)]) : W p l e (RMw 7 0 0 150) s m args below meth c H locs 0 0 Q (F0 m 14 ls []) := by
  have hx := B.1
  have hb := B.2.1
  unfold fM_fits_L14 at hf
  refine lv_iload hx hb dX4_fits_14 (lv_at hl 5 rfl) ?_
  refine lv_iload_n hx hb dX4_fits_16 rfl (lv_at hl 2 rfl) ?_
  refine lv_icmp_ge (tgt := 66) hx hb dX4_fits_17 (by decide) (fun c_1 => ?_) (fun c_1 => ?_)
  · have hf := ifp c_1 hf
    exact ke66 _ (Option.some.inj hf).symm _ _ hG _ (lv_sub hl [] rfl)
  · have hf := ifn c_1 hf
    refine lv_iload hx hb dX4_fits_20 (lv_at hl 5 rfl) ?_
    refine lv_iload_n hx hb dX4_fits_22 rfl (lv_at hl 3 rfl) ?_
    refine lv_icmp_eq (tgt := 60) hx hb dX4_fits_23 (by decide) (fun c_2 => ?_) (fun c_2 => ?_)
    · have hf := ifp c_2 hf
      obtain ⟨x_3, e_4, hf⟩ := bo hf
      refine w_iinc (k := 5) (lv' := [(5, .int x_3), (0, .ref (a 0)), (1, .int x1), (2, .int x2), (3, .int x3), (4, .int x4)]) e_4 hx hb dX4_fits_60 hl rfl (by decide) rfl (fun ls hl => ?_)
      refine lv_goto (tgt := 14) hx hb dX4_fits_63 (by decide) ?_
      exact kc _ _ (Option.some.inj hf).symm _ _ hG _ (lv_sub hl [1, 2, 3, 4, 5, 0] rfl)
    · have hf := ifn c_2 hf
      refine lv_aload_n hx hb dX4_fits_26 rfl (lv_at hl 0 rfl) ?_
      refine lv_aload_n hx hb dX4_fits_27 rfl (lv_at hl 0 rfl) ?_
      refine lv_iload_n hx hb dX4_fits_28 rfl (lv_at hl 1 rfl) ?_
      refine lv_iconst (v := 2) hx hb dX4_fits_29 (by decide) ?_
      refine lv_iload hx hb dX4_fits_30 (lv_at hl 5 rfl) ?_
      refine lv_imul hx hb dX4_fits_32 ?_
      obtain ⟨r_5, e_6, hf⟩ := bo hf
      refine cM_toldAt B hK hG.2.2 hG.1 e_6 ⟨Nat.le_of_ble_eq_true rfl, Nat.le_of_ble_eq_true rfl⟩ ⟨Nat.zero_le _, Nat.zero_le _⟩ hl.1 (Nat.le_of_ble_eq_true rfl) dX4_fits_33 ?_
      refine lv_l2i hx hb dX4_fits_36 rfl ?_
      refine lv_iload hx hb dX4_fits_37 (lv_at hl 4 rfl) ?_
      obtain ⟨r_7, w_8, e_9, hf⟩ := b2s hf
      refine cM_armFor B hK hG e_9 ⟨Nat.le_of_ble_eq_true rfl, Nat.le_of_ble_eq_true rfl⟩ ⟨Nat.zero_le _, Nat.zero_le _⟩ hl.1 (Nat.le_of_ble_eq_true rfl) dX4_fits_39 (fun H locs hG => ?_)
      refine lv_i2l hx hb dX4_fits_42 rfl ?_
      refine lv_aload_n hx hb dX4_fits_43 rfl (lv_at hl 0 rfl) ?_
      refine lv_iload_n hx hb dX4_fits_44 rfl (lv_at hl 1 rfl) ?_
      refine lv_iconst (v := 2) hx hb dX4_fits_45 (by decide) ?_
      refine lv_iload hx hb dX4_fits_46 (lv_at hl 5 rfl) ?_
      refine lv_imul hx hb dX4_fits_48 ?_
      refine lv_iconst (v := 1) hx hb dX4_fits_49 (by decide) ?_
      refine lv_iadd hx hb dX4_fits_50 ?_
      obtain ⟨r_10, e_11, hf⟩ := bo hf
      refine cM_toldAt B hK hG.2.2 hG.1 e_11 ⟨Nat.le_of_ble_eq_true rfl, Nat.le_of_ble_eq_true rfl⟩ ⟨Nat.zero_le _, Nat.zero_le _⟩ hl.1 (Nat.le_of_ble_eq_true rfl) dX4_fits_51 ?_
      refine W.lcmp hx hb dX4_fits_54 ?_
      refine lv_if_eq (tgt := 60) hx hb dX4_fits_55 (by decide) (fun c_12 => ?_) (fun c_12 => ?_)
      · have hf := ifp c_12 hf
        obtain ⟨x_13, e_14, hf⟩ := bo hf
        refine w_iinc (k := 5) (lv' := [(5, .int x_13), (0, .ref (a 0)), (1, .int x1), (2, .int x2), (3, .int x3), (4, .int x4)]) e_14 hx hb dX4_fits_60 hl rfl (by decide) rfl (fun ls hl => ?_)
        refine lv_goto (tgt := 14) hx hb dX4_fits_63 (by decide) ?_
        exact kc _ _ (Option.some.inj hf).symm _ _ hG _ (lv_sub hl [1, 2, 3, 4, 5, 0] rfl)
      · have hf := ifn c_12 hf
        exact ke58 _ (Option.some.inj hf).symm _ _ hG _ (lv_sub hl [] rfl)

set_option maxHeartbeats 4000000 in
theorem vM_fits_L14 (B : CallFix p m c cX4_fits 6 s args lw_all RX4) (hK : KK X s) {w : MW} {x1 : Int32} {x2 : Int32} {x3 : Int32} {x4 : Int32} {x5 : Int32} {res : ((MW) ⊕ MW)} (hf : lp (fun q : Int32 × MW => fM_fits_L14 q.2 x1 x2 x3 x4 q.1) (x5, w) = some res) (ke66 : ∀ (w1 : MW), res = (.inl w1) → ∀ (H : Heap) (locs : List Loc), GG X (MP X a w1 ++ rest) s.heap H locs → ∀ (ls : Array Slot), lv_has ls 6 [] → W p l e (RMw 7 0 0 150) s m args below meth c H locs 0 0 Q (F0 m 66 ls [])) (ke58 : ∀ (w1 : MW), res = (.inr w1) → ∀ (H : Heap) (locs : List Loc), GG X (MP X a w1 ++ rest) s.heap H locs → ∀ (ls : Array Slot), lv_has ls 6 [] → W p l e (RMw 7 0 0 150) s m args below meth c H locs 0 0 Q (F0 m 58 ls [])) {H : Heap} {locs : List Loc} (hG : GG X (MP X a w ++ rest) s.heap H locs) {ls : Array Slot} (hl : lv_has ls 6 [(0, .ref (a 0)), (1, .int x1), (2, .int x2), (3, .int x3), (4, .int x4), (5, .int x5)]) : W p l e (RMw 7 0 0 150) s m args below meth c H locs 0 0 Q (F0 m 14 ls []) := by
  refine lp_ind (r := res) (P := fun q : Int32 × MW => ∀ (H : Heap) (locs : List Loc) (ls : Array Slot), GG X (MP X a q.2 ++ rest) s.heap H locs → lv_has ls 6 [(0, .ref (a 0)), (1, .int x1), (2, .int x2), (3, .int x3), (4, .int x4), (5, .int q.1)] → W p l e (RMw 7 0 0 150) s m args below meth c H locs 0 0 Q (F0 m 14 ls [])) ?_ ?_ _ hf _ _ _ hG hl
  · intro q hb H locs ls hG hl
    exact wM_fits_L14 B hK hb (fun _ _ h => by cases h) (fun z0 h => ke66 z0 (Sum.inr.inj h)) (fun z0 h => ke58 z0 (Sum.inr.inj h)) hG hl
  · intro q q2 hb ih H locs ls hG hl
    exact wM_fits_L14 B hK hb (fun z0 z1 h => by cases h; exact fun H locs hG ls hl => ih H locs ls hG hl) (fun _ h => by cases h) (fun _ h => by cases h) hG hl

noncomputable def fM_fits (w : MW) (x1 : Int32) (x2 : Int32) (x3 : Int32) (x4 : Int32) : Option (Int32 × MW) :=
  (fM_isDry w x4).bind fun r_1 =>
  if r_1 = 0 then
    some (0, w)
  else
    (lp (fun q : Int32 × MW => fM_fits_L14 q.2 x1 x2 x3 x4 q.1) (0, w)).bind
      (Sum.elim (
        fun q_6 => (fun (w_4 : MW) =>
          some (1, w_4)
        ) q_6
      )
        (
          fun q_7 => (fun (w_5 : MW) =>
            some (0, w_5)
          ) q_7
        )
      )

set_option maxHeartbeats 4000000 in
theorem wM_fits (B : CallFix p m c cX4_fits 6 s args lw_all RX4) (hK : KK X s) {w : MW} {x1 : Int32} {x2 : Int32} {x3 : Int32} {x4 : Int32} {res : Int32 × MW} (hf : fM_fits w x1 x2 x3 x4 = some res) (kr : ∀ (r : Int32) (w1 : MW), res = (r, w1) → narrow .boolean (.int r) = .int r → ∀ (H : Heap) (locs : List Loc), GG X (MP X a w1 ++ rest) s.heap H locs → ∀ (pc : Nat) (ls : Array Slot), decode cX4_fits pc = .ok (.ireturn, 1) → W p l e (RMw 7 0 0 150) s m args below meth c H locs 0 0 Q (F0 m pc ls [.int r])) {H : Heap} {locs : List Loc} (hG : GG X (MP X a w ++ rest) s.heap H locs) {ls : Array Slot} (hl : lv_has ls 6 [(0, .ref (a 0)), (1, .int x1), (2, .int x2), (3, .int x3), (4, .int x4)]) : W p l e (RMw 7 0 0 150) s m args below meth c H locs 0 0 Q (F0 m 0 ls []) := by
  have hx := B.1
  have hb := B.2.1
  unfold fM_fits at hf
  refine lv_aload_n hx hb dX4_fits_0 rfl (lv_at hl 0 rfl) ?_
  refine lv_iload hx hb dX4_fits_1 (lv_at hl 4 rfl) ?_
  obtain ⟨r_1, e_2, hf⟩ := bo hf
  refine cM_isDry B hK hG.2.2 hG.1 e_2 ⟨Nat.le_of_ble_eq_true rfl, Nat.le_of_ble_eq_true rfl⟩ ⟨Nat.zero_le _, Nat.zero_le _⟩ hl.1 (Nat.le_of_ble_eq_true rfl) dX4_fits_3 ?_
  refine lv_if_ne (tgt := 11) hx hb dX4_fits_6 (by decide) (fun c_3 => ?_) (fun c_3 => ?_)
  · have hf := ifn c_3 hf
    refine lv_iconst (v := 0) hx hb dX4_fits_11 (by decide) ?_
    refine lv_istore (lv' := [(5, .int 0), (0, .ref (a 0)), (1, .int x1), (2, .int x2), (3, .int x3), (4, .int x4)]) hx hb dX4_fits_12 hl (by decide) rfl (fun ls hl => ?_)
    rcases bs hf with ⟨w_4, e_8, hf⟩ | ⟨w_5, e_8, hf⟩
    · try dsimp only at hf
      refine vM_fits_L14 B hK e_8 ?_ (fun _ h => by cases h) hG (lv_sub hl [1, 2, 3, 4, 5, 0] rfl)
      intro z0 hz
      cases hz
      intro H locs hG ls hl
      refine lv_iconst (v := 1) hx hb dX4_fits_66 (by decide) ?_
      exact kr _ _ (Option.some.inj hf).symm (by decide) _ _ hG _ _ dX4_fits_67
    · try dsimp only at hf
      refine vM_fits_L14 B hK e_8 (fun _ h => by cases h) ?_ hG (lv_sub hl [1, 2, 3, 4, 5, 0] rfl)
      intro z0 hz
      cases hz
      intro H locs hG ls hl
      refine lv_iconst (v := 0) hx hb dX4_fits_58 (by decide) ?_
      exact kr _ _ (Option.some.inj hf).symm (by decide) _ _ hG _ _ dX4_fits_59
  · have hf := ifp c_3 hf
    refine lv_iconst (v := 0) hx hb dX4_fits_9 (by decide) ?_
    exact kr _ _ (Option.some.inj hf).symm (by decide) _ _ hG _ _ dX4_fits_10

theorem tM_fits (l : Launch) (X : CX) (a : Nat → Nat) (rest : va_W) (w w' : MW) (x1 : Int32) (x2 : Int32) (x3 : Int32) (x4 : Int32) (r : Int32) (hf : fM_fits w x1 x2 x3 x4 = some (r, w')) : RW l yX4_fits cX4_fits 6 (some .boolean) 7 0 0 150 [.ref (a 0), .int x1, .int x2, .int x3, .int x4] X (MP X a w ++ rest) (MP X a w' ++ rest) (some (.int r)) := by
  refine RW.mk (by decide) (Nat.le_of_ble_eq_true rfl) ?_
  intro p e s m below meth c B hr hlk hK hG ls hl
  exact wM_fits B hK hf (fun r w h hn H locs hG pc ls hd => by cases h; exact w_zretW B hr hlk hn hG hd) hG hl
theorem cM_fits (B : CallFix p m c cc nL s args lw_all RX4) (hK : KK X s) (hG : GG X (MP X a w ++ rest) s.heap H locs) {x1 : Int32} {x2 : Int32} {x3 : Int32} {x4 : Int32} {r : Int32} {w' : MW} (hf : fM_fits w x1 x2 x3 x4 = some (r, w')) (hR : 7 + 1 ≤ R.frames ∧ 175 ≤ R.locals) (hcs : cells ≤ R.cells ∧ slots ≤ R.slots) (hl : ls.size = nL) (hcat : (st.map fun v => v.category).sum ≤ 8) (hdg : decode cc pc = .ok (.invokevirtual 255, 3)) (kk : ∀ (H1 : Heap) (locs1 : List Loc), GG X (MP X a w' ++ rest) s.heap H1 locs1 → W p l e R s m args below meth c H1 locs1 cells slots Q (F0 m (pc + 3) ls (.int r :: st))) : W p l e R s m args below meth c H locs cells slots Q (F0 m pc ls (.int x4 :: .int x3 :: .int x2 :: .int x1 :: .ref (a 0) :: st)) :=
  w_afterW (w_rV_RW (As := [.int x1, .int x2, .int x3, .int x4]) B hK hG (tM_fits l X a rest w w' x1 x2 x3 x4 r hf) (lw_V q1754 q1756 qs68 q91 q1757) 0 rfl rfl (n := 4) (by decide +kernel) hR hcs rfl hl rfl hcat hdg) hG.2.2 kk
end S_fits

section S_fitting
variable {p : Program} {l : Launch} {e : Env} {R : Room} {s : State} {m : MethodId} {args : Array Value} {below : List Frame} {meth : Method} {c : Code} {H : Heap} {locs : List Loc} {cells slots : Nat} {Q : State → Prop} {cc : ByteArray} {nL pc : Nat} {ls : Array Slot} {st : List Value} {X : CX} {a : Nat → Nat} {w : MW} {rest : va_W}
noncomputable def fM_fitting_L6 (w : MW) (x1 : Int32) (x2 : Int32) (x3 : Int32) (x4 : Int32) (x5 : Int32) : Option ((Int32 × Int32 × MW) ⊕ (Int32 × MW)) :=
  if 67 ≤ x5 then
    some (.inr (x4, w))
  else
    b2 (fM_fits w x1 x2 x3 x5) fun r_2 w_3 =>
    if r_2 = 0 then
      (some (x5 + 1)).bind fun x_6 =>
      some (.inl (x4, x_6, w_3))
    else
      (some (x4 + 1)).bind fun x_8 =>
      (some (x5 + 1)).bind fun x_10 =>
      some (.inl (x_8, x_10, w_3))

set_option maxHeartbeats 4000000 in
theorem wM_fitting_L6 (B : CallFix p m c cX4_fitting 6 s args lw_all RX4) (hK : KK X s) {w : MW} {x1 : Int32} {x2 : Int32} {x3 : Int32} {x4 : Int32} {x5 : Int32} {res : (Int32 × Int32 × MW) ⊕ (Int32 × MW)} (hf : fM_fitting_L6 w x1 x2 x3 x4 x5 = some res) (kc : ∀ (y4 : Int32) (y5 : Int32) (w1 : MW), res = .inl (y4, y5, w1) → ∀ (H : Heap) (locs : List Loc), GG X (MP X a w1 ++ rest) s.heap H locs → ∀ (ls : Array Slot), lv_has ls 6 [(0, .ref (a 0)), (1, .int x1), (2, .int x2), (3, .int x3), (4, .int y4), (5, .int y5)] → W p l e (RMw 8 0 0 175) s m args below meth c H locs 0 0 Q (F0 m 6 ls [])) (ke34 : ∀ (y4 : Int32) (w1 : MW), res = .inr (y4, w1) → ∀ (H : Heap) (locs : List Loc), GG X (MP X a w1 ++ rest) s.heap H locs → ∀ (ls : Array Slot), lv_has ls 6 [(4, .int y4)] → W p l e (RMw 8 0 0 175) s m args below meth c H locs 0 0 Q (F0 m 34 ls [])) {H : Heap} {locs : List Loc} (hG : GG X (MP X a w ++ rest) s.heap H locs) {ls : Array Slot} (hl : lv_has ls 6 [(0, .ref (a 0)), (1, .int x1), (2, .int x2), (3, .int x3), (4, .int x4), (5, .int x5)]) : W p l e (RMw 8 0 0 175) s m args below meth c H locs 0 0 Q (F0 m 6 ls []) := by
  have hx := B.1
  have hb := B.2.1
  unfold fM_fitting_L6 at hf
  refine lv_iload hx hb dX4_fitting_6 (lv_at hl 5 rfl) ?_
  refine lv_bipush (v := 67) hx hb dX4_fitting_8 (by decide) ?_
  refine lv_icmp_ge (tgt := 34) hx hb dX4_fitting_10 (by decide) (fun c_1 => ?_) (fun c_1 => ?_)
  · have hf := ifp c_1 hf
    exact ke34 _ _ (Option.some.inj hf).symm _ _ hG _ (lv_sub hl [4] rfl)
  · have hf := ifn c_1 hf
    refine lv_aload_n hx hb dX4_fitting_13 rfl (lv_at hl 0 rfl) ?_
    refine lv_iload_n hx hb dX4_fitting_14 rfl (lv_at hl 1 rfl) ?_
    refine lv_iload_n hx hb dX4_fitting_15 rfl (lv_at hl 2 rfl) ?_
    refine lv_iload_n hx hb dX4_fitting_16 rfl (lv_at hl 3 rfl) ?_
    refine lv_iload hx hb dX4_fitting_17 (lv_at hl 5 rfl) ?_
    obtain ⟨r_2, w_3, e_4, hf⟩ := b2s hf
    refine cM_fits B hK hG e_4 ⟨Nat.le_of_ble_eq_true rfl, Nat.le_of_ble_eq_true rfl⟩ ⟨Nat.zero_le _, Nat.zero_le _⟩ hl.1 (Nat.le_of_ble_eq_true rfl) dX4_fitting_19 (fun H locs hG => ?_)
    refine lv_if_eq (tgt := 28) hx hb dX4_fitting_22 (by decide) (fun c_5 => ?_) (fun c_5 => ?_)
    · have hf := ifp c_5 hf
      obtain ⟨x_6, e_7, hf⟩ := bo hf
      refine w_iinc (k := 5) (lv' := [(5, .int x_6), (0, .ref (a 0)), (1, .int x1), (2, .int x2), (3, .int x3), (4, .int x4)]) e_7 hx hb dX4_fitting_28 hl rfl (by decide) rfl (fun ls hl => ?_)
      refine lv_goto (tgt := 6) hx hb dX4_fitting_31 (by decide) ?_
      exact kc _ _ _ (Option.some.inj hf).symm _ _ hG _ (lv_sub hl [1, 2, 3, 4, 5, 0] rfl)
    · have hf := ifn c_5 hf
      obtain ⟨x_8, e_9, hf⟩ := bo hf
      refine w_iinc (k := 4) (lv' := [(4, .int x_8), (0, .ref (a 0)), (1, .int x1), (2, .int x2), (3, .int x3), (5, .int x5)]) e_9 hx hb dX4_fitting_25 hl rfl (by decide) rfl (fun ls hl => ?_)
      obtain ⟨x_10, e_11, hf⟩ := bo hf
      refine w_iinc (k := 5) (lv' := [(5, .int x_10), (4, .int x_8), (0, .ref (a 0)), (1, .int x1), (2, .int x2), (3, .int x3)]) e_11 hx hb dX4_fitting_28 hl rfl (by decide) rfl (fun ls hl => ?_)
      refine lv_goto (tgt := 6) hx hb dX4_fitting_31 (by decide) ?_
      exact kc _ _ _ (Option.some.inj hf).symm _ _ hG _ (lv_sub hl [2, 3, 4, 5, 1, 0] rfl)

set_option maxHeartbeats 4000000 in
theorem vM_fitting_L6 (B : CallFix p m c cX4_fitting 6 s args lw_all RX4) (hK : KK X s) {w : MW} {x1 : Int32} {x2 : Int32} {x3 : Int32} {x4 : Int32} {x5 : Int32} {res : Int32 × MW} (hf : lp (fun q : Int32 × Int32 × MW => fM_fitting_L6 q.2.2 x1 x2 x3 q.1 q.2.1) (x4, x5, w) = some res) (ke34 : ∀ (y4 : Int32) (w1 : MW), res = (y4, w1) → ∀ (H : Heap) (locs : List Loc), GG X (MP X a w1 ++ rest) s.heap H locs → ∀ (ls : Array Slot), lv_has ls 6 [(4, .int y4)] → W p l e (RMw 8 0 0 175) s m args below meth c H locs 0 0 Q (F0 m 34 ls [])) {H : Heap} {locs : List Loc} (hG : GG X (MP X a w ++ rest) s.heap H locs) {ls : Array Slot} (hl : lv_has ls 6 [(0, .ref (a 0)), (1, .int x1), (2, .int x2), (3, .int x3), (4, .int x4), (5, .int x5)]) : W p l e (RMw 8 0 0 175) s m args below meth c H locs 0 0 Q (F0 m 6 ls []) := by
  refine lp_ind (r := res) (P := fun q : Int32 × Int32 × MW => ∀ (H : Heap) (locs : List Loc) (ls : Array Slot), GG X (MP X a q.2.2 ++ rest) s.heap H locs → lv_has ls 6 [(0, .ref (a 0)), (1, .int x1), (2, .int x2), (3, .int x3), (4, .int q.1), (5, .int q.2.1)] → W p l e (RMw 8 0 0 175) s m args below meth c H locs 0 0 Q (F0 m 6 ls [])) ?_ ?_ _ hf _ _ _ hG hl
  · intro q hb H locs ls hG hl
    exact wM_fitting_L6 B hK hb (fun _ _ _ h => by cases h) (fun z0 z1 h => ke34 z0 z1 (Sum.inr.inj h)) hG hl
  · intro q q2 hb ih H locs ls hG hl
    exact wM_fitting_L6 B hK hb (fun z0 z1 z2 h => by cases h; exact fun H locs hG ls hl => ih H locs ls hG hl) (fun _ _ h => by cases h) hG hl

noncomputable def fM_fitting (w : MW) (x1 : Int32) (x2 : Int32) (x3 : Int32) : Option (Int32 × MW) :=
  (lp (fun q : Int32 × Int32 × MW => fM_fitting_L6 q.2.2 x1 x2 x3 q.1 q.2.1) (0, 0, w)).bind (
    fun q_3 => (fun (y_1 : Int32) (w_2 : MW) =>
      some (y_1, w_2)
    ) q_3.1 q_3.2
  )

set_option maxHeartbeats 4000000 in
theorem wM_fitting (B : CallFix p m c cX4_fitting 6 s args lw_all RX4) (hK : KK X s) {w : MW} {x1 : Int32} {x2 : Int32} {x3 : Int32} {res : Int32 × MW} (hf : fM_fitting w x1 x2 x3 = some res) (kr : ∀ (r : Int32) (w1 : MW), res = (r, w1) → ∀ (H : Heap) (locs : List Loc), GG X (MP X a w1 ++ rest) s.heap H locs → ∀ (pc : Nat) (ls : Array Slot), decode cX4_fitting pc = .ok (.ireturn, 1) → W p l e (RMw 8 0 0 175) s m args below meth c H locs 0 0 Q (F0 m pc ls [.int r])) {H : Heap} {locs : List Loc} (hG : GG X (MP X a w ++ rest) s.heap H locs) {ls : Array Slot} (hl : lv_has ls 6 [(0, .ref (a 0)), (1, .int x1), (2, .int x2), (3, .int x3)]) : W p l e (RMw 8 0 0 175) s m args below meth c H locs 0 0 Q (F0 m 0 ls []) := by
  have hx := B.1
  have hb := B.2.1
  unfold fM_fitting at hf
  refine lv_iconst (v := 0) hx hb dX4_fitting_0 (by decide) ?_
  refine lv_istore (lv' := [(4, .int 0), (0, .ref (a 0)), (1, .int x1), (2, .int x2), (3, .int x3)]) hx hb dX4_fitting_1 hl (by decide) rfl (fun ls hl => ?_)
  refine lv_iconst (v := 0) hx hb dX4_fitting_3 (by decide) ?_
  refine lv_istore (lv' := [(5, .int 0), (4, .int 0), (0, .ref (a 0)), (1, .int x1), (2, .int x2), (3, .int x3)]) hx hb dX4_fitting_4 hl (by decide) rfl (fun ls hl => ?_)
  obtain ⟨⟨y_1, w_2⟩, e_4, hf⟩ := bo hf
  try dsimp only at hf
  refine vM_fitting_L6 B hK e_4 ?_ hG (lv_sub hl [2, 3, 4, 5, 1, 0] rfl)
  intro z0 z1 hz
  cases hz
  intro H locs hG ls hl
  refine lv_iload hx hb dX4_fitting_34 (lv_at hl 0 rfl) ?_
  exact kr _ _ (Option.some.inj hf).symm _ _ hG _ _ dX4_fitting_36

theorem tM_fitting (l : Launch) (X : CX) (a : Nat → Nat) (rest : va_W) (w w' : MW) (x1 : Int32) (x2 : Int32) (x3 : Int32) (r : Int32) (hf : fM_fitting w x1 x2 x3 = some (r, w')) : RW l yX4_fitting cX4_fitting 6 (some .int) 8 0 0 175 [.ref (a 0), .int x1, .int x2, .int x3] X (MP X a w ++ rest) (MP X a w' ++ rest) (some (.int r)) := by
  refine RW.mk (by decide) (Nat.le_of_ble_eq_true rfl) ?_
  intro p e s m below meth c B hr hlk hK hG ls hl
  exact wM_fitting B hK hf (fun r w h H locs hG pc ls hd => by cases h; exact w_iretW B hr hlk hG hd) hG hl
theorem cM_fitting (B : CallFix p m c cc nL s args lw_all RX4) (hK : KK X s) (hG : GG X (MP X a w ++ rest) s.heap H locs) {x1 : Int32} {x2 : Int32} {x3 : Int32} {r : Int32} {w' : MW} (hf : fM_fitting w x1 x2 x3 = some (r, w')) (hR : 8 + 1 ≤ R.frames ∧ 200 ≤ R.locals) (hcs : cells ≤ R.cells ∧ slots ≤ R.slots) (hl : ls.size = nL) (hcat : (st.map fun v => v.category).sum ≤ 8) (hdg : decode cc pc = .ok (.invokevirtual 262, 3)) (kk : ∀ (H1 : Heap) (locs1 : List Loc), GG X (MP X a w' ++ rest) s.heap H1 locs1 → W p l e R s m args below meth c H1 locs1 cells slots Q (F0 m (pc + 3) ls (.int r :: st))) : W p l e R s m args below meth c H locs cells slots Q (F0 m pc ls (.int x3 :: .int x2 :: .int x1 :: .ref (a 0) :: st)) :=
  w_afterW (w_rV_RW (As := [.int x1, .int x2, .int x3]) B hK hG (tM_fitting l X a rest w w' x1 x2 x3 r hf) (lw_V q1750 q1752 qs67 q91 q1753) 0 rfl rfl (n := 3) (by decide +kernel) hR hcs rfl hl rfl hcat hdg) hG.2.2 kk
end S_fitting
