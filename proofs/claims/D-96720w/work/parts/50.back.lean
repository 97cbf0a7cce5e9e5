set_option maxRecDepth 100000
/-! another fen becomes the one now; images -/
theorem GG.now {X : CX} {ca fa fa2 : Nat → Nat} {w : CW} {f2 : FW} {rest : va_W} {H0 H : Heap} {locs : List Loc} (h : GG X (FP X fa (cfe w) ++ (CPr X ca fa2 (cnf w f2) ++ (FP X fa2 f2 ++ rest))) H0 H locs) : GG X (CP X ca fa2 (cnf w f2) ++ rest) H0 H locs := by
  have h1 := h.sublist (List.sublist_append_right _ _)
  have h2 := h1.perm (List.perm_append_comm_assoc _ _ _)
  have e : CP X ca fa2 (cnf w f2) ++ rest = FP X fa2 f2 ++ (CPr X ca fa2 (cnf w f2) ++ rest) := List.append_assoc _ _ _
  rw [e]
  exact h2
set_option maxHeartbeats 4000000 in
theorem tC_becomes (l : Launch) (X : CX) (ca fa fa2 : Nat → Nat) (rest : va_W) (w : CW) (f2 : FW) (w' : CW) (hf : fC_becomes_J5 (cnf w f2) = some w') : RW l yX0_becomes cX0_becomes 4 none 1 0 0 22 [.ref (ca 0), .ref (fa2 0)] X (CP X ca fa w ++ (FP X fa2 f2 ++ rest)) (CP X ca fa2 w' ++ rest) none := by
  refine RW.mk (by decide) (Nat.le_of_ble_eq_true rfl) ?_
  intro p e s m below meth c B hr hlk hK hG ls hl
  have hl : lv_has ls 4 [(0, .ref (ca 0)), (1, .ref (fa2 0))] := hl
  have hx := B.1
  have hb := B.2.1
  refine lv_aload_n hx hb dX0_becomes_0 rfl (lv_at hl 0 rfl) ?_
  refine lv_aload_n hx hb dX0_becomes_1 rfl (lv_at hl 1 rfl) ?_
  refine w_put B hK hG 8 0 rfl rfl in_X0 tyX0 tyX0_ok nmX0 (by decide) q221 rfl rfl rfl rfl (Nat.le_of_ble_eq_true rfl) dX0_becomes_2 (fun H locs hG => ?_)
  have hG : GG X (FP X fa (cfe w) ++ (CPr X ca fa2 (cnf w f2) ++ (FP X fa2 f2 ++ rest))) s.heap H locs := hG
  exact wC_becomes_J5 B hK hf (fun w h H locs hG pc ls hd => by cases h; exact w_vretW B hr hlk hG hd) (GG.now hG) (lv_sub hl [0] rfl)
def cimg (c : CW) (i : Option FE) : CW := (c.1, c.2.1, c.2.2.1, c.2.2.2.1, c.2.2.2.2.1, c.2.2.2.2.2.1, i)
/-- the explicit cells of the thing itself, its image being v -/
def CPe (X : CX) (ca fa : Nat → Nat) (c : CW) (v : Value) : va_W := [(ca 0, .inr (1, [.ref (fa 0), v, .ref (ca 3), .ref (ca 4), .ref (ca 5), .ref (ca 6), .int (c.1 6), .ref (ca 8)])), (ca 3, .inr (3, [.ref (ca 9), .int (c.1 8)])), (ca 9, .inl (X.2.2.2 0, 4, .inl (c.2.1 8))), (ca 4, .inl (X.2.2.2 1, 70, .inr (.inl c.2.2.1))), (ca 6, .inl (X.2.2.2 0, 250, .inl (c.2.1 5))), (ca 8, .inl (X.2.2.2 0, 7, .inl (c.2.1 7))), (ca 5, .inl (X.2.2.2 6, 8, .inr (.inr (.inr (.inr (fun j => some (ca (10 + j)))))))), (ca 10, .inr (4, [hval (chd c 0)])), (ca 11, .inr (4, [hval (chd c 1)])), (ca 12, .inr (4, [hval (chd c 2)])), (ca 13, .inr (4, [hval (chd c 3)])), (ca 14, .inr (4, [hval (chd c 4)])), (ca 15, .inr (4, [hval (chd c 5)])), (ca 16, .inr (4, [hval (chd c 6)])), (ca 17, .inr (4, [hval (chd c 7)]))] ++ ((cpl c).map PC ++ rowsC X (chd c))
theorem CP_eq (X : CX) (ca fa : Nat → Nat) (c : CW) (i : Option FE) (rest : va_W) : CP X ca fa (cimg c i) ++ rest = FP X fa (cfe c) ++ (CPe X ca fa c (img0 i) ++ (imgC X i ++ rest)) := by
  have e : CPr X ca fa (cimg c i) = CPe X ca fa c (img0 i) ++ imgC X i := by
    unfold CPe
    rw [List.append_assoc, List.append_assoc]
    rfl
  show (FP X fa (cfe c) ++ CPr X ca fa (cimg c i)) ++ rest = _
  rw [e, List.append_assoc, List.append_assoc]
theorem cimg_self (c : CW) : cimg c (cim c) = c := rfl
set_option maxHeartbeats 4000000 in
theorem tC_image (l : Launch) (X : CX) (ca fa : Nat → Nat) (rest : va_W) (w : CW) (hposts : ∀ i P, i < 8 → (cfe w).2.2 i = some P → P ∈ cpl w) : RX l yX0_image cX0_image 1 (some .int) 4 8 110 130 [.ref (ca 0)] X (CP X ca fa w ++ rest) (fun v (_ : Nat → Nat) => v = some (.int 1)) (fun u => CP X ca fa (cimg w (some (u, fcopy (cfe w)))) ++ rest) := by
  refine RX.mk (by decide) (Nat.le_of_ble_eq_true rfl) ?_
  intro p e s m below meth c B hr hlk _ hK hG ls hl
  have hl : lv_has ls 1 [(0, .ref (ca 0))] := hl
  have hx := B.1
  have hb := B.2.1
  have hp2 : ∀ i P, i < 8 → (cfe w).2.2 i = some P → PC P ∈ CPr X ca fa w ++ rest := fun i P hi hP => List.mem_append_left _ (List.mem_append_right _ (List.mem_append_left _ (List.mem_map.mpr ⟨P, hposts i P hi hP, rfl⟩)))
  refine lv_aload_n hx hb dX0_image_0 rfl (lv_at hl 0 rfl) ?_
  refine lv_aload_n hx hb dX0_image_1 rfl (lv_at hl 0 rfl) ?_
  refine co_this_g0 B hK hG.1 dX0_image_2 ?_
  refine w_afterX (w_rV_RX (ws := FP X fa (cfe w) ++ (CPr X ca fa w ++ rest)) (As := []) B hK hG (tF_copied l X fa (CPr X ca fa w ++ rest) (cfe w) hp2) (lw_V q712 q713 q714 q88 q715) 0 (ci := 2) (C := RX1) (T := TX1) (N := 11) rfl rfl (n := 0) (by decide +kernel) ⟨Nat.le_of_ble_eq_true rfl, Nat.le_of_ble_eq_true rfl⟩ ⟨Nat.le_of_ble_eq_true rfl, Nat.le_of_ble_eq_true rfl⟩ rfl hl.1 rfl (Nat.le_of_ble_eq_true rfl) dX0_image_5) hG.2.2 (fun v u H locs hv hG2 => ?_)
  obtain rfl := hv
  refine W.eq (g2 := F0 m 8 ls [.ref (u 0), .ref (ca 0)]) rfl ?_
  refine w_put B hK hG2 16 1 rfl rfl in_X0 tyX0 tyX0_ok nmX0 (by decide) q222 rfl rfl rfl rfl (Nat.le_of_ble_eq_true rfl) dX0_image_8 (fun H locs hG => ?_)
  have hG : GG X (FP X fa (cfe w) ++ (FP X u (fcopy (cfe w)) ++ ((CPr X ca fa w ++ rest).set 0 (ca 0, .inr (1, [.ref (fa 0), .ref (u 0), .ref (ca 3), .ref (ca 4), .ref (ca 5), .ref (ca 6), .int (w.1 6), .ref (ca 8)]))))) s.heap H locs := hG
  have e1 : (CPr X ca fa w ++ rest).set 0 (ca 0, .inr (1, [.ref (fa 0), .ref (u 0), .ref (ca 3), .ref (ca 4), .ref (ca 5), .ref (ca 6), .int (w.1 6), .ref (ca 8)])) = CPe X ca fa w (.ref (u 0)) ++ (imgC X (cim w) ++ rest) := by
    have e2 : CPr X ca fa w ++ rest = CPe X ca fa w (img0 (cim w)) ++ (imgC X (cim w) ++ rest) := by
      unfold CPe
      rw [List.append_assoc, List.append_assoc]
      show (_ ++ CPt X w) ++ rest = _
      unfold CPt
      rw [List.append_assoc, List.append_assoc, List.append_assoc]
    rw [e2]
    rfl
  rw [e1] at hG
  have hG : GG X (CP X ca fa (cimg w (some (u, fcopy (cfe w)))) ++ rest) s.heap H locs := by
    rw [CP_eq]
    have g1 := hG.perm (List.Perm.append_left _ (List.perm_append_comm_assoc _ _ _))
    refine g1.sublist (List.Sublist.append (List.Sublist.refl _) (List.Sublist.append (List.Sublist.refl _) (List.Sublist.append (List.Sublist.refl _) (List.sublist_append_right _ _))))
  refine lv_iconst (v := 1) hx hb dX0_image_11 (by decide) ?_
  exact w_iretX B hr hlk u rfl hG dX0_image_12
set_option maxHeartbeats 4000000 in
theorem tC_back0 (l : Launch) (X : CX) (ca fa : Nat → Nat) (rest : va_W) (w w' : CW) (r : Int32) (hn : cim w = none) (hf : fC_no w (-5) = some (r, w')) : RW l yX0_back cX0_back 1 (some .int) 1 0 0 21 [.ref (ca 0)] X (CP X ca fa w ++ rest) (CP X ca fa w' ++ rest) (some (.int r)) := by
  refine RW.mk (by decide) (Nat.le_of_ble_eq_true rfl) ?_
  intro p e s m below meth c B hr hlk hK hG ls hl
  have hl : lv_has ls 1 [(0, .ref (ca 0))] := hl
  have hx := B.1
  have hb := B.2.1
  refine lv_aload_n hx hb dX0_back_0 rfl (lv_at hl 0 rfl) ?_
  refine w_get B hK hG.1 8 1 rfl rfl in_X0 (by decide) q222 rfl (v := .null) (by show some (img0 (cim w)) = _; rw [hn]; rfl) dX0_back_1 ?_
  refine lv_ifnonnullN hx hb dX0_back_4 ?_
  refine lv_aload_n hx hb dX0_back_7 rfl (lv_at hl 0 rfl) ?_
  refine lv_bipush (v := (-5)) hx hb dX0_back_8 (by decide) ?_
  refine cC_no B hK hG hf rfl ⟨Nat.le_of_ble_eq_true rfl, Nat.le_of_ble_eq_true rfl⟩ ⟨Nat.zero_le _, Nat.zero_le _⟩ hl.1 (Nat.le_of_ble_eq_true rfl) dX0_back_10 (fun H locs hG => ?_)
  exact w_iretW B hr hlk hG dX0_back_13
set_option maxHeartbeats 4000000 in
theorem tC_back1 (l : Launch) (X : CX) (ca fa fi : Nat → Nat) (rest : va_W) (w w' : CW) (fI : FW) (hi : cim w = some (fi, fI)) (hposts : ∀ i P, i < 8 → fI.2.2 i = some P → P ∈ cpl w) (hf : fC_becomes_J5 (cnf w (fcopy fI)) = some w') : RX l yX0_back cX0_back 1 (some .int) 4 8 110 130 [.ref (ca 0)] X (CP X ca fa w ++ rest) (fun v (_ : Nat → Nat) => v = some (.int 1)) (fun u => CP X ca u w' ++ rest) := by
  refine RX.mk (by decide) (Nat.le_of_ble_eq_true rfl) ?_
  intro p e s m below meth c B hr hlk _ hK hG ls hl
  have hl : lv_has ls 1 [(0, .ref (ca 0))] := hl
  have hx := B.1
  have hb := B.2.1
  have eq1 : ∀ rest : va_W, CP X ca fa w ++ rest = (FP X fa (cfe w) ++ CPe X ca fa w (.ref (fi 0))) ++ (FP X fi fI ++ rest) := by
    intro rest
    have h := CP_eq X ca fa w (cim w) rest
    rw [cimg_self, hi] at h
    rw [h, List.append_assoc]
    rfl
  have hv : ([Value.ref (fa 0), img0 (cim w), .ref (ca 3), .ref (ca 4), .ref (ca 5), .ref (ca 6), .int (w.1 6), .ref (ca 8)] : List Value)[1]? = some (.ref (fi 0)) := by show some (img0 (cim w)) = _; rw [hi]; rfl
  refine lv_aload_n hx hb dX0_back_0 rfl (lv_at hl 0 rfl) ?_
  refine w_get B hK hG.1 8 1 rfl rfl in_X0 (by decide) q222 rfl (v := .ref (fi 0)) hv dX0_back_1 ?_
  refine lv_ifnonnull (tgt := 14) hx hb dX0_back_4 (by decide) ?_
  refine lv_aload_n hx hb dX0_back_14 rfl (lv_at hl 0 rfl) ?_
  refine lv_aload_n hx hb dX0_back_15 rfl (lv_at hl 0 rfl) ?_
  refine w_get B hK hG.1 8 1 rfl rfl in_X0 (by decide) q222 rfl (v := .ref (fi 0)) hv dX0_back_16 ?_
  have hp2 : ∀ i P, i < 8 → fI.2.2 i = some P → PC P ∈ (FP X fa (cfe w) ++ CPe X ca fa w (.ref (fi 0))) ++ rest := fun i P h1 h2 => List.mem_append_left _ (List.mem_append_right _ (List.mem_append_right _ (List.mem_append_left _ (List.mem_map.mpr ⟨P, hposts i P h1 h2, rfl⟩))))
  have hG1 : GG X (FP X fi fI ++ ((FP X fa (cfe w) ++ CPe X ca fa w (.ref (fi 0))) ++ rest)) s.heap s.heap [] := by
    rw [eq1] at hG
    exact hG.perm (List.perm_append_comm_assoc _ _ _)
  refine w_afterX (w_rV_RX (As := []) B hK hG1 (tF_copied l X fi _ fI hp2) (lw_V q712 q713 q714 q88 q715) 0 (ci := 2) (C := RX1) (T := TX1) (N := 11) rfl rfl (n := 0) (by decide +kernel) ⟨Nat.le_of_ble_eq_true rfl, Nat.le_of_ble_eq_true rfl⟩ ⟨Nat.le_of_ble_eq_true rfl, Nat.le_of_ble_eq_true rfl⟩ rfl hl.1 rfl (Nat.le_of_ble_eq_true rfl) dX0_back_19) hG1.2.2 (fun v u H locs hv hG2 => ?_)
  obtain rfl := hv
  refine W.eq (g2 := F0 m 22 ls [.ref (u 0), .ref (ca 0)]) rfl ?_
  have hG3 : GG X (CP X ca fa w ++ (FP X u (fcopy fI) ++ rest)) s.heap H locs := by
    rw [eq1]
    have g1 := hG2.perm (List.Perm.append_left _ (List.perm_append_comm_assoc _ _ _))
    exact g1.perm (List.perm_append_comm_assoc _ _ _)
  refine w_afterWv (w_rV_RW (As := [.ref (u 0)]) B hK hG3 (tC_becomes l X ca fa u rest w (fcopy fI) w' hf) (lw_V q1063 q1065 qs13 q87 q1066) 8 (ci := 1) (C := RX0) (T := TX0) (N := 8) rfl rfl (n := 1) (by decide +kernel) ⟨Nat.le_of_ble_eq_true rfl, Nat.le_of_ble_eq_true rfl⟩ ⟨Nat.le_of_ble_eq_true rfl, Nat.le_of_ble_eq_true rfl⟩ rfl hl.1 rfl (Nat.le_of_ble_eq_true rfl) dX0_back_22) hG3.2.2 (fun H locs hG => ?_)
  refine lv_iconst (v := 1) hx hb dX0_back_25 (by decide) ?_
  exact w_iretX B hr hlk u rfl hG dX0_back_26
