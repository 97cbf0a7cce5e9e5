set_option maxRecDepth 100000
def cadd (c : CW) (P : PV) : CW := (c.1, c.2.1, c.2.2.1, c.2.2.2.1, P :: c.2.2.2.2.1, fadd (cfe c) P, c.2.2.2.2.2.2)
noncomputable def fC_post_J31 (w : CW) : Option (Int32 × (Nat → CW)) := b2 (fC_no w (-2)) fun r w1 => some (r, fun _ => w1)
noncomputable def fC_post_J38 (w : CW) (x1 x2 x3 : Int32) : Option (Int32 × (Nat → CW)) :=
  if (cfe w).1 8 = 8 then b2 (fC_no w (-6)) fun r w1 => some (r, fun _ => w1)
  else (inb 8 ((cfe w).1 8)).bind fun _ => some ((cfe w).1 8 + 1 - 1, fun q => cadd w (q, fMk x1, (cfe w).1 8, x2, x3))
noncomputable def fC_post (w : CW) (x1 x2 x3 : Int32) : Option (Int32 × (Nat → CW)) :=
  (fC_isIn x1 0 5).bind fun a => if a = 0 then fC_post_J31 w else
  (fC_isIn x2 0 9).bind fun b => if b = 0 then fC_post_J31 w else
  (fF_isCell (cfe w) x3.toInt64).bind fun d => if d = 0 then fC_post_J31 w else fC_post_J38 w x1 x2 x3
/-- the new post goes among all posts -/
theorem GG.pool {X : CX} {ca fa : Nat → Nat} {w : CW} {P : PV} {f : FW} {rest : va_W} {H0 H : Heap} {locs : List Loc} (h : GG X (FP X fa f ++ (PC P :: (CPr X ca fa w ++ rest))) H0 H locs) : GG X (CP X ca fa (w.1, w.2.1, w.2.2.1, w.2.2.2.1, P :: w.2.2.2.2.1, f, w.2.2.2.2.2.2) ++ rest) H0 H locs := by
  refine h.perm ?_
  have e : CP X ca fa (w.1, w.2.1, w.2.2.1, w.2.2.2.1, P :: w.2.2.2.2.1, f, w.2.2.2.2.2.2) ++ rest = FP X fa f ++ (((CPr X ca fa w).take 15 ++ PC P :: (CPr X ca fa w).drop 15) ++ rest) := List.append_assoc _ _ _
  rw [e]
  refine List.Perm.append_left _ ?_
  rw [List.append_assoc, List.cons_append]
  have e2 : CPr X ca fa w ++ rest = (CPr X ca fa w).take 15 ++ ((CPr X ca fa w).drop 15 ++ rest) := by rw [← List.append_assoc, List.take_append_drop]
  rw [e2]
  exact List.perm_middle.symm
set_option maxHeartbeats 4000000 in
theorem tC_post (l : Launch) (X : CX) (ca fa : Nat → Nat) (rest : va_W) (w : CW) (x1 x2 x3 : Int32) (r : Int32) (g : Nat → CW) (hf : fC_post w x1 x2 x3 = some (r, g)) : RX l yX0_post cX0_post 4 (some .int) 6 1 3 135 [.ref (ca 0), .int x1, .int x2, .int x3] X (CP X ca fa w ++ rest) (fun v (_ : Nat) => v = some (.int r)) (fun q => CP X ca fa (g q) ++ rest) := by
  refine RX.mk (by decide) (Nat.le_of_ble_eq_true rfl) ?_
  intro p e s m below meth c B hr hlk _ hK hG ls hl
  have hl : lv_has ls 4 [(0, .ref (ca 0)), (1, .int x1), (2, .int x2), (3, .int x3)] := hl
  have hx := B.1
  have hb := B.2.1
  have bad : fC_post_J31 w = some (r, g) → W p l e (RMw 6 1 3 135) s m ([.ref (ca 0), .int x1, .int x2, .int x3] : List Value).toArray below meth c s.heap [] 0 0 (MQ below (QX X (fun v (_ : Nat) => v = some (.int r)) (fun q => CP X ca fa (g q) ++ rest)) ([.ref (ca 0), .int x1, .int x2, .int x3] : List Value).toArray s 1 3 (Az X)) (F0 m 31 ls []) := by
    intro hf
    unfold fC_post_J31 at hf
    obtain ⟨r1, w1, e1, hf⟩ := b2s hf
    cases hf
    refine lv_aload_n hx hb dX0_post_31 rfl (lv_at hl 0 rfl) ?_
    refine lv_bipush (v := (-2)) hx hb dX0_post_32 (by decide) ?_
    refine cC_no B hK hG e1 rfl ⟨Nat.le_of_ble_eq_true rfl, Nat.le_of_ble_eq_true rfl⟩ ⟨Nat.zero_le _, Nat.zero_le _⟩ hl.1 (Nat.le_of_ble_eq_true rfl) dX0_post_34 (fun H locs hG => ?_)
    refine W.widen (k := 1) (n := 3) (Nat.zero_le _) (Nat.zero_le _) ?_
    exact w_iretX B hr hlk 0 rfl hG dX0_post_37
  unfold fC_post at hf
  refine lv_iload_n hx hb dX0_post_0 rfl (lv_at hl 1 rfl) ?_
  refine lv_iconst (v := 0) hx hb dX0_post_1 (by decide) ?_
  refine lv_iconst (v := 5) hx hb dX0_post_2 (by decide) ?_
  obtain ⟨r_1, e_1, hf⟩ := bo hf
  refine cC_isIn B e_1 ⟨Nat.le_of_ble_eq_true rfl, Nat.le_of_ble_eq_true rfl⟩ ⟨Nat.zero_le _, Nat.zero_le _⟩ hl.1 (Nat.le_of_ble_eq_true rfl) dX0_post_3 ?_
  refine lv_if_eq (tgt := 31) hx hb dX0_post_6 (by decide) (fun c1 => ?_) (fun c1 => ?_)
  · exact bad (ifp c1 hf)
  have hf := ifn c1 hf
  refine lv_iload_n hx hb dX0_post_9 rfl (lv_at hl 2 rfl) ?_
  refine lv_iconst (v := 0) hx hb dX0_post_10 (by decide) ?_
  refine lv_bipush (v := 9) hx hb dX0_post_11 (by decide) ?_
  obtain ⟨r_2, e_2, hf⟩ := bo hf
  refine cC_isIn B e_2 ⟨Nat.le_of_ble_eq_true rfl, Nat.le_of_ble_eq_true rfl⟩ ⟨Nat.zero_le _, Nat.zero_le _⟩ hl.1 (Nat.le_of_ble_eq_true rfl) dX0_post_13 ?_
  refine lv_if_eq (tgt := 31) hx hb dX0_post_16 (by decide) (fun c1 => ?_) (fun c1 => ?_)
  · exact bad (ifp c1 hf)
  have hf := ifn c1 hf
  refine lv_aload_n hx hb dX0_post_19 rfl (lv_at hl 0 rfl) ?_
  refine co_this_g0 B hK hG.1 dX0_post_20 ?_
  refine lv_iload_n hx hb dX0_post_23 rfl (lv_at hl 3 rfl) ?_
  refine lv_i2l hx hb dX0_post_24 rfl ?_
  obtain ⟨r_3, e_3, hf⟩ := bo hf
  refine cCF_isCell B hK hG.2.2 hG.1 e_3 ⟨Nat.le_of_ble_eq_true rfl, Nat.le_of_ble_eq_true rfl⟩ ⟨Nat.zero_le _, Nat.zero_le _⟩ hl.1 (Nat.le_of_ble_eq_true rfl) dX0_post_25 ?_
  refine lv_if_ne (tgt := 38) hx hb dX0_post_28 (by decide) (fun c1 => ?_) (fun c1 => ?_)
  rotate_left
  · exact bad (ifp c1 hf)
  have hf := ifn c1 hf
  unfold fC_post_J38 at hf
  refine lv_aload_n hx hb dX0_post_38 rfl (lv_at hl 0 rfl) ?_
  refine co_this_g0 B hK hG.1 dX0_post_39 ?_
  refine co_fen_g8 B hK hG.1 dX0_post_42 ?_
  refine lv_bipush (v := 8) hx hb dX0_post_45 (by decide) ?_
  refine lv_icmp_ne (tgt := 59) hx hb dX0_post_47 (by decide) (fun c1 => ?_) (fun c1 => ?_)
  · have hf := ifn c1 hf
    obtain ⟨u, e_4, hf⟩ := bo hf
    cases hf
    have hin : vp_in ((cfe w).1 8) 8 := by
      unfold inb at e_4
      by_cases hc : (cfe w).1 8 < 0 ∨ 8 ≤ ((cfe w).1 8).toNatClampNeg
      · rw [if_pos hc] at e_4; cases e_4
      · exact hc
    refine lv_aload_n hx hb dX0_post_59 rfl (lv_at hl 0 rfl) ?_
    refine co_this_g0 B hK hG.1 dX0_post_60 ?_
    refine lv_iload_n hx hb dX0_post_63 rfl (lv_at hl 1 rfl) ?_
    refine lv_iload_n hx hb dX0_post_64 rfl (lv_at hl 2 rfl) ?_
    refine lv_iload_n hx hb dX0_post_65 rfl (lv_at hl 3 rfl) ?_
    refine w_afterX (w_rV_RX (ws := FP X fa (cfe w) ++ (CPr X ca fa w ++ rest)) (As := [.int x1, .int x2, .int x3]) B hK hG (tF_addsPost l X fa (CPr X ca fa w ++ rest) (cfe w) x1 x2 x3 hin) (lw_V q605 q606 q607 q88 q608) 0 (ci := 2) (C := RX1) (T := TX1) (N := 11) rfl rfl (n := 3) (by decide +kernel) ⟨Nat.le_of_ble_eq_true rfl, Nat.le_of_ble_eq_true rfl⟩ ⟨Nat.le_of_ble_eq_true rfl, Nat.le_of_ble_eq_true rfl⟩ rfl hl.1 rfl (Nat.le_of_ble_eq_true rfl) dX0_post_66) hG.2.2 (fun v q H locs hv hG2 => ?_)
    obtain rfl := hv
    refine W.eq (g2 := F0 m 69 ls [.int ((cfe w).1 8 + 1 - 1)]) rfl ?_
    exact w_iretX B hr hlk q rfl (GG.pool hG2) dX0_post_69
  · have hf := ifp c1 hf
    obtain ⟨r1, w1, e1, hf⟩ := b2s hf
    cases hf
    refine lv_aload_n hx hb dX0_post_50 rfl (lv_at hl 0 rfl) ?_
    refine lv_bipush (v := (-6)) hx hb dX0_post_51 (by decide) ?_
    refine cC_no B hK hG e1 rfl ⟨Nat.le_of_ble_eq_true rfl, Nat.le_of_ble_eq_true rfl⟩ ⟨Nat.zero_le _, Nat.zero_le _⟩ hl.1 (Nat.le_of_ble_eq_true rfl) dX0_post_53 (fun H locs hG => ?_)
    refine lv_goto (tgt := 69) hx hb dX0_post_56 (by decide) ?_
    refine W.widen (k := 1) (n := 3) (Nat.zero_le _) (Nat.zero_le _) ?_
    exact w_iretX B hr hlk 0 rfl hG dX0_post_69
