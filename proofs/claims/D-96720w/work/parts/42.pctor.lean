set_option maxRecDepth 100000
theorem GG.nil {X : CX} {rest : va_W} {H0 H : Heap} {locs : List Loc} (h : GG X rest H0 H locs) : GG X ([] ++ rest) H0 H locs := h
set_option maxHeartbeats 4000000 in
theorem tI_X6_0 (l : Launch) (X : CX) (q : Nat) (x1 x2 x3 : Int32) (rest : va_W) : RX l yX6_init cX6_init 4 none 1 0 0 20 [.ref q, .int x1, .int x2, .int x3] X ((q, .inr (5, [.int 0, .int 0, .int 0])) :: rest) (fun v (_ : Unit) => v = none) (fun _ => (q, .inr (5, [.int x1, .int x2, .int x3])) :: rest) := by
  refine RX.mk (by decide) (Nat.le_of_ble_eq_true rfl) ?_
  intro p e s m below meth c B hr hlk hin hK hG ls hl
  have hx := B.1
  have hb := B.2.1
  have hl : lv_has ls 4 [(0, .ref q), (1, .int x1), (2, .int x2), (3, .int x3)] := hl
  refine lv_aload_n hx hb dX6_init_0 rfl (lv_at hl 0 rfl) ?_
  refine w_obj B hl.1 q616 (Nat.le_of_ble_eq_true rfl) (Nat.le_of_ble_eq_true rfl) (Nat.le_of_ble_eq_true rfl) dX6_init_1 ?_
  refine lv_aload_n hx hb dX6_init_4 rfl (lv_at hl 0 rfl) ?_
  refine lv_iload_n hx hb dX6_init_5 rfl (lv_at hl 1 rfl) ?_
  refine w_putF B hK hG 0 0 rfl rfl in_X6 tyX6 tyX6_ok nmX6 (by decide) q617 rfl rfl hin rfl rfl rfl (Nat.le_of_ble_eq_true rfl) dX6_init_6 (fun H locs hG => ?_)
  have hG : GG X ([(q, .inr (5, [.int x1, .int 0, .int 0]))] ++ rest) s.heap H _ := hG
  refine lv_aload_n hx hb dX6_init_9 rfl (lv_at hl 0 rfl) ?_
  refine lv_iload_n hx hb dX6_init_10 rfl (lv_at hl 2 rfl) ?_
  refine w_putF B hK hG 0 1 rfl rfl in_X6 tyX6 tyX6_ok nmX6 (by decide) q619 rfl rfl hin rfl rfl rfl (Nat.le_of_ble_eq_true rfl) dX6_init_11 (fun H locs hG => ?_)
  have hG : GG X ([(q, .inr (5, [.int x1, .int x2, .int 0]))] ++ rest) s.heap H _ := hG
  refine lv_aload_n hx hb dX6_init_14 rfl (lv_at hl 0 rfl) ?_
  refine lv_iload_n hx hb dX6_init_15 rfl (lv_at hl 3 rfl) ?_
  refine w_putF B hK hG 0 2 rfl rfl in_X6 tyX6 tyX6_ok nmX6 (by decide) q623 rfl rfl hin rfl rfl rfl (Nat.le_of_ble_eq_true rfl) dX6_init_16 (fun H locs hG => ?_)
  have hG : GG X ([(q, .inr (5, [.int x1, .int x2, .int x3]))] ++ rest) s.heap H _ := hG
  exact w_vretX B hr hlk () rfl hG dX6_init_19

set_option maxHeartbeats 4000000 in
theorem tI_X6_1 (l : Launch) (X : CX) (q : Nat) (x1 x2 x3 : Int32) (rest : va_W) : RX l yX6_init cX6_init 4 none 1 0 0 20 [.ref q, .int x1, .int x2, .int x3] X ((q, .inr (6, [.int 0, .int 0, .int 0])) :: rest) (fun v (_ : Unit) => v = none) (fun _ => (q, .inr (6, [.int x1, .int x2, .int x3])) :: rest) := by
  refine RX.mk (by decide) (Nat.le_of_ble_eq_true rfl) ?_
  intro p e s m below meth c B hr hlk hin hK hG ls hl
  have hx := B.1
  have hb := B.2.1
  have hl : lv_has ls 4 [(0, .ref q), (1, .int x1), (2, .int x2), (3, .int x3)] := hl
  refine lv_aload_n hx hb dX6_init_0 rfl (lv_at hl 0 rfl) ?_
  refine w_obj B hl.1 q616 (Nat.le_of_ble_eq_true rfl) (Nat.le_of_ble_eq_true rfl) (Nat.le_of_ble_eq_true rfl) dX6_init_1 ?_
  refine lv_aload_n hx hb dX6_init_4 rfl (lv_at hl 0 rfl) ?_
  refine lv_iload_n hx hb dX6_init_5 rfl (lv_at hl 1 rfl) ?_
  refine w_putF B hK hG 0 0 rfl rfl in_X7 tyX7 tyX7_ok nmX7 (by decide) q617 rfl rfl hin rfl rfl rfl (Nat.le_of_ble_eq_true rfl) dX6_init_6 (fun H locs hG => ?_)
  have hG : GG X ([(q, .inr (6, [.int x1, .int 0, .int 0]))] ++ rest) s.heap H _ := hG
  refine lv_aload_n hx hb dX6_init_9 rfl (lv_at hl 0 rfl) ?_
  refine lv_iload_n hx hb dX6_init_10 rfl (lv_at hl 2 rfl) ?_
  refine w_putF B hK hG 0 1 rfl rfl in_X7 tyX7 tyX7_ok nmX7 (by decide) q619 rfl rfl hin rfl rfl rfl (Nat.le_of_ble_eq_true rfl) dX6_init_11 (fun H locs hG => ?_)
  have hG : GG X ([(q, .inr (6, [.int x1, .int x2, .int 0]))] ++ rest) s.heap H _ := hG
  refine lv_aload_n hx hb dX6_init_14 rfl (lv_at hl 0 rfl) ?_
  refine lv_iload_n hx hb dX6_init_15 rfl (lv_at hl 3 rfl) ?_
  refine w_putF B hK hG 0 2 rfl rfl in_X7 tyX7 tyX7_ok nmX7 (by decide) q623 rfl rfl hin rfl rfl rfl (Nat.le_of_ble_eq_true rfl) dX6_init_16 (fun H locs hG => ?_)
  have hG : GG X ([(q, .inr (6, [.int x1, .int x2, .int x3]))] ++ rest) s.heap H _ := hG
  exact w_vretX B hr hlk () rfl hG dX6_init_19

set_option maxHeartbeats 4000000 in
theorem tI_X7_1 (l : Launch) (X : CX) (q : Nat) (x1 x2 x3 : Int32) (rest : va_W) : RX l yX7_init cX7_init 4 none 2 0 0 43 [.ref q, .int x1, .int x2, .int x3] X ((q, .inr (6, [.int 0, .int 0, .int 0])) :: rest) (fun v (_ : Unit) => v = none) (fun _ => (q, .inr (6, [.int x1, .int x2, .int x3])) :: rest) := by
  refine RX.mk (by decide) (Nat.le_of_ble_eq_true rfl) ?_
  intro p e s m below meth c B hr hlk hin hK hG ls hl
  have hx := B.1
  have hb := B.2.1
  have hl : lv_has ls 4 [(0, .ref q), (1, .int x1), (2, .int x2), (3, .int x3)] := hl
  refine lv_aload_n hx hb dX7_init_0 rfl (lv_at hl 0 rfl) ?_
  refine lv_iload_n hx hb dX7_init_1 rfl (lv_at hl 1 rfl) ?_
  refine lv_iload_n hx hb dX7_init_2 rfl (lv_at hl 2 rfl) ?_
  refine lv_iload_n hx hb dX7_init_3 rfl (lv_at hl 3 rfl) ?_
  have hG := GG.front (w1 := []) (rest := rest) hG
  refine w_afterX (w_rI_RX (b := q) (As := [.int x1, .int x2, .int x3]) B hK hG (tI_X6_1 l X q x1 x2 x3 ([] ++ rest)) q615 q105 q642 q614 rfl (n := 3) (by decide +kernel) ⟨(Nat.le_of_ble_eq_true rfl), (Nat.le_of_ble_eq_true rfl)⟩ ⟨(Nat.le_of_ble_eq_true rfl), (Nat.le_of_ble_eq_true rfl)⟩ rfl hl.1 rfl (Nat.le_of_ble_eq_true rfl) dX7_init_4) hG.2.2 (fun v u_1 H locs hv hG2 => ?_)
  obtain rfl := hv
  have hG := GG.mid (cs := [(q, .inr (6, [.int x1, .int x2, .int x3]))]) (w1 := []) (rest := rest) hG2
  have hG : GG X ([(q, .inr (6, [.int x1, .int x2, .int x3]))] ++ rest) s.heap H _ := hG
  refine W.widen (k := 0) (n := 0) (Nat.le_of_ble_eq_true rfl) (Nat.le_of_ble_eq_true rfl) ?_
  exact w_vretX B hr hlk () rfl hG dX7_init_7

set_option maxHeartbeats 4000000 in
theorem tI_X6_2 (l : Launch) (X : CX) (q : Nat) (x1 x2 x3 : Int32) (rest : va_W) : RX l yX6_init cX6_init 4 none 1 0 0 20 [.ref q, .int x1, .int x2, .int x3] X ((q, .inr (7, [.int 0, .int 0, .int 0])) :: rest) (fun v (_ : Unit) => v = none) (fun _ => (q, .inr (7, [.int x1, .int x2, .int x3])) :: rest) := by
  refine RX.mk (by decide) (Nat.le_of_ble_eq_true rfl) ?_
  intro p e s m below meth c B hr hlk hin hK hG ls hl
  have hx := B.1
  have hb := B.2.1
  have hl : lv_has ls 4 [(0, .ref q), (1, .int x1), (2, .int x2), (3, .int x3)] := hl
  refine lv_aload_n hx hb dX6_init_0 rfl (lv_at hl 0 rfl) ?_
  refine w_obj B hl.1 q616 (Nat.le_of_ble_eq_true rfl) (Nat.le_of_ble_eq_true rfl) (Nat.le_of_ble_eq_true rfl) dX6_init_1 ?_
  refine lv_aload_n hx hb dX6_init_4 rfl (lv_at hl 0 rfl) ?_
  refine lv_iload_n hx hb dX6_init_5 rfl (lv_at hl 1 rfl) ?_
  refine w_putF B hK hG 0 0 rfl rfl in_X8 tyX8 tyX8_ok nmX8 (by decide) q617 rfl rfl hin rfl rfl rfl (Nat.le_of_ble_eq_true rfl) dX6_init_6 (fun H locs hG => ?_)
  have hG : GG X ([(q, .inr (7, [.int x1, .int 0, .int 0]))] ++ rest) s.heap H _ := hG
  refine lv_aload_n hx hb dX6_init_9 rfl (lv_at hl 0 rfl) ?_
  refine lv_iload_n hx hb dX6_init_10 rfl (lv_at hl 2 rfl) ?_
  refine w_putF B hK hG 0 1 rfl rfl in_X8 tyX8 tyX8_ok nmX8 (by decide) q619 rfl rfl hin rfl rfl rfl (Nat.le_of_ble_eq_true rfl) dX6_init_11 (fun H locs hG => ?_)
  have hG : GG X ([(q, .inr (7, [.int x1, .int x2, .int 0]))] ++ rest) s.heap H _ := hG
  refine lv_aload_n hx hb dX6_init_14 rfl (lv_at hl 0 rfl) ?_
  refine lv_iload_n hx hb dX6_init_15 rfl (lv_at hl 3 rfl) ?_
  refine w_putF B hK hG 0 2 rfl rfl in_X8 tyX8 tyX8_ok nmX8 (by decide) q623 rfl rfl hin rfl rfl rfl (Nat.le_of_ble_eq_true rfl) dX6_init_16 (fun H locs hG => ?_)
  have hG : GG X ([(q, .inr (7, [.int x1, .int x2, .int x3]))] ++ rest) s.heap H _ := hG
  exact w_vretX B hr hlk () rfl hG dX6_init_19

set_option maxHeartbeats 4000000 in
theorem tI_X8_2 (l : Launch) (X : CX) (q : Nat) (x1 x2 x3 : Int32) (rest : va_W) : RX l yX8_init cX8_init 4 none 2 0 0 43 [.ref q, .int x1, .int x2, .int x3] X ((q, .inr (7, [.int 0, .int 0, .int 0])) :: rest) (fun v (_ : Unit) => v = none) (fun _ => (q, .inr (7, [.int x1, .int x2, .int x3])) :: rest) := by
  refine RX.mk (by decide) (Nat.le_of_ble_eq_true rfl) ?_
  intro p e s m below meth c B hr hlk hin hK hG ls hl
  have hx := B.1
  have hb := B.2.1
  have hl : lv_has ls 4 [(0, .ref q), (1, .int x1), (2, .int x2), (3, .int x3)] := hl
  refine lv_aload_n hx hb dX8_init_0 rfl (lv_at hl 0 rfl) ?_
  refine lv_iload_n hx hb dX8_init_1 rfl (lv_at hl 1 rfl) ?_
  refine lv_iload_n hx hb dX8_init_2 rfl (lv_at hl 2 rfl) ?_
  refine lv_iload_n hx hb dX8_init_3 rfl (lv_at hl 3 rfl) ?_
  have hG := GG.front (w1 := []) (rest := rest) hG
  refine w_afterX (w_rI_RX (b := q) (As := [.int x1, .int x2, .int x3]) B hK hG (tI_X6_2 l X q x1 x2 x3 ([] ++ rest)) q615 q105 q651 q614 rfl (n := 3) (by decide +kernel) ⟨(Nat.le_of_ble_eq_true rfl), (Nat.le_of_ble_eq_true rfl)⟩ ⟨(Nat.le_of_ble_eq_true rfl), (Nat.le_of_ble_eq_true rfl)⟩ rfl hl.1 rfl (Nat.le_of_ble_eq_true rfl) dX8_init_4) hG.2.2 (fun v u_1 H locs hv hG2 => ?_)
  obtain rfl := hv
  have hG := GG.mid (cs := [(q, .inr (7, [.int x1, .int x2, .int x3]))]) (w1 := []) (rest := rest) hG2
  have hG : GG X ([(q, .inr (7, [.int x1, .int x2, .int x3]))] ++ rest) s.heap H _ := hG
  refine W.widen (k := 0) (n := 0) (Nat.le_of_ble_eq_true rfl) (Nat.le_of_ble_eq_true rfl) ?_
  exact w_vretX B hr hlk () rfl hG dX8_init_7

set_option maxHeartbeats 4000000 in
theorem tI_X6_3 (l : Launch) (X : CX) (q : Nat) (x1 x2 x3 : Int32) (rest : va_W) : RX l yX6_init cX6_init 4 none 1 0 0 20 [.ref q, .int x1, .int x2, .int x3] X ((q, .inr (8, [.int 0, .int 0, .int 0])) :: rest) (fun v (_ : Unit) => v = none) (fun _ => (q, .inr (8, [.int x1, .int x2, .int x3])) :: rest) := by
  refine RX.mk (by decide) (Nat.le_of_ble_eq_true rfl) ?_
  intro p e s m below meth c B hr hlk hin hK hG ls hl
  have hx := B.1
  have hb := B.2.1
  have hl : lv_has ls 4 [(0, .ref q), (1, .int x1), (2, .int x2), (3, .int x3)] := hl
  refine lv_aload_n hx hb dX6_init_0 rfl (lv_at hl 0 rfl) ?_
  refine w_obj B hl.1 q616 (Nat.le_of_ble_eq_true rfl) (Nat.le_of_ble_eq_true rfl) (Nat.le_of_ble_eq_true rfl) dX6_init_1 ?_
  refine lv_aload_n hx hb dX6_init_4 rfl (lv_at hl 0 rfl) ?_
  refine lv_iload_n hx hb dX6_init_5 rfl (lv_at hl 1 rfl) ?_
  refine w_putF B hK hG 0 0 rfl rfl in_X9 tyX9 tyX9_ok nmX9 (by decide) q617 rfl rfl hin rfl rfl rfl (Nat.le_of_ble_eq_true rfl) dX6_init_6 (fun H locs hG => ?_)
  have hG : GG X ([(q, .inr (8, [.int x1, .int 0, .int 0]))] ++ rest) s.heap H _ := hG
  refine lv_aload_n hx hb dX6_init_9 rfl (lv_at hl 0 rfl) ?_
  refine lv_iload_n hx hb dX6_init_10 rfl (lv_at hl 2 rfl) ?_
  refine w_putF B hK hG 0 1 rfl rfl in_X9 tyX9 tyX9_ok nmX9 (by decide) q619 rfl rfl hin rfl rfl rfl (Nat.le_of_ble_eq_true rfl) dX6_init_11 (fun H locs hG => ?_)
  have hG : GG X ([(q, .inr (8, [.int x1, .int x2, .int 0]))] ++ rest) s.heap H _ := hG
  refine lv_aload_n hx hb dX6_init_14 rfl (lv_at hl 0 rfl) ?_
  refine lv_iload_n hx hb dX6_init_15 rfl (lv_at hl 3 rfl) ?_
  refine w_putF B hK hG 0 2 rfl rfl in_X9 tyX9 tyX9_ok nmX9 (by decide) q623 rfl rfl hin rfl rfl rfl (Nat.le_of_ble_eq_true rfl) dX6_init_16 (fun H locs hG => ?_)
  have hG : GG X ([(q, .inr (8, [.int x1, .int x2, .int x3]))] ++ rest) s.heap H _ := hG
  exact w_vretX B hr hlk () rfl hG dX6_init_19

set_option maxHeartbeats 4000000 in
theorem tI_X7_3 (l : Launch) (X : CX) (q : Nat) (x1 x2 x3 : Int32) (rest : va_W) : RX l yX7_init cX7_init 4 none 2 0 0 43 [.ref q, .int x1, .int x2, .int x3] X ((q, .inr (8, [.int 0, .int 0, .int 0])) :: rest) (fun v (_ : Unit) => v = none) (fun _ => (q, .inr (8, [.int x1, .int x2, .int x3])) :: rest) := by
  refine RX.mk (by decide) (Nat.le_of_ble_eq_true rfl) ?_
  intro p e s m below meth c B hr hlk hin hK hG ls hl
  have hx := B.1
  have hb := B.2.1
  have hl : lv_has ls 4 [(0, .ref q), (1, .int x1), (2, .int x2), (3, .int x3)] := hl
  refine lv_aload_n hx hb dX7_init_0 rfl (lv_at hl 0 rfl) ?_
  refine lv_iload_n hx hb dX7_init_1 rfl (lv_at hl 1 rfl) ?_
  refine lv_iload_n hx hb dX7_init_2 rfl (lv_at hl 2 rfl) ?_
  refine lv_iload_n hx hb dX7_init_3 rfl (lv_at hl 3 rfl) ?_
  have hG := GG.front (w1 := []) (rest := rest) hG
  refine w_afterX (w_rI_RX (b := q) (As := [.int x1, .int x2, .int x3]) B hK hG (tI_X6_3 l X q x1 x2 x3 ([] ++ rest)) q615 q105 q642 q614 rfl (n := 3) (by decide +kernel) ⟨(Nat.le_of_ble_eq_true rfl), (Nat.le_of_ble_eq_true rfl)⟩ ⟨(Nat.le_of_ble_eq_true rfl), (Nat.le_of_ble_eq_true rfl)⟩ rfl hl.1 rfl (Nat.le_of_ble_eq_true rfl) dX7_init_4) hG.2.2 (fun v u_1 H locs hv hG2 => ?_)
  obtain rfl := hv
  have hG := GG.mid (cs := [(q, .inr (8, [.int x1, .int x2, .int x3]))]) (w1 := []) (rest := rest) hG2
  have hG : GG X ([(q, .inr (8, [.int x1, .int x2, .int x3]))] ++ rest) s.heap H _ := hG
  refine W.widen (k := 0) (n := 0) (Nat.le_of_ble_eq_true rfl) (Nat.le_of_ble_eq_true rfl) ?_
  exact w_vretX B hr hlk () rfl hG dX7_init_7

set_option maxHeartbeats 4000000 in
theorem tI_X9_3 (l : Launch) (X : CX) (q : Nat) (x1 x2 x3 : Int32) (rest : va_W) : RX l yX9_init cX9_init 4 none 3 0 0 66 [.ref q, .int x1, .int x2, .int x3] X ((q, .inr (8, [.int 0, .int 0, .int 0])) :: rest) (fun v (_ : Unit) => v = none) (fun _ => (q, .inr (8, [.int x1, .int x2, .int x3])) :: rest) := by
  refine RX.mk (by decide) (Nat.le_of_ble_eq_true rfl) ?_
  intro p e s m below meth c B hr hlk hin hK hG ls hl
  have hx := B.1
  have hb := B.2.1
  have hl : lv_has ls 4 [(0, .ref q), (1, .int x1), (2, .int x2), (3, .int x3)] := hl
  refine lv_aload_n hx hb dX9_init_0 rfl (lv_at hl 0 rfl) ?_
  refine lv_iload_n hx hb dX9_init_1 rfl (lv_at hl 1 rfl) ?_
  refine lv_iload_n hx hb dX9_init_2 rfl (lv_at hl 2 rfl) ?_
  refine lv_iload_n hx hb dX9_init_3 rfl (lv_at hl 3 rfl) ?_
  have hG := GG.front (w1 := []) (rest := rest) hG
  refine w_afterX (w_rI_RX (b := q) (As := [.int x1, .int x2, .int x3]) B hK hG (tI_X7_3 l X q x1 x2 x3 ([] ++ rest)) q641 q106 q659 q640 rfl (n := 3) (by decide +kernel) ⟨(Nat.le_of_ble_eq_true rfl), (Nat.le_of_ble_eq_true rfl)⟩ ⟨(Nat.le_of_ble_eq_true rfl), (Nat.le_of_ble_eq_true rfl)⟩ rfl hl.1 rfl (Nat.le_of_ble_eq_true rfl) dX9_init_4) hG.2.2 (fun v u_1 H locs hv hG2 => ?_)
  obtain rfl := hv
  have hG := GG.mid (cs := [(q, .inr (8, [.int x1, .int x2, .int x3]))]) (w1 := []) (rest := rest) hG2
  have hG : GG X ([(q, .inr (8, [.int x1, .int x2, .int x3]))] ++ rest) s.heap H _ := hG
  refine W.widen (k := 0) (n := 0) (Nat.le_of_ble_eq_true rfl) (Nat.le_of_ble_eq_true rfl) ?_
  exact w_vretX B hr hlk () rfl hG dX9_init_7

set_option maxHeartbeats 4000000 in
theorem tI_X6_4 (l : Launch) (X : CX) (q : Nat) (x1 x2 x3 : Int32) (rest : va_W) : RX l yX6_init cX6_init 4 none 1 0 0 20 [.ref q, .int x1, .int x2, .int x3] X ((q, .inr (9, [.int 0, .int 0, .int 0])) :: rest) (fun v (_ : Unit) => v = none) (fun _ => (q, .inr (9, [.int x1, .int x2, .int x3])) :: rest) := by
  refine RX.mk (by decide) (Nat.le_of_ble_eq_true rfl) ?_
  intro p e s m below meth c B hr hlk hin hK hG ls hl
  have hx := B.1
  have hb := B.2.1
  have hl : lv_has ls 4 [(0, .ref q), (1, .int x1), (2, .int x2), (3, .int x3)] := hl
  refine lv_aload_n hx hb dX6_init_0 rfl (lv_at hl 0 rfl) ?_
  refine w_obj B hl.1 q616 (Nat.le_of_ble_eq_true rfl) (Nat.le_of_ble_eq_true rfl) (Nat.le_of_ble_eq_true rfl) dX6_init_1 ?_
  refine lv_aload_n hx hb dX6_init_4 rfl (lv_at hl 0 rfl) ?_
  refine lv_iload_n hx hb dX6_init_5 rfl (lv_at hl 1 rfl) ?_
  refine w_putF B hK hG 0 0 rfl rfl in_X10 tyX10 tyX10_ok nmX10 (by decide) q617 rfl rfl hin rfl rfl rfl (Nat.le_of_ble_eq_true rfl) dX6_init_6 (fun H locs hG => ?_)
  have hG : GG X ([(q, .inr (9, [.int x1, .int 0, .int 0]))] ++ rest) s.heap H _ := hG
  refine lv_aload_n hx hb dX6_init_9 rfl (lv_at hl 0 rfl) ?_
  refine lv_iload_n hx hb dX6_init_10 rfl (lv_at hl 2 rfl) ?_
  refine w_putF B hK hG 0 1 rfl rfl in_X10 tyX10 tyX10_ok nmX10 (by decide) q619 rfl rfl hin rfl rfl rfl (Nat.le_of_ble_eq_true rfl) dX6_init_11 (fun H locs hG => ?_)
  have hG : GG X ([(q, .inr (9, [.int x1, .int x2, .int 0]))] ++ rest) s.heap H _ := hG
  refine lv_aload_n hx hb dX6_init_14 rfl (lv_at hl 0 rfl) ?_
  refine lv_iload_n hx hb dX6_init_15 rfl (lv_at hl 3 rfl) ?_
  refine w_putF B hK hG 0 2 rfl rfl in_X10 tyX10 tyX10_ok nmX10 (by decide) q623 rfl rfl hin rfl rfl rfl (Nat.le_of_ble_eq_true rfl) dX6_init_16 (fun H locs hG => ?_)
  have hG : GG X ([(q, .inr (9, [.int x1, .int x2, .int x3]))] ++ rest) s.heap H _ := hG
  exact w_vretX B hr hlk () rfl hG dX6_init_19

set_option maxHeartbeats 4000000 in
theorem tI_X8_4 (l : Launch) (X : CX) (q : Nat) (x1 x2 x3 : Int32) (rest : va_W) : RX l yX8_init cX8_init 4 none 2 0 0 43 [.ref q, .int x1, .int x2, .int x3] X ((q, .inr (9, [.int 0, .int 0, .int 0])) :: rest) (fun v (_ : Unit) => v = none) (fun _ => (q, .inr (9, [.int x1, .int x2, .int x3])) :: rest) := by
  refine RX.mk (by decide) (Nat.le_of_ble_eq_true rfl) ?_
  intro p e s m below meth c B hr hlk hin hK hG ls hl
  have hx := B.1
  have hb := B.2.1
  have hl : lv_has ls 4 [(0, .ref q), (1, .int x1), (2, .int x2), (3, .int x3)] := hl
  refine lv_aload_n hx hb dX8_init_0 rfl (lv_at hl 0 rfl) ?_
  refine lv_iload_n hx hb dX8_init_1 rfl (lv_at hl 1 rfl) ?_
  refine lv_iload_n hx hb dX8_init_2 rfl (lv_at hl 2 rfl) ?_
  refine lv_iload_n hx hb dX8_init_3 rfl (lv_at hl 3 rfl) ?_
  have hG := GG.front (w1 := []) (rest := rest) hG
  refine w_afterX (w_rI_RX (b := q) (As := [.int x1, .int x2, .int x3]) B hK hG (tI_X6_4 l X q x1 x2 x3 ([] ++ rest)) q615 q105 q651 q614 rfl (n := 3) (by decide +kernel) ⟨(Nat.le_of_ble_eq_true rfl), (Nat.le_of_ble_eq_true rfl)⟩ ⟨(Nat.le_of_ble_eq_true rfl), (Nat.le_of_ble_eq_true rfl)⟩ rfl hl.1 rfl (Nat.le_of_ble_eq_true rfl) dX8_init_4) hG.2.2 (fun v u_1 H locs hv hG2 => ?_)
  obtain rfl := hv
  have hG := GG.mid (cs := [(q, .inr (9, [.int x1, .int x2, .int x3]))]) (w1 := []) (rest := rest) hG2
  have hG : GG X ([(q, .inr (9, [.int x1, .int x2, .int x3]))] ++ rest) s.heap H _ := hG
  refine W.widen (k := 0) (n := 0) (Nat.le_of_ble_eq_true rfl) (Nat.le_of_ble_eq_true rfl) ?_
  exact w_vretX B hr hlk () rfl hG dX8_init_7

set_option maxHeartbeats 4000000 in
theorem tI_X10_4 (l : Launch) (X : CX) (q : Nat) (x1 x2 x3 : Int32) (rest : va_W) : RX l yX10_init cX10_init 4 none 3 0 0 66 [.ref q, .int x1, .int x2, .int x3] X ((q, .inr (9, [.int 0, .int 0, .int 0])) :: rest) (fun v (_ : Unit) => v = none) (fun _ => (q, .inr (9, [.int x1, .int x2, .int x3])) :: rest) := by
  refine RX.mk (by decide) (Nat.le_of_ble_eq_true rfl) ?_
  intro p e s m below meth c B hr hlk hin hK hG ls hl
  have hx := B.1
  have hb := B.2.1
  have hl : lv_has ls 4 [(0, .ref q), (1, .int x1), (2, .int x2), (3, .int x3)] := hl
  refine lv_aload_n hx hb dX10_init_0 rfl (lv_at hl 0 rfl) ?_
  refine lv_iload_n hx hb dX10_init_1 rfl (lv_at hl 1 rfl) ?_
  refine lv_iload_n hx hb dX10_init_2 rfl (lv_at hl 2 rfl) ?_
  refine lv_iload_n hx hb dX10_init_3 rfl (lv_at hl 3 rfl) ?_
  have hG := GG.front (w1 := []) (rest := rest) hG
  refine w_afterX (w_rI_RX (b := q) (As := [.int x1, .int x2, .int x3]) B hK hG (tI_X8_4 l X q x1 x2 x3 ([] ++ rest)) q650 q107 q667 q649 rfl (n := 3) (by decide +kernel) ⟨(Nat.le_of_ble_eq_true rfl), (Nat.le_of_ble_eq_true rfl)⟩ ⟨(Nat.le_of_ble_eq_true rfl), (Nat.le_of_ble_eq_true rfl)⟩ rfl hl.1 rfl (Nat.le_of_ble_eq_true rfl) dX10_init_4) hG.2.2 (fun v u_1 H locs hv hG2 => ?_)
  obtain rfl := hv
  have hG := GG.mid (cs := [(q, .inr (9, [.int x1, .int x2, .int x3]))]) (w1 := []) (rest := rest) hG2
  have hG : GG X ([(q, .inr (9, [.int x1, .int x2, .int x3]))] ++ rest) s.heap H _ := hG
  refine W.widen (k := 0) (n := 0) (Nat.le_of_ble_eq_true rfl) (Nat.le_of_ble_eq_true rfl) ?_
  exact w_vretX B hr hlk () rfl hG dX10_init_7

set_option maxHeartbeats 4000000 in
theorem tI_X6_5 (l : Launch) (X : CX) (q : Nat) (x1 x2 x3 : Int32) (rest : va_W) : RX l yX6_init cX6_init 4 none 1 0 0 20 [.ref q, .int x1, .int x2, .int x3] X ((q, .inr (10, [.int 0, .int 0, .int 0])) :: rest) (fun v (_ : Unit) => v = none) (fun _ => (q, .inr (10, [.int x1, .int x2, .int x3])) :: rest) := by
  refine RX.mk (by decide) (Nat.le_of_ble_eq_true rfl) ?_
  intro p e s m below meth c B hr hlk hin hK hG ls hl
  have hx := B.1
  have hb := B.2.1
  have hl : lv_has ls 4 [(0, .ref q), (1, .int x1), (2, .int x2), (3, .int x3)] := hl
  refine lv_aload_n hx hb dX6_init_0 rfl (lv_at hl 0 rfl) ?_
  refine w_obj B hl.1 q616 (Nat.le_of_ble_eq_true rfl) (Nat.le_of_ble_eq_true rfl) (Nat.le_of_ble_eq_true rfl) dX6_init_1 ?_
  refine lv_aload_n hx hb dX6_init_4 rfl (lv_at hl 0 rfl) ?_
  refine lv_iload_n hx hb dX6_init_5 rfl (lv_at hl 1 rfl) ?_
  refine w_putF B hK hG 0 0 rfl rfl in_X11 tyX11 tyX11_ok nmX11 (by decide) q617 rfl rfl hin rfl rfl rfl (Nat.le_of_ble_eq_true rfl) dX6_init_6 (fun H locs hG => ?_)
  have hG : GG X ([(q, .inr (10, [.int x1, .int 0, .int 0]))] ++ rest) s.heap H _ := hG
  refine lv_aload_n hx hb dX6_init_9 rfl (lv_at hl 0 rfl) ?_
  refine lv_iload_n hx hb dX6_init_10 rfl (lv_at hl 2 rfl) ?_
  refine w_putF B hK hG 0 1 rfl rfl in_X11 tyX11 tyX11_ok nmX11 (by decide) q619 rfl rfl hin rfl rfl rfl (Nat.le_of_ble_eq_true rfl) dX6_init_11 (fun H locs hG => ?_)
  have hG : GG X ([(q, .inr (10, [.int x1, .int x2, .int 0]))] ++ rest) s.heap H _ := hG
  refine lv_aload_n hx hb dX6_init_14 rfl (lv_at hl 0 rfl) ?_
  refine lv_iload_n hx hb dX6_init_15 rfl (lv_at hl 3 rfl) ?_
  refine w_putF B hK hG 0 2 rfl rfl in_X11 tyX11 tyX11_ok nmX11 (by decide) q623 rfl rfl hin rfl rfl rfl (Nat.le_of_ble_eq_true rfl) dX6_init_16 (fun H locs hG => ?_)
  have hG : GG X ([(q, .inr (10, [.int x1, .int x2, .int x3]))] ++ rest) s.heap H _ := hG
  exact w_vretX B hr hlk () rfl hG dX6_init_19

set_option maxHeartbeats 4000000 in
theorem tI_X11_5 (l : Launch) (X : CX) (q : Nat) (x1 x2 x3 : Int32) (rest : va_W) : RX l yX11_init cX11_init 4 none 2 0 0 43 [.ref q, .int x1, .int x2, .int x3] X ((q, .inr (10, [.int 0, .int 0, .int 0])) :: rest) (fun v (_ : Unit) => v = none) (fun _ => (q, .inr (10, [.int x1, .int x2, .int x3])) :: rest) := by
  refine RX.mk (by decide) (Nat.le_of_ble_eq_true rfl) ?_
  intro p e s m below meth c B hr hlk hin hK hG ls hl
  have hx := B.1
  have hb := B.2.1
  have hl : lv_has ls 4 [(0, .ref q), (1, .int x1), (2, .int x2), (3, .int x3)] := hl
  refine lv_aload_n hx hb dX11_init_0 rfl (lv_at hl 0 rfl) ?_
  refine lv_iload_n hx hb dX11_init_1 rfl (lv_at hl 1 rfl) ?_
  refine lv_iload_n hx hb dX11_init_2 rfl (lv_at hl 2 rfl) ?_
  refine lv_iload_n hx hb dX11_init_3 rfl (lv_at hl 3 rfl) ?_
  have hG := GG.front (w1 := []) (rest := rest) hG
  refine w_afterX (w_rI_RX (b := q) (As := [.int x1, .int x2, .int x3]) B hK hG (tI_X6_5 l X q x1 x2 x3 ([] ++ rest)) q615 q105 q675 q614 rfl (n := 3) (by decide +kernel) ⟨(Nat.le_of_ble_eq_true rfl), (Nat.le_of_ble_eq_true rfl)⟩ ⟨(Nat.le_of_ble_eq_true rfl), (Nat.le_of_ble_eq_true rfl)⟩ rfl hl.1 rfl (Nat.le_of_ble_eq_true rfl) dX11_init_4) hG.2.2 (fun v u_1 H locs hv hG2 => ?_)
  obtain rfl := hv
  have hG := GG.mid (cs := [(q, .inr (10, [.int x1, .int x2, .int x3]))]) (w1 := []) (rest := rest) hG2
  have hG : GG X ([(q, .inr (10, [.int x1, .int x2, .int x3]))] ++ rest) s.heap H _ := hG
  refine W.widen (k := 0) (n := 0) (Nat.le_of_ble_eq_true rfl) (Nat.le_of_ble_eq_true rfl) ?_
  exact w_vretX B hr hlk () rfl hG dX11_init_7

def fMk (x : Int32) : Fin 6 := if x = 0 then 0 else if x = 1 then 1 else if x = 2 then 2 else if x = 3 then 3 else if x = 4 then 4 else 5

set_option maxHeartbeats 4000000 in
theorem tC_made (l : Launch) (X : CX) (x0 x1 x2 x3 : Int32) (rest : va_W) : RX l yX0_made cX0_made 4 (some (.object "PointAtWhoIsLost$Post")) 4 1 3 89 [.int x0, .int x1, .int x2, .int x3] X rest (fun v (u : Nat × Fin 6) => v = some (.ref u.1) ∧ fMk x0 = u.2) (fun u => PC (u.1, u.2, x1, x2, x3) :: rest) := by
  refine RX.mk (by decide) (Nat.le_of_ble_eq_true rfl) ?_
  intro p e s m below meth c B hr hlk hin hK hG ls hl
  have hx := B.1
  have hb := B.2.1
  have hl : lv_has ls 4 [(0, .int x0), (1, .int x1), (2, .int x2), (3, .int x3)] := hl
  have hG := GG.nil hG
  refine lv_iload_n hx hb dX0_made_0 rfl (lv_at hl 0 rfl) ?_
  by_cases c_0 : x0 = 0
  · refine w_tab (tgt := 36) 0 c_0 hx hb dX0_made_1 (by decide) (by decide) rfl (by decide) ?_
    have hk : fMk x0 = 0 := by subst c_0; rfl
    refine w_new (w1 := []) (rest := rest) B hK hG in_X6 tyX6 tyX6_ok q381 q612 q105 (ci := 5) rfl (fs := [.int 0, .int 0, .int 0]) (fun j hj => by match j, hj with | 0, _ => rfl | 1, _ => rfl | 2, _ => rfl) (Nat.le_of_ble_eq_true rfl) (Nat.le_of_ble_eq_true rfl) dX0_made_36 (fun q_1 H hG => ?_)
    have hG : GG X ([(q_1, .inr (5, [.int 0, .int 0, .int 0]))] ++ rest) s.heap H _ := hG
    refine W.widen (k := 1) (n := 3) (Nat.le_of_ble_eq_true rfl) (Nat.le_of_ble_eq_true rfl) ?_
    refine lv_dup hx hb dX0_made_39 rfl ?_
    refine lv_iload_n hx hb dX0_made_40 rfl (lv_at hl 1 rfl) ?_
    refine lv_iload_n hx hb dX0_made_41 rfl (lv_at hl 2 rfl) ?_
    refine lv_iload_n hx hb dX0_made_42 rfl (lv_at hl 3 rfl) ?_
    have hG := GG.front (w1 := []) (rest := rest) hG
    refine w_afterX (w_rI_RX (b := q_1) (As := [.int x1, .int x2, .int x3]) B hK hG (tI_X6_0 l X q_1 x1 x2 x3 ([] ++ rest)) q615 q105 q613 q614 rfl (n := 3) (by decide +kernel) ⟨(Nat.le_of_ble_eq_true rfl), (Nat.le_of_ble_eq_true rfl)⟩ ⟨(Nat.le_of_ble_eq_true rfl), (Nat.le_of_ble_eq_true rfl)⟩ rfl hl.1 rfl (Nat.le_of_ble_eq_true rfl) dX0_made_43) hG.2.2 (fun v u_2 H locs hv hG2 => ?_)
    obtain rfl := hv
    have hG := GG.mid (cs := [(q_1, .inr (5, [.int x1, .int x2, .int x3]))]) (w1 := []) (rest := rest) hG2
    have hG : GG X ([(q_1, .inr (5, [.int x1, .int x2, .int x3]))] ++ rest) s.heap H _ := hG
    refine W.widen (k := 1) (n := 3) (Nat.le_of_ble_eq_true rfl) (Nat.le_of_ble_eq_true rfl) ?_
    exact w_aretX B hr (Or.inl ⟨_, rfl⟩) hlk (q_1, (0 : Fin 6)) ⟨rfl, hk⟩ hG dX0_made_46
  · by_cases c_1 : x0 = 1
    · refine w_tab (tgt := 47) 1 c_1 hx hb dX0_made_1 (by decide) (by decide) rfl (by decide) ?_
      have hk : fMk x0 = 1 := by subst c_1; rfl
      refine w_new (w1 := []) (rest := rest) B hK hG in_X7 tyX7 tyX7_ok q503 q638 q106 (ci := 6) rfl (fs := [.int 0, .int 0, .int 0]) (fun j hj => by match j, hj with | 0, _ => rfl | 1, _ => rfl | 2, _ => rfl) (Nat.le_of_ble_eq_true rfl) (Nat.le_of_ble_eq_true rfl) dX0_made_47 (fun q_1 H hG => ?_)
      have hG : GG X ([(q_1, .inr (6, [.int 0, .int 0, .int 0]))] ++ rest) s.heap H _ := hG
      refine W.widen (k := 1) (n := 3) (Nat.le_of_ble_eq_true rfl) (Nat.le_of_ble_eq_true rfl) ?_
      refine lv_dup hx hb dX0_made_50 rfl ?_
      refine lv_iload_n hx hb dX0_made_51 rfl (lv_at hl 1 rfl) ?_
      refine lv_iload_n hx hb dX0_made_52 rfl (lv_at hl 2 rfl) ?_
      refine lv_iload_n hx hb dX0_made_53 rfl (lv_at hl 3 rfl) ?_
      have hG := GG.front (w1 := []) (rest := rest) hG
      refine w_afterX (w_rI_RX (b := q_1) (As := [.int x1, .int x2, .int x3]) B hK hG (tI_X7_1 l X q_1 x1 x2 x3 ([] ++ rest)) q641 q106 q639 q640 rfl (n := 3) (by decide +kernel) ⟨(Nat.le_of_ble_eq_true rfl), (Nat.le_of_ble_eq_true rfl)⟩ ⟨(Nat.le_of_ble_eq_true rfl), (Nat.le_of_ble_eq_true rfl)⟩ rfl hl.1 rfl (Nat.le_of_ble_eq_true rfl) dX0_made_54) hG.2.2 (fun v u_2 H locs hv hG2 => ?_)
      obtain rfl := hv
      have hG := GG.mid (cs := [(q_1, .inr (6, [.int x1, .int x2, .int x3]))]) (w1 := []) (rest := rest) hG2
      have hG : GG X ([(q_1, .inr (6, [.int x1, .int x2, .int x3]))] ++ rest) s.heap H _ := hG
      refine W.widen (k := 1) (n := 3) (Nat.le_of_ble_eq_true rfl) (Nat.le_of_ble_eq_true rfl) ?_
      exact w_aretX B hr (Or.inl ⟨_, rfl⟩) hlk (q_1, (1 : Fin 6)) ⟨rfl, hk⟩ hG dX0_made_57
    · by_cases c_2 : x0 = 2
      · refine w_tab (tgt := 58) 2 c_2 hx hb dX0_made_1 (by decide) (by decide) rfl (by decide) ?_
        have hk : fMk x0 = 2 := by subst c_2; rfl
        refine w_new (w1 := []) (rest := rest) B hK hG in_X8 tyX8 tyX8_ok q565 q647 q107 (ci := 7) rfl (fs := [.int 0, .int 0, .int 0]) (fun j hj => by match j, hj with | 0, _ => rfl | 1, _ => rfl | 2, _ => rfl) (Nat.le_of_ble_eq_true rfl) (Nat.le_of_ble_eq_true rfl) dX0_made_58 (fun q_1 H hG => ?_)
        have hG : GG X ([(q_1, .inr (7, [.int 0, .int 0, .int 0]))] ++ rest) s.heap H _ := hG
        refine W.widen (k := 1) (n := 3) (Nat.le_of_ble_eq_true rfl) (Nat.le_of_ble_eq_true rfl) ?_
        refine lv_dup hx hb dX0_made_61 rfl ?_
        refine lv_iload_n hx hb dX0_made_62 rfl (lv_at hl 1 rfl) ?_
        refine lv_iload_n hx hb dX0_made_63 rfl (lv_at hl 2 rfl) ?_
        refine lv_iload_n hx hb dX0_made_64 rfl (lv_at hl 3 rfl) ?_
        have hG := GG.front (w1 := []) (rest := rest) hG
        refine w_afterX (w_rI_RX (b := q_1) (As := [.int x1, .int x2, .int x3]) B hK hG (tI_X8_2 l X q_1 x1 x2 x3 ([] ++ rest)) q650 q107 q648 q649 rfl (n := 3) (by decide +kernel) ⟨(Nat.le_of_ble_eq_true rfl), (Nat.le_of_ble_eq_true rfl)⟩ ⟨(Nat.le_of_ble_eq_true rfl), (Nat.le_of_ble_eq_true rfl)⟩ rfl hl.1 rfl (Nat.le_of_ble_eq_true rfl) dX0_made_65) hG.2.2 (fun v u_2 H locs hv hG2 => ?_)
        obtain rfl := hv
        have hG := GG.mid (cs := [(q_1, .inr (7, [.int x1, .int x2, .int x3]))]) (w1 := []) (rest := rest) hG2
        have hG : GG X ([(q_1, .inr (7, [.int x1, .int x2, .int x3]))] ++ rest) s.heap H _ := hG
        refine W.widen (k := 1) (n := 3) (Nat.le_of_ble_eq_true rfl) (Nat.le_of_ble_eq_true rfl) ?_
        exact w_aretX B hr (Or.inl ⟨_, rfl⟩) hlk (q_1, (2 : Fin 6)) ⟨rfl, hk⟩ hG dX0_made_68
      · by_cases c_3 : x0 = 3
        · refine w_tab (tgt := 69) 3 c_3 hx hb dX0_made_1 (by decide) (by decide) rfl (by decide) ?_
          have hk : fMk x0 = 3 := by subst c_3; rfl
          refine w_new (w1 := []) (rest := rest) B hK hG in_X9 tyX9 tyX9_ok q566 q655 q108 (ci := 8) rfl (fs := [.int 0, .int 0, .int 0]) (fun j hj => by match j, hj with | 0, _ => rfl | 1, _ => rfl | 2, _ => rfl) (Nat.le_of_ble_eq_true rfl) (Nat.le_of_ble_eq_true rfl) dX0_made_69 (fun q_1 H hG => ?_)
          have hG : GG X ([(q_1, .inr (8, [.int 0, .int 0, .int 0]))] ++ rest) s.heap H _ := hG
          refine W.widen (k := 1) (n := 3) (Nat.le_of_ble_eq_true rfl) (Nat.le_of_ble_eq_true rfl) ?_
          refine lv_dup hx hb dX0_made_72 rfl ?_
          refine lv_iload_n hx hb dX0_made_73 rfl (lv_at hl 1 rfl) ?_
          refine lv_iload_n hx hb dX0_made_74 rfl (lv_at hl 2 rfl) ?_
          refine lv_iload_n hx hb dX0_made_75 rfl (lv_at hl 3 rfl) ?_
          have hG := GG.front (w1 := []) (rest := rest) hG
          refine w_afterX (w_rI_RX (b := q_1) (As := [.int x1, .int x2, .int x3]) B hK hG (tI_X9_3 l X q_1 x1 x2 x3 ([] ++ rest)) q658 q108 q656 q657 rfl (n := 3) (by decide +kernel) ⟨(Nat.le_of_ble_eq_true rfl), (Nat.le_of_ble_eq_true rfl)⟩ ⟨(Nat.le_of_ble_eq_true rfl), (Nat.le_of_ble_eq_true rfl)⟩ rfl hl.1 rfl (Nat.le_of_ble_eq_true rfl) dX0_made_76) hG.2.2 (fun v u_2 H locs hv hG2 => ?_)
          obtain rfl := hv
          have hG := GG.mid (cs := [(q_1, .inr (8, [.int x1, .int x2, .int x3]))]) (w1 := []) (rest := rest) hG2
          have hG : GG X ([(q_1, .inr (8, [.int x1, .int x2, .int x3]))] ++ rest) s.heap H _ := hG
          refine W.widen (k := 1) (n := 3) (Nat.le_of_ble_eq_true rfl) (Nat.le_of_ble_eq_true rfl) ?_
          exact w_aretX B hr (Or.inl ⟨_, rfl⟩) hlk (q_1, (3 : Fin 6)) ⟨rfl, hk⟩ hG dX0_made_79
        · by_cases c_4 : x0 = 4
          · refine w_tab (tgt := 80) 4 c_4 hx hb dX0_made_1 (by decide) (by decide) rfl (by decide) ?_
            have hk : fMk x0 = 4 := by subst c_4; rfl
            refine w_new (w1 := []) (rest := rest) B hK hG in_X10 tyX10 tyX10_ok q567 q663 q109 (ci := 9) rfl (fs := [.int 0, .int 0, .int 0]) (fun j hj => by match j, hj with | 0, _ => rfl | 1, _ => rfl | 2, _ => rfl) (Nat.le_of_ble_eq_true rfl) (Nat.le_of_ble_eq_true rfl) dX0_made_80 (fun q_1 H hG => ?_)
            have hG : GG X ([(q_1, .inr (9, [.int 0, .int 0, .int 0]))] ++ rest) s.heap H _ := hG
            refine W.widen (k := 1) (n := 3) (Nat.le_of_ble_eq_true rfl) (Nat.le_of_ble_eq_true rfl) ?_
            refine lv_dup hx hb dX0_made_83 rfl ?_
            refine lv_iload_n hx hb dX0_made_84 rfl (lv_at hl 1 rfl) ?_
            refine lv_iload_n hx hb dX0_made_85 rfl (lv_at hl 2 rfl) ?_
            refine lv_iload_n hx hb dX0_made_86 rfl (lv_at hl 3 rfl) ?_
            have hG := GG.front (w1 := []) (rest := rest) hG
            refine w_afterX (w_rI_RX (b := q_1) (As := [.int x1, .int x2, .int x3]) B hK hG (tI_X10_4 l X q_1 x1 x2 x3 ([] ++ rest)) q666 q109 q664 q665 rfl (n := 3) (by decide +kernel) ⟨(Nat.le_of_ble_eq_true rfl), (Nat.le_of_ble_eq_true rfl)⟩ ⟨(Nat.le_of_ble_eq_true rfl), (Nat.le_of_ble_eq_true rfl)⟩ rfl hl.1 rfl (Nat.le_of_ble_eq_true rfl) dX0_made_87) hG.2.2 (fun v u_2 H locs hv hG2 => ?_)
            obtain rfl := hv
            have hG := GG.mid (cs := [(q_1, .inr (9, [.int x1, .int x2, .int x3]))]) (w1 := []) (rest := rest) hG2
            have hG : GG X ([(q_1, .inr (9, [.int x1, .int x2, .int x3]))] ++ rest) s.heap H _ := hG
            refine W.widen (k := 1) (n := 3) (Nat.le_of_ble_eq_true rfl) (Nat.le_of_ble_eq_true rfl) ?_
            exact w_aretX B hr (Or.inl ⟨_, rfl⟩) hlk (q_1, (4 : Fin 6)) ⟨rfl, hk⟩ hG dX0_made_90
          · refine lv_tableOut (tgt := 91) hx hb dX0_made_1 (by have := lv_neT c_0 (a := 0) rfl; have := lv_neT c_1 (a := 1) rfl; have := lv_neT c_2 (a := 2) rfl; have := lv_neT c_3 (a := 3) rfl; have := lv_neT c_4 (a := 4) rfl; omega) (by decide) ?_
            have hk : fMk x0 = 5 := by unfold fMk; rw [if_neg c_0, if_neg c_1, if_neg c_2, if_neg c_3, if_neg c_4]
            refine w_new (w1 := []) (rest := rest) B hK hG in_X11 tyX11 tyX11_ok q568 q671 q110 (ci := 10) rfl (fs := [.int 0, .int 0, .int 0]) (fun j hj => by match j, hj with | 0, _ => rfl | 1, _ => rfl | 2, _ => rfl) (Nat.le_of_ble_eq_true rfl) (Nat.le_of_ble_eq_true rfl) dX0_made_91 (fun q_1 H hG => ?_)
            have hG : GG X ([(q_1, .inr (10, [.int 0, .int 0, .int 0]))] ++ rest) s.heap H _ := hG
            refine W.widen (k := 1) (n := 3) (Nat.le_of_ble_eq_true rfl) (Nat.le_of_ble_eq_true rfl) ?_
            refine lv_dup hx hb dX0_made_94 rfl ?_
            refine lv_iload_n hx hb dX0_made_95 rfl (lv_at hl 1 rfl) ?_
            refine lv_iload_n hx hb dX0_made_96 rfl (lv_at hl 2 rfl) ?_
            refine lv_iload_n hx hb dX0_made_97 rfl (lv_at hl 3 rfl) ?_
            have hG := GG.front (w1 := []) (rest := rest) hG
            refine w_afterX (w_rI_RX (b := q_1) (As := [.int x1, .int x2, .int x3]) B hK hG (tI_X11_5 l X q_1 x1 x2 x3 ([] ++ rest)) q674 q110 q672 q673 rfl (n := 3) (by decide +kernel) ⟨(Nat.le_of_ble_eq_true rfl), (Nat.le_of_ble_eq_true rfl)⟩ ⟨(Nat.le_of_ble_eq_true rfl), (Nat.le_of_ble_eq_true rfl)⟩ rfl hl.1 rfl (Nat.le_of_ble_eq_true rfl) dX0_made_98) hG.2.2 (fun v u_2 H locs hv hG2 => ?_)
            obtain rfl := hv
            have hG := GG.mid (cs := [(q_1, .inr (10, [.int x1, .int x2, .int x3]))]) (w1 := []) (rest := rest) hG2
            have hG : GG X ([(q_1, .inr (10, [.int x1, .int x2, .int x3]))] ++ rest) s.heap H _ := hG
            refine W.widen (k := 1) (n := 3) (Nat.le_of_ble_eq_true rfl) (Nat.le_of_ble_eq_true rfl) ?_
            exact w_aretX B hr (Or.inl ⟨_, rfl⟩) hlk (q_1, (5 : Fin 6)) ⟨rfl, hk⟩ hG dX0_made_101

