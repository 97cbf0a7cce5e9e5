set_option maxRecDepth 100000
/-! the refusals and faults of the thing itself -/
theorem KK.zq {X : CX} {s : State} (h : KK X s) {C n d : String} (hl : Cond.laysStatic C n d ∈ lw_tbl) (hi : Cond.initialized C ∈ lw_all) (hr : (Cond.isRef (.static C n d)).before #[Value.ref X.2.1] X.1 = true) : ∃ v : Value, va_Z C n d v (Az X) s s.heap ∧ (v = .null ∨ ∃ t, v = .ref t) := by
  have hA : ∀ a : Nat, a < X.1.heap.size → ¬ Az X a := fun a ha q => absurd q (Nat.not_le.mpr ha)
  rcases va_Zqof (A := Az X) (h.1.1 _ hl) (h.1.1 _ (lw_all_tbl hi)) hr hA with h1 | ⟨t, h1⟩
  · exact ⟨_, (h1.moved h.2.1.alike).kept h.old, Or.inl rfl⟩
  · exact ⟨_, (h1.moved h.2.1.alike).kept h.old, Or.inr ⟨t, rfl⟩⟩
set_option maxHeartbeats 4000000 in
theorem tI_J0_X5 (l : Launch) (X : CX) (q : Nat) (rest : va_W) : RX l yJ0_init_3 cJ0_init_3 5 none 1 0 0 20 [.ref q, .null, .null, .int 0, .int 0] X ((q, .inr (12, [.null, .null, .null, .null, .null, .int 0, .int 0])) :: rest) (fun v (_ : Unit) => v = none) (fun _ => (q, .inr (12, [.null, .null, .null, .null, .null, .int 0, .int 0])) :: rest) := by
  refine RX.mk (by decide) (Nat.le_of_ble_eq_true rfl) ?_
  intro p e s m below meth c B hr hlk hin hK hG ls hl
  have hx := B.1
  have hb := B.2.1
  have hl : lv_has ls 5 [(0, .ref q), (1, .null), (2, .null), (3, .int 0), (4, .int 0)] := hl
  obtain ⟨v1, hz1, hv1⟩ := hK.zq q265 q92 (flat_of_before _ hK.1.2.1 _ (by decide +kernel))
  obtain ⟨v2, hz2, hv2⟩ := hK.zq q267 q92 (flat_of_before _ hK.1.2.1 _ (by decide +kernel))
  refine lv_aload_n hx hb dJ0_init_3_0 rfl (lv_at hl 0 rfl) ?_
  refine w_obj B hl.1 q263 (Nat.le_of_ble_eq_true rfl) (Nat.le_of_ble_eq_true rfl) (Nat.le_of_ble_eq_true rfl) dJ0_init_3_1 ?_
  refine lv_aload_n hx hb dJ0_init_3_4 rfl (lv_at hl 0 rfl) ?_
  refine lv_aload_n hx hb dJ0_init_3_5 rfl (lv_at hl 0 rfl) ?_
  refine w_put B hK hG 0 0 rfl rfl in_X5 tyX5 tyX5_ok nmX5 (by decide) q299 rfl rfl (by rfl) (by rfl) (Nat.le_of_ble_eq_true rfl) dJ0_init_3_6 (fun H locs hG => ?_)
  have hG : GG X ((q, .inr (12, [.ref q, .null, .null, .null, .null, .int 0, .int 0])) :: rest) s.heap H _ := hG
  refine lv_aload_n hx hb dJ0_init_3_9 rfl (lv_at hl 0 rfl) ?_
  refine va_gets hx hb hz1 hG.2.2 B.2.2.2.1 (B.2.2.2.2 _ q264) (fun _ h => h) dJ0_init_3_10 ?_
  refine w_put B hK hG 0 1 rfl rfl in_X5 tyX5 tyX5_ok nmX5 (by decide) q300 rfl rfl (by rcases hv1 with h | ⟨t, h⟩ <;> subst h <;> rfl) (by rcases hv1 with h | ⟨t, h⟩ <;> subst h <;> rfl) (Nat.le_of_ble_eq_true rfl) dJ0_init_3_13 (fun H locs hG => ?_)
  have hG : GG X ((q, .inr (12, [.ref q, v1, .null, .null, .null, .int 0, .int 0])) :: rest) s.heap H _ := hG
  refine lv_aload_n hx hb dJ0_init_3_16 rfl (lv_at hl 0 rfl) ?_
  refine va_gets hx hb hz2 hG.2.2 B.2.2.2.1 (B.2.2.2.2 _ q266) (fun _ h => h) dJ0_init_3_17 ?_
  refine w_put B hK hG 0 2 rfl rfl in_X5 tyX5 tyX5_ok nmX5 (by decide) q301 rfl rfl (by rcases hv2 with h | ⟨t, h⟩ <;> subst h <;> rfl) (by rcases hv2 with h | ⟨t, h⟩ <;> subst h <;> rfl) (Nat.le_of_ble_eq_true rfl) dJ0_init_3_20 (fun H locs hG => ?_)
  have hG : GG X ((q, .inr (12, [.ref q, v1, v2, .null, .null, .int 0, .int 0])) :: rest) s.heap H _ := hG
  refine lv_iload hx hb dJ0_init_3_23 (lv_at hl 4 rfl) ?_
  refine lv_if_eq (tgt := 36) hx hb dJ0_init_3_25 (by decide) (fun _ => ?_) (fun h => absurd rfl h)
  refine lv_aload_n hx hb dJ0_init_3_36 rfl (lv_at hl 0 rfl) ?_
  refine lv_null hx hb dJ0_init_3_37 ?_
  refine w_put B hK hG 0 1 rfl rfl in_X5 tyX5 tyX5_ok nmX5 (by decide) q300 rfl rfl (by rfl) (by rfl) (Nat.le_of_ble_eq_true rfl) dJ0_init_3_38 (fun H locs hG => ?_)
  have hG : GG X ((q, .inr (12, [.ref q, .null, v2, .null, .null, .int 0, .int 0])) :: rest) s.heap H _ := hG
  refine lv_aload_n hx hb dJ0_init_3_41 rfl (lv_at hl 0 rfl) ?_
  refine lv_aload_nN hx hb dJ0_init_3_42 rfl (lv_at hl 1 rfl) ?_
  refine w_put B hK hG 0 3 rfl rfl in_X5 tyX5 tyX5_ok nmX5 (by decide) q298 rfl rfl (by rfl) (by rfl) (Nat.le_of_ble_eq_true rfl) dJ0_init_3_43 (fun H locs hG => ?_)
  have hG : GG X ((q, .inr (12, [.ref q, .null, v2, .null, .null, .int 0, .int 0])) :: rest) s.heap H _ := hG
  refine lv_aload_n hx hb dJ0_init_3_46 rfl (lv_at hl 0 rfl) ?_
  refine lv_aload_nN hx hb dJ0_init_3_47 rfl (lv_at hl 2 rfl) ?_
  refine w_put B hK hG 0 0 rfl rfl in_X5 tyX5 tyX5_ok nmX5 (by decide) q299 rfl rfl (by rfl) (by rfl) (Nat.le_of_ble_eq_true rfl) dJ0_init_3_48 (fun H locs hG => ?_)
  have hG : GG X ((q, .inr (12, [.null, .null, v2, .null, .null, .int 0, .int 0])) :: rest) s.heap H _ := hG
  refine lv_iload_n hx hb dJ0_init_3_51 rfl (lv_at hl 3 rfl) ?_
  refine lv_if_ne (tgt := 60) hx hb dJ0_init_3_52 (by decide) (fun h => absurd rfl h) (fun _ => ?_)
  refine lv_aload_n hx hb dJ0_init_3_55 rfl (lv_at hl 0 rfl) ?_
  refine lv_null hx hb dJ0_init_3_56 ?_
  refine w_put B hK hG 0 2 rfl rfl in_X5 tyX5 tyX5_ok nmX5 (by decide) q301 rfl rfl (by rfl) (by rfl) (Nat.le_of_ble_eq_true rfl) dJ0_init_3_57 (fun H locs hG => ?_)
  have hG : GG X ((q, .inr (12, [.null, .null, .null, .null, .null, .int 0, .int 0])) :: rest) s.heap H _ := hG
  exact w_vretX B hr hlk () rfl hG dJ0_init_3_60
set_option maxHeartbeats 4000000 in
theorem tI_J1_X5 (l : Launch) (X : CX) (q : Nat) (rest : va_W) : RX l yJ1_init_2 cJ1_init_2 5 none 2 0 0 44 [.ref q, .null, .null, .int 0, .int 0] X ((q, .inr (12, [.null, .null, .null, .null, .null, .int 0, .int 0])) :: rest) (fun v (_ : Unit) => v = none) (fun _ => (q, .inr (12, [.null, .null, .null, .null, .null, .int 0, .int 0])) :: rest) := by
  refine RX.mk (by decide) (Nat.le_of_ble_eq_true rfl) ?_
  intro p e s m below meth c B hr hlk hin hK hG ls hl
  have hx := B.1
  have hb := B.2.1
  have hl : lv_has ls 5 [(0, .ref q), (1, .null), (2, .null), (3, .int 0), (4, .int 0)] := hl
  refine lv_aload_n hx hb dJ1_init_2_0 rfl (lv_at hl 0 rfl) ?_
  refine lv_aload_nN hx hb dJ1_init_2_1 rfl (lv_at hl 1 rfl) ?_
  refine lv_aload_nN hx hb dJ1_init_2_2 rfl (lv_at hl 2 rfl) ?_
  refine lv_iload_n hx hb dJ1_init_2_3 rfl (lv_at hl 3 rfl) ?_
  refine lv_iload hx hb dJ1_init_2_4 (lv_at hl 4 rfl) ?_
  refine w_afterX (w_rI_RX (b := q) (As := [.null, .null, .int 0, .int 0]) B hK hG (tI_J0_X5 l X q rest) q401 q92 q399 q400 rfl (n := 4) (by decide +kernel) ⟨(Nat.le_of_ble_eq_true rfl), (Nat.le_of_ble_eq_true rfl)⟩ ⟨(Nat.le_of_ble_eq_true rfl), (Nat.le_of_ble_eq_true rfl)⟩ rfl hl.1 rfl (Nat.le_of_ble_eq_true rfl) dJ1_init_2_6) hG.2.2 (fun v u_1 H locs hv hG2 => ?_)
  obtain rfl := hv
  refine W.widen (k := 0) (n := 0) (Nat.le_of_ble_eq_true rfl) (Nat.le_of_ble_eq_true rfl) ?_
  exact w_vretX B hr hlk () rfl hG2 dJ1_init_2_9
set_option maxHeartbeats 4000000 in
theorem tI_J2_X5 (l : Launch) (X : CX) (q : Nat) (rest : va_W) : RX l yJ2_init_2 cJ2_init_2 5 none 3 0 0 68 [.ref q, .null, .null, .int 0, .int 0] X ((q, .inr (12, [.null, .null, .null, .null, .null, .int 0, .int 0])) :: rest) (fun v (_ : Unit) => v = none) (fun _ => (q, .inr (12, [.null, .null, .null, .null, .null, .int 0, .int 0])) :: rest) := by
  refine RX.mk (by decide) (Nat.le_of_ble_eq_true rfl) ?_
  intro p e s m below meth c B hr hlk hin hK hG ls hl
  have hx := B.1
  have hb := B.2.1
  have hl : lv_has ls 5 [(0, .ref q), (1, .null), (2, .null), (3, .int 0), (4, .int 0)] := hl
  refine lv_aload_n hx hb dJ2_init_2_0 rfl (lv_at hl 0 rfl) ?_
  refine lv_aload_nN hx hb dJ2_init_2_1 rfl (lv_at hl 1 rfl) ?_
  refine lv_aload_nN hx hb dJ2_init_2_2 rfl (lv_at hl 2 rfl) ?_
  refine lv_iload_n hx hb dJ2_init_2_3 rfl (lv_at hl 3 rfl) ?_
  refine lv_iload hx hb dJ2_init_2_4 (lv_at hl 4 rfl) ?_
  refine w_afterX (w_rI_RX (b := q) (As := [.null, .null, .int 0, .int 0]) B hK hG (tI_J1_X5 l X q rest) q398 q93 q396 q397 rfl (n := 4) (by decide +kernel) ⟨(Nat.le_of_ble_eq_true rfl), (Nat.le_of_ble_eq_true rfl)⟩ ⟨(Nat.le_of_ble_eq_true rfl), (Nat.le_of_ble_eq_true rfl)⟩ rfl hl.1 rfl (Nat.le_of_ble_eq_true rfl) dJ2_init_2_6) hG.2.2 (fun v u_1 H locs hv hG2 => ?_)
  obtain rfl := hv
  refine W.widen (k := 0) (n := 0) (Nat.le_of_ble_eq_true rfl) (Nat.le_of_ble_eq_true rfl) ?_
  exact w_vretX B hr hlk () rfl hG2 dJ2_init_2_9
set_option maxHeartbeats 4000000 in
theorem tI_X5 (l : Launch) (X : CX) (q : Nat) (x : Int32) (rest : va_W) : RX l yX5_init cX5_init 2 none 4 0 0 92 [.ref q, .int x] X ((q, .inr (12, [.null, .null, .null, .null, .null, .int 0, .int 0])) :: rest) (fun v (_ : Unit) => v = none) (fun _ => (q, .inr (12, [.null, .null, .null, .null, .null, .int 0, .int x])) :: rest) := by
  refine RX.mk (by decide) (Nat.le_of_ble_eq_true rfl) ?_
  intro p e s m below meth c B hr hlk hin hK hG ls hl
  have hx := B.1
  have hb := B.2.1
  have hl : lv_has ls 2 [(0, .ref q), (1, .int x)] := hl
  refine lv_aload_n hx hb dX5_init_0 rfl (lv_at hl 0 rfl) ?_
  refine lv_null hx hb dX5_init_1 ?_
  refine lv_null hx hb dX5_init_2 ?_
  refine lv_iconst (v := 0) hx hb dX5_init_3 (by decide) ?_
  refine lv_iconst (v := 0) hx hb dX5_init_4 (by decide) ?_
  refine w_afterX (w_rI_RX (b := q) (As := [.null, .null, .int 0, .int 0]) B hK hG (tI_J2_X5 l X q rest) q395 q94 q393 q394 rfl (n := 4) (by decide +kernel) ⟨(Nat.le_of_ble_eq_true rfl), (Nat.le_of_ble_eq_true rfl)⟩ ⟨(Nat.le_of_ble_eq_true rfl), (Nat.le_of_ble_eq_true rfl)⟩ rfl hl.1 rfl (Nat.le_of_ble_eq_true rfl) dX5_init_5) hG.2.2 (fun v u_1 H locs hv hG => ?_)
  obtain rfl := hv
  have hG : GG X ((q, .inr (12, [.null, .null, .null, .null, .null, .int 0, .int 0])) :: rest) s.heap H _ := hG
  refine lv_aload_n hx hb dX5_init_8 rfl (lv_at hl 0 rfl) ?_
  refine lv_iload_n hx hb dX5_init_9 rfl (lv_at hl 1 rfl) ?_
  refine w_putF B hK hG 0 6 rfl rfl in_X5 tyX5 tyX5_ok nmX5 (by decide) q402 rfl rfl hin rfl rfl rfl (Nat.le_of_ble_eq_true rfl) dX5_init_10 (fun H locs hG => ?_)
  have hG : GG X ((q, .inr (12, [.null, .null, .null, .null, .null, .int 0, .int x])) :: rest) s.heap H _ := hG
  refine W.widen (k := 0) (n := 0) (Nat.le_of_ble_eq_true rfl) (Nat.le_of_ble_eq_true rfl) ?_
  exact w_vretX B hr hlk () rfl hG dX5_init_13
set_option maxHeartbeats 4000000 in
theorem tI_J0_X13 (l : Launch) (X : CX) (q : Nat) (rest : va_W) : RX l yJ0_init_3 cJ0_init_3 5 none 1 0 0 20 [.ref q, .null, .null, .int 0, .int 0] X ((q, .inr (13, [.null, .null, .null, .null, .null, .int 0, .int 0])) :: rest) (fun v (_ : Unit) => v = none) (fun _ => (q, .inr (13, [.null, .null, .null, .null, .null, .int 0, .int 0])) :: rest) := by
  refine RX.mk (by decide) (Nat.le_of_ble_eq_true rfl) ?_
  intro p e s m below meth c B hr hlk hin hK hG ls hl
  have hx := B.1
  have hb := B.2.1
  have hl : lv_has ls 5 [(0, .ref q), (1, .null), (2, .null), (3, .int 0), (4, .int 0)] := hl
  obtain ⟨v1, hz1, hv1⟩ := hK.zq q265 q92 (flat_of_before _ hK.1.2.1 _ (by decide +kernel))
  obtain ⟨v2, hz2, hv2⟩ := hK.zq q267 q92 (flat_of_before _ hK.1.2.1 _ (by decide +kernel))
  refine lv_aload_n hx hb dJ0_init_3_0 rfl (lv_at hl 0 rfl) ?_
  refine w_obj B hl.1 q263 (Nat.le_of_ble_eq_true rfl) (Nat.le_of_ble_eq_true rfl) (Nat.le_of_ble_eq_true rfl) dJ0_init_3_1 ?_
  refine lv_aload_n hx hb dJ0_init_3_4 rfl (lv_at hl 0 rfl) ?_
  refine lv_aload_n hx hb dJ0_init_3_5 rfl (lv_at hl 0 rfl) ?_
  refine w_put B hK hG 0 0 rfl rfl in_X13 tyX13 tyX13_ok nmX13 (by decide) q299 rfl rfl (by rfl) (by rfl) (Nat.le_of_ble_eq_true rfl) dJ0_init_3_6 (fun H locs hG => ?_)
  have hG : GG X ((q, .inr (13, [.ref q, .null, .null, .null, .null, .int 0, .int 0])) :: rest) s.heap H _ := hG
  refine lv_aload_n hx hb dJ0_init_3_9 rfl (lv_at hl 0 rfl) ?_
  refine va_gets hx hb hz1 hG.2.2 B.2.2.2.1 (B.2.2.2.2 _ q264) (fun _ h => h) dJ0_init_3_10 ?_
  refine w_put B hK hG 0 1 rfl rfl in_X13 tyX13 tyX13_ok nmX13 (by decide) q300 rfl rfl (by rcases hv1 with h | ⟨t, h⟩ <;> subst h <;> rfl) (by rcases hv1 with h | ⟨t, h⟩ <;> subst h <;> rfl) (Nat.le_of_ble_eq_true rfl) dJ0_init_3_13 (fun H locs hG => ?_)
  have hG : GG X ((q, .inr (13, [.ref q, v1, .null, .null, .null, .int 0, .int 0])) :: rest) s.heap H _ := hG
  refine lv_aload_n hx hb dJ0_init_3_16 rfl (lv_at hl 0 rfl) ?_
  refine va_gets hx hb hz2 hG.2.2 B.2.2.2.1 (B.2.2.2.2 _ q266) (fun _ h => h) dJ0_init_3_17 ?_
  refine w_put B hK hG 0 2 rfl rfl in_X13 tyX13 tyX13_ok nmX13 (by decide) q301 rfl rfl (by rcases hv2 with h | ⟨t, h⟩ <;> subst h <;> rfl) (by rcases hv2 with h | ⟨t, h⟩ <;> subst h <;> rfl) (Nat.le_of_ble_eq_true rfl) dJ0_init_3_20 (fun H locs hG => ?_)
  have hG : GG X ((q, .inr (13, [.ref q, v1, v2, .null, .null, .int 0, .int 0])) :: rest) s.heap H _ := hG
  refine lv_iload hx hb dJ0_init_3_23 (lv_at hl 4 rfl) ?_
  refine lv_if_eq (tgt := 36) hx hb dJ0_init_3_25 (by decide) (fun _ => ?_) (fun h => absurd rfl h)
  refine lv_aload_n hx hb dJ0_init_3_36 rfl (lv_at hl 0 rfl) ?_
  refine lv_null hx hb dJ0_init_3_37 ?_
  refine w_put B hK hG 0 1 rfl rfl in_X13 tyX13 tyX13_ok nmX13 (by decide) q300 rfl rfl (by rfl) (by rfl) (Nat.le_of_ble_eq_true rfl) dJ0_init_3_38 (fun H locs hG => ?_)
  have hG : GG X ((q, .inr (13, [.ref q, .null, v2, .null, .null, .int 0, .int 0])) :: rest) s.heap H _ := hG
  refine lv_aload_n hx hb dJ0_init_3_41 rfl (lv_at hl 0 rfl) ?_
  refine lv_aload_nN hx hb dJ0_init_3_42 rfl (lv_at hl 1 rfl) ?_
  refine w_put B hK hG 0 3 rfl rfl in_X13 tyX13 tyX13_ok nmX13 (by decide) q298 rfl rfl (by rfl) (by rfl) (Nat.le_of_ble_eq_true rfl) dJ0_init_3_43 (fun H locs hG => ?_)
  have hG : GG X ((q, .inr (13, [.ref q, .null, v2, .null, .null, .int 0, .int 0])) :: rest) s.heap H _ := hG
  refine lv_aload_n hx hb dJ0_init_3_46 rfl (lv_at hl 0 rfl) ?_
  refine lv_aload_nN hx hb dJ0_init_3_47 rfl (lv_at hl 2 rfl) ?_
  refine w_put B hK hG 0 0 rfl rfl in_X13 tyX13 tyX13_ok nmX13 (by decide) q299 rfl rfl (by rfl) (by rfl) (Nat.le_of_ble_eq_true rfl) dJ0_init_3_48 (fun H locs hG => ?_)
  have hG : GG X ((q, .inr (13, [.null, .null, v2, .null, .null, .int 0, .int 0])) :: rest) s.heap H _ := hG
  refine lv_iload_n hx hb dJ0_init_3_51 rfl (lv_at hl 3 rfl) ?_
  refine lv_if_ne (tgt := 60) hx hb dJ0_init_3_52 (by decide) (fun h => absurd rfl h) (fun _ => ?_)
  refine lv_aload_n hx hb dJ0_init_3_55 rfl (lv_at hl 0 rfl) ?_
  refine lv_null hx hb dJ0_init_3_56 ?_
  refine w_put B hK hG 0 2 rfl rfl in_X13 tyX13 tyX13_ok nmX13 (by decide) q301 rfl rfl (by rfl) (by rfl) (Nat.le_of_ble_eq_true rfl) dJ0_init_3_57 (fun H locs hG => ?_)
  have hG : GG X ((q, .inr (13, [.null, .null, .null, .null, .null, .int 0, .int 0])) :: rest) s.heap H _ := hG
  exact w_vretX B hr hlk () rfl hG dJ0_init_3_60
set_option maxHeartbeats 4000000 in
theorem tI_J1_X13 (l : Launch) (X : CX) (q : Nat) (rest : va_W) : RX l yJ1_init_2 cJ1_init_2 5 none 2 0 0 44 [.ref q, .null, .null, .int 0, .int 0] X ((q, .inr (13, [.null, .null, .null, .null, .null, .int 0, .int 0])) :: rest) (fun v (_ : Unit) => v = none) (fun _ => (q, .inr (13, [.null, .null, .null, .null, .null, .int 0, .int 0])) :: rest) := by
  refine RX.mk (by decide) (Nat.le_of_ble_eq_true rfl) ?_
  intro p e s m below meth c B hr hlk hin hK hG ls hl
  have hx := B.1
  have hb := B.2.1
  have hl : lv_has ls 5 [(0, .ref q), (1, .null), (2, .null), (3, .int 0), (4, .int 0)] := hl
  refine lv_aload_n hx hb dJ1_init_2_0 rfl (lv_at hl 0 rfl) ?_
  refine lv_aload_nN hx hb dJ1_init_2_1 rfl (lv_at hl 1 rfl) ?_
  refine lv_aload_nN hx hb dJ1_init_2_2 rfl (lv_at hl 2 rfl) ?_
  refine lv_iload_n hx hb dJ1_init_2_3 rfl (lv_at hl 3 rfl) ?_
  refine lv_iload hx hb dJ1_init_2_4 (lv_at hl 4 rfl) ?_
  refine w_afterX (w_rI_RX (b := q) (As := [.null, .null, .int 0, .int 0]) B hK hG (tI_J0_X13 l X q rest) q401 q92 q399 q400 rfl (n := 4) (by decide +kernel) ⟨(Nat.le_of_ble_eq_true rfl), (Nat.le_of_ble_eq_true rfl)⟩ ⟨(Nat.le_of_ble_eq_true rfl), (Nat.le_of_ble_eq_true rfl)⟩ rfl hl.1 rfl (Nat.le_of_ble_eq_true rfl) dJ1_init_2_6) hG.2.2 (fun v u_1 H locs hv hG2 => ?_)
  obtain rfl := hv
  refine W.widen (k := 0) (n := 0) (Nat.le_of_ble_eq_true rfl) (Nat.le_of_ble_eq_true rfl) ?_
  exact w_vretX B hr hlk () rfl hG2 dJ1_init_2_9
set_option maxHeartbeats 4000000 in
theorem tI_X13 (l : Launch) (X : CX) (q : Nat) (x : Int32) (rest : va_W) : RX l yX13_init cX13_init 2 none 3 0 0 68 [.ref q, .int x] X ((q, .inr (13, [.null, .null, .null, .null, .null, .int 0, .int 0])) :: rest) (fun v (_ : Unit) => v = none) (fun _ => (q, .inr (13, [.null, .null, .null, .null, .null, .int 0, .int x])) :: rest) := by
  refine RX.mk (by decide) (Nat.le_of_ble_eq_true rfl) ?_
  intro p e s m below meth c B hr hlk hin hK hG ls hl
  have hx := B.1
  have hb := B.2.1
  have hl : lv_has ls 2 [(0, .ref q), (1, .int x)] := hl
  refine lv_aload_n hx hb dX13_init_0 rfl (lv_at hl 0 rfl) ?_
  refine lv_null hx hb dX13_init_1 ?_
  refine lv_null hx hb dX13_init_2 ?_
  refine lv_iconst (v := 0) hx hb dX13_init_3 (by decide) ?_
  refine lv_iconst (v := 0) hx hb dX13_init_4 (by decide) ?_
  refine w_afterX (w_rI_RX (b := q) (As := [.null, .null, .int 0, .int 0]) B hK hG (tI_J1_X13 l X q rest) q398 q93 q967 q397 rfl (n := 4) (by decide +kernel) ⟨(Nat.le_of_ble_eq_true rfl), (Nat.le_of_ble_eq_true rfl)⟩ ⟨(Nat.le_of_ble_eq_true rfl), (Nat.le_of_ble_eq_true rfl)⟩ rfl hl.1 rfl (Nat.le_of_ble_eq_true rfl) dX13_init_5) hG.2.2 (fun v u_1 H locs hv hG => ?_)
  obtain rfl := hv
  have hG : GG X ((q, .inr (13, [.null, .null, .null, .null, .null, .int 0, .int 0])) :: rest) s.heap H _ := hG
  refine lv_aload_n hx hb dX13_init_8 rfl (lv_at hl 0 rfl) ?_
  refine lv_iload_n hx hb dX13_init_9 rfl (lv_at hl 1 rfl) ?_
  refine w_putF B hK hG 0 6 rfl rfl in_X13 tyX13 tyX13_ok nmX13 (by decide) q968 rfl rfl hin rfl rfl rfl (Nat.le_of_ble_eq_true rfl) dX13_init_10 (fun H locs hG => ?_)
  have hG : GG X ((q, .inr (13, [.null, .null, .null, .null, .null, .int 0, .int x])) :: rest) s.heap H _ := hG
  refine W.widen (k := 0) (n := 0) (Nat.le_of_ble_eq_true rfl) (Nat.le_of_ble_eq_true rfl) ?_
  exact w_vretX B hr hlk () rfl hG dX13_init_13
def XC (q : Nat) (x : Int32) : Nat × va_E := (q, .inr (12, [.null, .null, .null, .null, .null, .int 0, .int x]))
def FXC (q : Nat) (x : Int32) : Nat × va_E := (q, .inr (13, [.null, .null, .null, .null, .null, .int 0, .int x]))
theorem exc_X5 {X : CX} {s : State} {ws : va_W} {H : Heap} {q : Nat} {x : Int32} (hK : KK X s) (hP : va_P X.2.2.1 vwCl (XC q x :: ws) H) : ExC s RX5 q H := by
  obtain ⟨r, h1, ce, h2, h3⟩ := hP 0 _ rfl
  cases Option.some.inj h1
  exact ⟨ce, h2, h3.2.1, by rw [h3.1]; exact (hK.k.1 12 _ rfl).2.1⟩
section RF1
variable {p : Program} {l : Launch} {e : Env} {R : Room} {s : State} {m : MethodId} {args : Array Value} {below : List Frame} {meth : Method} {c : Code} {H : Heap} {locs : List Loc} {cells slots : Nat} {Q : State → Prop} {cc : ByteArray} {nL pc : Nat} {ls : Array Slot} {st st0 : List Value} {own : String} {X : CX} {ws : va_W}
theorem w_refuse (B : CallFix p m c cc nL s args lw_all RX0) (hK : KK X s) (hG : GG X ws s.heap H locs) (hls : ls.size = nL) {x : Int32} {b : Int} (hb : (Int8.ofInt b).toInt32 = x) (hfr : 5 ≤ R.frames) (hlo : 113 ≤ R.locals) (hcs : cells + 1 ≤ R.cells ∧ slots + 7 ≤ R.slots)
    (d0 : decode cc pc = .ok (.new 104, 3)) (d1 : decode cc (pc + 3) = .ok (.dup, 1)) (d2 : decode cc (pc + 4) = .ok (.bipush b, 2)) (d3 : decode cc (pc + 6) = .ok (.invokespecial 106, 3)) (d4 : decode cc (pc + 9) = .ok (.athrow, 1))
    (kk : ∀ (q : Nat) (H1 : Heap) (locs1 : List Loc), GG X (XC q x :: ws) s.heap H1 locs1 → ExC s RX5 q H1 → WX p l e R s m args below meth c H1 locs1 (cells + 1) (slots + 7) Q q (F0 m (pc + 9) ls [])) : W p l e R s m args below meth c H locs cells slots Q (F0 m pc ls []) := by
  refine w_new (w1 := []) (rest := ws) B hK hG in_X5 tyX5 tyX5_ok q357 q382 q99 (ci := 12) rfl (fs := [.null, .null, .null, .null, .null, .int 0, .int 0]) (fun j hj => by match j, hj with | 0, _ => rfl | 1, _ => rfl | 2, _ => rfl | 3, _ => rfl | 4, _ => rfl | 5, _ => rfl | 6, _ => rfl) hcs.1 hcs.2 d0 (fun q H1 hG1 => ?_)
  refine lv_dup B.1 B.2.1 d1 rfl ?_
  refine lv_bipush (v := x) B.1 B.2.1 d2 hb ?_
  refine w_afterX (w_rI_RX (b := q) (As := [.int x]) B hK hG1 (tI_X5 l X q x ws) q392 q99 q390 q391 rfl (n := 1) (by decide +kernel) ⟨hfr, by omega⟩ hcs rfl hls rfl (Nat.le_of_ble_eq_true rfl) d3) hG1.2.2 (fun v u_1 H2 locs2 hv hG2 => ?_)
  obtain rfl := hv
  exact W.athr B.1 B.2.1 d4 (kk q H2 locs2 hG2 (exc_X5 hK hG2.1))
end RF1
