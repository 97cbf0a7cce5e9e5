set_option maxRecDepth 100000
/-! where, of, judge, nears, done: whole -/
set_option maxHeartbeats 4000000 in
theorem tC_where (l : Launch) (hlt : l.stackTraces = false) (X : CX) (ca fa : Nat → Nat) (rest : va_W) (w w' : CW) (x1 x2 x3 : Int32) (r : Int32) (hf : fC_where w x1 x2 x3 = some (r, w')) : HX l yX0_where cX0_where 7 (some .int) [(0, 30, 97, 104), (31, 69, 97, 104), (70, 97, 97, 104)] 11 5 269 10313 [.ref (ca 0), .int x1, .int x2, .int x3] X (CP X ca fa w ++ rest) (fun v (_ : Unit) => v = some (.int r)) (fun _ => CP X ca fa w' ++ rest) := by
  refine HX.mk (by decide) (Nat.le_of_ble_eq_true rfl) ?_
  intro p e s m below meth c B hr hlk htab hK hG ls hl
  have hx := B.1
  have hb := B.2.1
  have hl : lv_has ls 7 [(0, .ref (ca 0)), (1, .int x1), (2, .int x2), (3, .int x3)] := hl
  unfold fC_where at hf
  obtain ⟨q, e_1, hf⟩ := bo hf
  refine lv_aload_n hx hb dX0_where_0 rfl (lv_at hl 0 rfl) ?_
  refine lv_iload_n hx hb dX0_where_1 rfl (lv_at hl 3 rfl) ?_
  refine lv_iconst (v := (-1)) hx hb dX0_where_2 (by decide) ?_
  generalize ha : (if x3 < -1 then (0 : Int32) else 1) = a at e_1
  have go : W p l e (RMw 11 5 269 10313) s m [Value.ref (ca 0), Value.int x1, Value.int x2, Value.int x3].toArray below meth c s.heap [] 0 0 (MQ below (QX X (fun v (_ : Unit) => v = some (.int r)) (fun _ => CP X ca fa w' ++ rest)) [Value.ref (ca 0), Value.int x1, Value.int x2, Value.int x3].toArray s 5 269 (Az X)) (F0 m 11 ls [.int a, .ref (ca 0)]) := by
    refine lv_iload_n hx hb dX0_where_11 rfl (lv_at hl 1 rfl) ?_
    refine lv_iload_n hx hb dX0_where_12 rfl (lv_at hl 2 rfl) ?_
    match q, e_1, hf with
    | .inl b, e_1, hf =>
      refine w_afterT (w_rV_TX (As := [.int a, .int x1, .int x2]) B hK hG (tC_pairsIn_x l hlt X ca fa rest w a x1 x2 b e_1) (lw_V q1141 q1143 qs15 q87 q1144) 8 rfl rfl (n := 3) (by decide +kernel) ⟨Nat.le_of_ble_eq_true rfl, Nat.le_of_ble_eq_true rfl⟩ ⟨Nat.le_of_ble_eq_true rfl, Nat.le_of_ble_eq_true rfl⟩ rfl hl.1 rfl (Nat.le_of_ble_eq_true rfl) dX0_where_13) hG.2.2 (fun x u H1 locs1 hp hG1 => ?_)
      obtain ⟨rfl, hE⟩ := hp
      refine w_catchA B hK htab (by decide) (by decide) q357 (hE.at1 hK) q383 q382 ?_
      refine w_byno B hK hG1 hf (lv_sub hl [0] rfl) (by decide) ⟨Nat.le_of_ble_eq_true rfl, Nat.le_of_ble_eq_true rfl⟩ ⟨Nat.le_of_ble_eq_true rfl, Nat.le_of_ble_eq_true rfl⟩ dX0_where_97 dX0_where_99 dX0_where_100 dX0_where_102 dX0_where_105 (fun H locs hG ls => ?_)
      refine W.widen (k := 5) (n := 269) (Nat.le_of_ble_eq_true rfl) (Nat.le_of_ble_eq_true rfl) ?_
      exact w_iretX B hr hlk () rfl hG dX0_where_108
    | .inr v9, e_1, hf =>
      refine w_afterX (w_rV_RX (As := [.int a, .int x1, .int x2]) B hK hG (tC_pairsIn l X ca fa rest w a x1 x2 v9 e_1) (lw_V q1141 q1143 qs15 q87 q1144) 8 rfl rfl (n := 3) (by decide +kernel) ⟨Nat.le_of_ble_eq_true rfl, Nat.le_of_ble_eq_true rfl⟩ ⟨Nat.le_of_ble_eq_true rfl, Nat.le_of_ble_eq_true rfl⟩ rfl hl.1 rfl (Nat.le_of_ble_eq_true rfl) dX0_where_13) hG.2.2 (fun v u H1 locs1 hv hG1 => ?_)
      obtain rfl := hv
      refine lv_astore hx hb dX0_where_16 hl (by decide) rfl (fun ls hl => ?_)
      refine lv_iload_n hx hb dX0_where_18 rfl (lv_at hl 4 rfl) ?_
      refine lv_iconst (v := (-1)) hx hb dX0_where_19 (by decide) ?_
      refine lv_icmp_ne (tgt := 31) hx hb dX0_where_20 (by decide) (fun c_1 => ?_) (fun c_1 => ?_)
      · have hf := ifn c_1 hf
        obtain ⟨c9, e_2, hf⟩ := bo hf
        obtain ⟨r9, e_3, hf⟩ := bo hf
        refine lv_iload_n hx hb dX0_where_31 rfl (lv_at hl 4 rfl) ?_
        refine lv_istore hx hb dX0_where_32 hl (by decide) rfl (fun ls hl => ?_)
        refine lv_aload_n hx hb dX0_where_34 rfl (lv_at hl 2 rfl) ?_
        refine co_this_g0 B hK hG1.1 dX0_where_35 ?_
        refine lv_iconst (v := (-1)) hx hb dX0_where_38 (by decide) ?_
        refine cCF_next B hK hG1.2.2 hG1.1 e_2 ⟨Nat.le_of_ble_eq_true rfl, Nat.le_of_ble_eq_true rfl⟩ ⟨Nat.le_of_ble_eq_true rfl, Nat.le_of_ble_eq_true rfl⟩ hl.1 (Nat.le_of_ble_eq_true rfl) dX0_where_39 ?_
        refine lv_istore hx hb dX0_where_42 hl (by decide) rfl (fun ls hl => ?_)
        refine vC_where_L44 (pr := (u, v9)) B hK ⟨Nat.le_of_ble_eq_true rfl, Nat.le_of_ble_eq_true rfl⟩ ⟨Nat.le_of_ble_eq_true rfl, Nat.le_of_ble_eq_true rfl⟩ (res := r9) (z := (w, x3, c9)) (by rw [fi_any]; exact e_3) (fun v h H locs hG ls => ?_) (fun h H locs hG ls hl => ?_) hG1 (lv_sub hl [3, 2, 1, 0] rfl)
        · rw [h] at hf
          cases Option.some.inj hf
          have hG2 : GG X (CP X ca fa r9.2 ++ rest) s.heap H locs := hG.sublist (List.Sublist.append (List.Sublist.refl _) (List.sublist_cons_self _ _))
          refine W.widen (k := 5) (n := 269) (Nat.le_of_ble_eq_true rfl) (Nat.le_of_ble_eq_true rfl) ?_
          exact w_iretX B hr hlk () rfl hG2 dX0_where_69
        · rw [h] at hf
          have hG2 : GG X (CP X ca fa r9.2 ++ rest) s.heap H locs := hG.sublist (List.Sublist.append (List.Sublist.refl _) (List.sublist_cons_self _ _))
          refine w_refuse (x := -5) B hK hG2 hl.1 (by decide) (Nat.le_of_ble_eq_true rfl) (Nat.le_of_ble_eq_true rfl) ⟨Nat.le_of_ble_eq_true rfl, Nat.le_of_ble_eq_true rfl⟩ dX0_where_87 dX0_where_90 dX0_where_91 dX0_where_93 dX0_where_96 (fun q H1 locs1 hG1 hE => ?_)
          refine w_catchS B hK [(0, 30, 97, 104), (31, 69, 97, 104)] [] htab (by decide) (by decide) (by decide) q357 hE q383 q382 ?_
          refine w_byno B hK hG1 hf (lv_sub hl [0] rfl) (by decide) ⟨Nat.le_of_ble_eq_true rfl, Nat.le_of_ble_eq_true rfl⟩ ⟨Nat.le_of_ble_eq_true rfl, Nat.le_of_ble_eq_true rfl⟩ dX0_where_97 dX0_where_99 dX0_where_100 dX0_where_102 dX0_where_105 (fun H locs hG ls => ?_)
          refine W.widen (k := 5) (n := 269) (Nat.le_of_ble_eq_true rfl) (Nat.le_of_ble_eq_true rfl) ?_
          exact w_iretX B hr hlk () rfl hG dX0_where_108
      · have hf := ifp c_1 hf
        refine lv_aload_n hx hb dX0_where_23 rfl (lv_at hl 1 rfl) ?_
        refine lv_aload hx hb dX0_where_24 (lv_at hl 0 rfl) ?_
        refine lv_iconst (v := (-1)) hx hb dX0_where_26 (by decide) ?_
        refine cC_many (pr := (u, v9)) B hK hG1 (by rw [my_any]; exact hf) rfl ⟨Nat.le_of_ble_eq_true rfl, Nat.le_of_ble_eq_true rfl⟩ ⟨Nat.le_of_ble_eq_true rfl, Nat.le_of_ble_eq_true rfl⟩ hl.1 (Nat.le_of_ble_eq_true rfl) dX0_where_27 (fun H locs hG => ?_)
        have hG2 : GG X (CP X ca fa w' ++ rest) s.heap H locs := hG.sublist (List.Sublist.append (List.Sublist.refl _) (List.sublist_cons_self _ _))
        refine W.widen (k := 5) (n := 269) (Nat.le_of_ble_eq_true rfl) (Nat.le_of_ble_eq_true rfl) ?_
        exact w_iretX B hr hlk () rfl hG2 dX0_where_30
  refine lv_icmp_lt (tgt := 10) hx hb dX0_where_3 (by decide) (fun c_1 => ?_) (fun c_1 => ?_)
  · refine lv_iconst (v := 0) hx hb dX0_where_10 (by decide) ?_
    rw [if_pos c_1] at ha
    rw [← ha] at go
    exact go
  · refine lv_iconst (v := 1) hx hb dX0_where_6 (by decide) ?_
    refine lv_goto (tgt := 11) hx hb dX0_where_7 (by decide) ?_
    rw [if_neg c_1] at ha
    rw [← ha] at go
    exact go
set_option maxHeartbeats 4000000 in
theorem tC_of (l : Launch) (hlt : l.stackTraces = false) (X : CX) (ca fa : Nat → Nat) (rest : va_W) (w w' : CW) (x1 x2 x3 : Int32) (r : Int32) (hf : fC_of w x1 x2 x3 = some (r, w')) : HX l yX0_of cX0_of 5 (some .int) [(0, 33, 34, 104)] 11 5 269 10313 [.ref (ca 0), .int x1, .int x2, .int x3] X (CP X ca fa w ++ rest) (fun v (_ : Unit) => v = some (.int r)) (fun _ => CP X ca fa w' ++ rest) := by
  refine HX.mk (by decide) (Nat.le_of_ble_eq_true rfl) ?_
  intro p e s m below meth c B hr hlk htab hK hG ls hl
  have hx := B.1
  have hb := B.2.1
  have hl : lv_has ls 5 [(0, .ref (ca 0)), (1, .int x1), (2, .int x2), (3, .int x3)] := hl
  unfold fC_of at hf
  obtain ⟨a, e_0, hf⟩ := bo hf
  obtain ⟨q, e_1, hf⟩ := bo hf
  refine lv_aload_n hx hb dX0_of_0 rfl (lv_at hl 0 rfl) ?_
  refine lv_iload_n hx hb dX0_of_1 rfl (lv_at hl 3 rfl) ?_
  refine lv_iconst (v := 0) hx hb dX0_of_2 (by decide) ?_
  refine lv_iconst (v := 1) hx hb dX0_of_3 (by decide) ?_
  refine cC_isIn B e_0 ⟨Nat.le_of_ble_eq_true rfl, Nat.le_of_ble_eq_true rfl⟩ ⟨Nat.zero_le _, Nat.zero_le _⟩ hl.1 (Nat.le_of_ble_eq_true rfl) dX0_of_4 ?_
  refine lv_iload_n hx hb dX0_of_7 rfl (lv_at hl 1 rfl) ?_
  refine lv_iload_n hx hb dX0_of_8 rfl (lv_at hl 2 rfl) ?_
  match q, e_1, hf with
  | .inl b, e_1, hf =>
    refine w_afterT (w_rV_TX (As := [.int a, .int x1, .int x2]) B hK hG (tC_pairsIn_x l hlt X ca fa rest w a x1 x2 b e_1) (lw_V q1141 q1143 qs15 q87 q1144) 8 rfl rfl (n := 3) (by decide +kernel) ⟨Nat.le_of_ble_eq_true rfl, Nat.le_of_ble_eq_true rfl⟩ ⟨Nat.le_of_ble_eq_true rfl, Nat.le_of_ble_eq_true rfl⟩ rfl hl.1 rfl (Nat.le_of_ble_eq_true rfl) dX0_of_9) hG.2.2 (fun x u H1 locs1 hp hG1 => ?_)
    obtain ⟨rfl, hE⟩ := hp
    refine w_catchA B hK htab (by decide) (by decide) q357 (hE.at1 hK) q383 q382 ?_
    refine w_byno B hK hG1 hf (lv_sub hl [0] rfl) (by decide) ⟨Nat.le_of_ble_eq_true rfl, Nat.le_of_ble_eq_true rfl⟩ ⟨Nat.le_of_ble_eq_true rfl, Nat.le_of_ble_eq_true rfl⟩ dX0_of_34 dX0_of_36 dX0_of_37 dX0_of_39 dX0_of_42 (fun H locs hG ls => ?_)
    refine W.widen (k := 5) (n := 269) (Nat.le_of_ble_eq_true rfl) (Nat.le_of_ble_eq_true rfl) ?_
    exact w_iretX B hr hlk () rfl hG dX0_of_45
  | .inr v9, e_1, hf =>
    refine w_afterX (w_rV_RX (As := [.int a, .int x1, .int x2]) B hK hG (tC_pairsIn l X ca fa rest w a x1 x2 v9 e_1) (lw_V q1141 q1143 qs15 q87 q1144) 8 rfl rfl (n := 3) (by decide +kernel) ⟨Nat.le_of_ble_eq_true rfl, Nat.le_of_ble_eq_true rfl⟩ ⟨Nat.le_of_ble_eq_true rfl, Nat.le_of_ble_eq_true rfl⟩ rfl hl.1 rfl (Nat.le_of_ble_eq_true rfl) dX0_of_9) hG.2.2 (fun v u H1 locs1 hv hG1 => ?_)
    obtain rfl := hv
    refine lv_astore hx hb dX0_of_12 hl (by decide) rfl (fun ls hl => ?_)
    refine lv_iload_n hx hb dX0_of_14 rfl (lv_at hl 4 rfl) ?_
    refine lv_if_ne (tgt := 27) hx hb dX0_of_15 (by decide) (fun c_1 => ?_) (fun c_1 => ?_)
    · have hf := ifn c_1 hf
      refine lv_aload_n hx hb dX0_of_27 rfl (lv_at hl 1 rfl) ?_
      refine lv_aload hx hb dX0_of_28 (lv_at hl 0 rfl) ?_
      refine w_afterW (w_rV_RW (As := [.ref u]) B hK hG1 (tC_falseOf l X ca fa (u, v9) rest w w' r (by rw [fo_any]; exact hf)) (lw_V q1183 q1185 qs21 q87 q1186) 8 rfl rfl (n := 1) (by decide +kernel) ⟨Nat.le_of_ble_eq_true rfl, Nat.le_of_ble_eq_true rfl⟩ ⟨Nat.le_of_ble_eq_true rfl, Nat.le_of_ble_eq_true rfl⟩ rfl hl.1 rfl (Nat.le_of_ble_eq_true rfl) dX0_of_30) hG1.2.2 (fun H locs hG => ?_)
      have hG2 : GG X (CP X ca fa w' ++ rest) s.heap H locs := hG.sublist (List.Sublist.append (List.Sublist.refl _) (List.sublist_cons_self _ _))
      refine W.widen (k := 5) (n := 269) (Nat.le_of_ble_eq_true rfl) (Nat.le_of_ble_eq_true rfl) ?_
      exact w_iretX B hr hlk () rfl hG2 dX0_of_33
    · have hf := ifp c_1 hf
      refine lv_aload_n hx hb dX0_of_18 rfl (lv_at hl 1 rfl) ?_
      refine lv_aload hx hb dX0_of_19 (lv_at hl 0 rfl) ?_
      refine w_afterW (w_rV_RW (As := [.ref u]) B hK hG1 (tC_nextOf l X ca fa (u, v9) rest w w' r (by rw [no_any]; exact hf)) (lw_V q1172 q1174 qs19 q87 q1175) 8 rfl rfl (n := 1) (by decide +kernel) ⟨Nat.le_of_ble_eq_true rfl, Nat.le_of_ble_eq_true rfl⟩ ⟨Nat.le_of_ble_eq_true rfl, Nat.le_of_ble_eq_true rfl⟩ rfl hl.1 rfl (Nat.le_of_ble_eq_true rfl) dX0_of_21) hG1.2.2 (fun H locs hG => ?_)
      refine lv_goto (tgt := 33) hx hb dX0_of_24 (by decide) ?_
      have hG2 : GG X (CP X ca fa w' ++ rest) s.heap H locs := hG.sublist (List.Sublist.append (List.Sublist.refl _) (List.sublist_cons_self _ _))
      refine W.widen (k := 5) (n := 269) (Nat.le_of_ble_eq_true rfl) (Nat.le_of_ble_eq_true rfl) ?_
      exact w_iretX B hr hlk () rfl hG2 dX0_of_33
set_option maxHeartbeats 4000000 in
theorem tC_judge (l : Launch) (hlt : l.stackTraces = false) (X : CX) (ca fa : Nat → Nat) (rest : va_W) (w w' : CW) (x1 x2 x3 : Int32) (r : Int32) (hf : fC_judge w x1 x2 x3 = some (r, w')) : HX l yX0_judge cX0_judge 5 (some .int) [(0, 20, 21, 104)] 10 5 269 10288 [.ref (ca 0), .int x1, .int x2, .int x3] X (CP X ca fa w ++ rest) (fun v (_ : Unit) => v = some (.int r)) (fun _ => CP X ca fa w' ++ rest) := by
  refine HX.mk (by decide) (Nat.le_of_ble_eq_true rfl) ?_
  intro p e s m below meth c B hr hlk htab hK hG ls hl
  have hx := B.1
  have hb := B.2.1
  have hl : lv_has ls 5 [(0, .ref (ca 0)), (1, .int x1), (2, .int x2), (3, .int x3)] := hl
  unfold fC_judge at hf
  obtain ⟨a, e_0, hf⟩ := bo hf
  obtain ⟨q, e_1, hf⟩ := bo hf
  refine lv_aload_n hx hb dX0_judge_0 rfl (lv_at hl 0 rfl) ?_
  refine lv_aload_n hx hb dX0_judge_1 rfl (lv_at hl 0 rfl) ?_
  refine lv_aload_n hx hb dX0_judge_2 rfl (lv_at hl 0 rfl) ?_
  refine co_this_g0 B hK hG.1 dX0_judge_3 ?_
  refine lv_iload_n hx hb dX0_judge_6 rfl (lv_at hl 3 rfl) ?_
  refine cCF_isWalker B hK hG.2.2 hG.1 e_0 ⟨Nat.le_of_ble_eq_true rfl, Nat.le_of_ble_eq_true rfl⟩ ⟨Nat.zero_le _, Nat.zero_le _⟩ hl.1 (Nat.le_of_ble_eq_true rfl) dX0_judge_7 ?_
  refine lv_iload_n hx hb dX0_judge_10 rfl (lv_at hl 1 rfl) ?_
  refine lv_iload_n hx hb dX0_judge_11 rfl (lv_at hl 2 rfl) ?_
  refine lv_iconst (v := 1) hx hb dX0_judge_12 (by decide) ?_
  match q, e_1, hf with
  | .inl b, e_1, hf =>
    refine w_afterT (w_rV_THX (As := [.int a, .int x1, .int x2, .int 1]) B hK hG (tC_toldIn_x l hlt X ca fa rest w a x1 x2 1 b e_1) q1145 q1147 qs16 q87 q1148 8 rfl rfl (n := 4) (by decide +kernel) ⟨Nat.le_of_ble_eq_true rfl, Nat.le_of_ble_eq_true rfl⟩ ⟨Nat.le_of_ble_eq_true rfl, Nat.le_of_ble_eq_true rfl⟩ rfl hl.1 rfl (Nat.le_of_ble_eq_true rfl) dX0_judge_13) hG.2.2 (fun x u H1 locs1 hp hG1 => ?_)
    obtain ⟨rfl, hE⟩ := hp
    refine w_catchA B hK htab (by decide) (by decide) q357 (hE.at1 hK) q383 q382 ?_
    refine w_byno B hK hG1 hf (lv_sub hl [0] rfl) (by decide) ⟨Nat.le_of_ble_eq_true rfl, Nat.le_of_ble_eq_true rfl⟩ ⟨Nat.le_of_ble_eq_true rfl, Nat.le_of_ble_eq_true rfl⟩ dX0_judge_21 dX0_judge_23 dX0_judge_24 dX0_judge_26 dX0_judge_29 (fun H locs hG ls => ?_)
    refine W.widen (k := 5) (n := 269) (Nat.le_of_ble_eq_true rfl) (Nat.le_of_ble_eq_true rfl) ?_
    exact w_iretX B hr hlk () rfl hG dX0_judge_32
  | .inr (N, f), e_1, hf =>
    obtain ⟨k9, e_2, hf⟩ := bo hf
    cases Option.some.inj hf
    refine w_afterX (w_rV_HX (As := [.int a, .int x1, .int x2, .int 1]) B hK hG (tC_toldIn l X ca fa rest w a x1 x2 1 N f e_1) q1145 q1147 qs16 q87 q1148 8 rfl rfl (n := 4) (by decide +kernel) ⟨Nat.le_of_ble_eq_true rfl, Nat.le_of_ble_eq_true rfl⟩ ⟨Nat.le_of_ble_eq_true rfl, Nat.le_of_ble_eq_true rfl⟩ rfl hl.1 rfl (Nat.le_of_ble_eq_true rfl) dX0_judge_13) hG.2.2 (fun v u H1 locs1 hv hG1 => ?_)
    obtain rfl := hv
    refine lv_iload_n hx hb dX0_judge_16 rfl (lv_at hl 3 rfl) ?_
    refine cC_wrongIn (pr := (u, N, f)) B hK hG1.2.2 hG1.1 (by rw [wr_any]; exact e_2) ⟨Nat.le_of_ble_eq_true rfl, Nat.le_of_ble_eq_true rfl⟩ ⟨Nat.le_of_ble_eq_true rfl, Nat.le_of_ble_eq_true rfl⟩ hl.1 (Nat.le_of_ble_eq_true rfl) dX0_judge_17 ?_
    have hG2 : GG X (CP X ca fa w ++ rest) s.heap H1 locs1 := hG1.sublist (List.Sublist.append (List.Sublist.refl _) (List.sublist_cons_self _ _))
    refine W.widen (k := 5) (n := 269) (Nat.le_of_ble_eq_true rfl) (Nat.le_of_ble_eq_true rfl) ?_
    exact w_iretX B hr hlk () rfl hG2 dX0_judge_20
set_option maxHeartbeats 4000000 in
theorem tC_nears (l : Launch) (hlt : l.stackTraces = false) (X : CX) (ca fa : Nat → Nat) (rest : va_W) (w w' : CW) (x1 x2 x3 : Int32) (r : Int32) (hf : fC_nears w x1 x2 x3 = some (r, w')) : HX l yX0_nears cX0_nears 12 (some .int) [(0, 111, 112, 104)] 11 5 269 10312 [.ref (ca 0), .int x1, .int x2, .int x3] X (CP X ca fa w ++ rest) (fun v (_ : Unit) => v = some (.int r)) (fun _ => CP X ca fa w' ++ rest) := by
  refine HX.mk (by decide) (Nat.le_of_ble_eq_true rfl) ?_
  intro p e s m below meth c B hr hlk htab hK hG ls hl
  have hx := B.1
  have hb := B.2.1
  have hl : lv_has ls 12 [(0, .ref (ca 0)), (1, .int x1), (2, .int x2), (3, .int x3)] := hl
  unfold fC_nears at hf
  obtain ⟨q, e_1, hf⟩ := bo hf
  refine lv_aload_n hx hb dX0_nears_0 rfl (lv_at hl 0 rfl) ?_
  refine lv_iload_n hx hb dX0_nears_1 rfl (lv_at hl 1 rfl) ?_
  refine lv_iload_n hx hb dX0_nears_2 rfl (lv_at hl 2 rfl) ?_
  refine lv_iload_n hx hb dX0_nears_3 rfl (lv_at hl 3 rfl) ?_
  match q, e_1, hf with
  | .inl b, e_1, hf =>
    refine w_afterT (w_rV_TX (As := [.int x1, .int x2, .int x3]) B hK hG (tC_walkIn_x l hlt X ca fa rest w x1 x2 x3 b e_1) (lw_V q1320 q1322 qs31 q87 q1323) 8 rfl rfl (n := 3) (by decide +kernel) ⟨Nat.le_of_ble_eq_true rfl, Nat.le_of_ble_eq_true rfl⟩ ⟨Nat.le_of_ble_eq_true rfl, Nat.le_of_ble_eq_true rfl⟩ rfl hl.1 rfl (Nat.le_of_ble_eq_true rfl) dX0_nears_4) hG.2.2 (fun x u H1 locs1 hp hG1 => ?_)
    obtain ⟨rfl, hE⟩ := hp
    refine w_catchA B hK htab (by decide) (by decide) q357 (hE.at1 hK) q383 q382 ?_
    refine w_byno B hK hG1 hf (lv_sub hl [0] rfl) (by decide) ⟨Nat.le_of_ble_eq_true rfl, Nat.le_of_ble_eq_true rfl⟩ ⟨Nat.le_of_ble_eq_true rfl, Nat.le_of_ble_eq_true rfl⟩ dX0_nears_112 dX0_nears_114 dX0_nears_115 dX0_nears_117 dX0_nears_120 (fun H locs hG ls => ?_)
    refine W.widen (k := 5) (n := 269) (Nat.le_of_ble_eq_true rfl) (Nat.le_of_ble_eq_true rfl) ?_
    exact w_iretX B hr hlk () rfl hG dX0_nears_123
  | .inr v9, e_1, hf =>
    refine w_afterX (w_rV_RX (As := [.int x1, .int x2, .int x3]) B hK hG (tC_walkIn l X ca fa rest w x1 x2 x3 v9 e_1) (lw_V q1320 q1322 qs31 q87 q1323) 8 rfl rfl (n := 3) (by decide +kernel) ⟨Nat.le_of_ble_eq_true rfl, Nat.le_of_ble_eq_true rfl⟩ ⟨Nat.le_of_ble_eq_true rfl, Nat.le_of_ble_eq_true rfl⟩ rfl hl.1 rfl (Nat.le_of_ble_eq_true rfl) dX0_nears_4) hG.2.2 (fun v u H1 locs1 hv hG1 => ?_)
    obtain rfl := hv
    refine lv_astore hx hb dX0_nears_7 hl (by decide) rfl (fun ls hl => ?_)
    obtain ⟨f9, e_2, hf⟩ := bo hf
    obtain ⟨a9, e_3, hf⟩ := bo hf
    obtain ⟨r9, e_4, hf⟩ := bo hf
    cases Option.some.inj hf
    refine lv_aload_n hx hb dX0_nears_9 rfl (lv_at hl 1 rfl) ?_
    refine co_this_g0 B hK hG1.1 dX0_nears_10 ?_
    refine lv_aload_n hx hb dX0_nears_13 rfl (lv_at hl 1 rfl) ?_
    refine co_this_g0 B hK hG1.1 dX0_nears_14 ?_
    refine co_fen_g7 B hK hG1.1 dX0_nears_17 ?_
    refine cCF_spreads B hK hG1 e_2 rfl ⟨Nat.le_of_ble_eq_true rfl, Nat.le_of_ble_eq_true rfl⟩ ⟨Nat.le_of_ble_eq_true rfl, Nat.le_of_ble_eq_true rfl⟩ hl.1 (Nat.le_of_ble_eq_true rfl) dX0_nears_20 (fun H locs hG => ?_)
    refine lv_pop hx hb dX0_nears_23 rfl ?_
    refine lv_aload_n hx hb dX0_nears_24 rfl (lv_at hl 1 rfl) ?_
    refine co_this_g0 B hK hG.1 dX0_nears_25 ?_
    refine co_fen_g2 B hK hG.1 dX0_nears_28 ?_
    refine lv_iload_n hx hb dX0_nears_31 rfl (lv_at hl 4 rfl) ?_
    refine co_cell_l B hK hG.1 e_3 dX0_nears_32 ?_
    refine lv_istore hx hb dX0_nears_33 hl (by decide) rfl (fun ls hl => ?_)
    refine lv_iconst (v := 0) hx hb dX0_nears_35 (by decide) ?_
    refine lv_istore hx hb dX0_nears_36 hl (by decide) rfl (fun ls hl => ?_)
    refine lv_aload hx hb dX0_nears_38 (lv_at hl 2 rfl) ?_
    refine lv_astore hx hb dX0_nears_40 hl (by decide) rfl (fun ls hl => ?_)
    refine lv_aload hx hb dX0_nears_42 (lv_at hl 0 rfl) ?_
    refine co_pr_n (pr := (u, v9)) B hK hG.1 dX0_nears_44 ?_
    refine lv_istore hx hb dX0_nears_45 hl (by decide) rfl (fun ls hl => ?_)
    refine lv_iconst (v := 0) hx hb dX0_nears_47 (by decide) ?_
    refine lv_istore hx hb dX0_nears_48 hl (by decide) rfl (fun ls hl => ?_)
    refine vC_nears_L50 (pr := (u, v9)) B hK hG (res := r) (z := (a9, 0, 0)) (by rw [ne_any]; exact e_4) (fun ls hl => ?_) (lv_sub hl [6, 4, 3, 0, 2, 1] rfl)
    refine lv_iload hx hb dX0_nears_109 (lv_at hl 0 rfl) ?_
    have hG2 : GG X (CP X ca fa (cnf w f9) ++ rest) s.heap H locs := hG.sublist (List.Sublist.append (List.Sublist.refl _) (List.sublist_cons_self _ _))
    refine W.widen (k := 5) (n := 269) (Nat.le_of_ble_eq_true rfl) (Nat.le_of_ble_eq_true rfl) ?_
    exact w_iretX B hr hlk () rfl hG2 dX0_nears_111
set_option maxHeartbeats 4000000 in
theorem tC_done (l : Launch) (hlt : l.stackTraces = false) (X : CX) (ca fa : Nat → Nat) (rest : va_W) (w w' : CW) (x1 x2 x3 : Int32) (r : Int32) (hf : fC_done w x1 x2 x3 = some (r, w')) : HX l yX0_done cX0_done 6 (some .int) [(0, 51, 52, 104)] 11 5 269 10312 [.ref (ca 0), .int x1, .int x2, .int x3] X (CP X ca fa w ++ rest) (fun v (_ : Unit) => v = some (.int r)) (fun _ => CP X ca fa w' ++ rest) := by
  refine HX.mk (by decide) (Nat.le_of_ble_eq_true rfl) ?_
  intro p e s m below meth c B hr hlk htab hK hG ls hl
  have hx := B.1
  have hb := B.2.1
  have hl : lv_has ls 6 [(0, .ref (ca 0)), (1, .int x1), (2, .int x2), (3, .int x3)] := hl
  unfold fC_done at hf
  obtain ⟨q, e_1, hf⟩ := bo hf
  refine lv_aload_n hx hb dX0_done_0 rfl (lv_at hl 0 rfl) ?_
  refine lv_iload_n hx hb dX0_done_1 rfl (lv_at hl 1 rfl) ?_
  refine lv_iload_n hx hb dX0_done_2 rfl (lv_at hl 2 rfl) ?_
  refine lv_iload_n hx hb dX0_done_3 rfl (lv_at hl 3 rfl) ?_
  match q, e_1, hf with
  | .inl b, e_1, hf =>
    refine w_afterT (w_rV_TX (As := [.int x1, .int x2, .int x3]) B hK hG (tC_walkIn_x l hlt X ca fa rest w x1 x2 x3 b e_1) (lw_V q1320 q1322 qs31 q87 q1323) 8 rfl rfl (n := 3) (by decide +kernel) ⟨Nat.le_of_ble_eq_true rfl, Nat.le_of_ble_eq_true rfl⟩ ⟨Nat.le_of_ble_eq_true rfl, Nat.le_of_ble_eq_true rfl⟩ rfl hl.1 rfl (Nat.le_of_ble_eq_true rfl) dX0_done_4) hG.2.2 (fun x u H1 locs1 hp hG1 => ?_)
    obtain ⟨rfl, hE⟩ := hp
    refine w_catchA B hK htab (by decide) (by decide) q357 (hE.at1 hK) q383 q382 ?_
    refine w_byno B hK hG1 hf (lv_sub hl [0] rfl) (by decide) ⟨Nat.le_of_ble_eq_true rfl, Nat.le_of_ble_eq_true rfl⟩ ⟨Nat.le_of_ble_eq_true rfl, Nat.le_of_ble_eq_true rfl⟩ dX0_done_52 dX0_done_54 dX0_done_55 dX0_done_57 dX0_done_60 (fun H locs hG ls => ?_)
    refine W.widen (k := 5) (n := 269) (Nat.le_of_ble_eq_true rfl) (Nat.le_of_ble_eq_true rfl) ?_
    exact w_iretX B hr hlk () rfl hG dX0_done_63
  | .inr v9, e_1, hf =>
    refine w_afterX (w_rV_RX (As := [.int x1, .int x2, .int x3]) B hK hG (tC_walkIn l X ca fa rest w x1 x2 x3 v9 e_1) (lw_V q1320 q1322 qs31 q87 q1323) 8 rfl rfl (n := 3) (by decide +kernel) ⟨Nat.le_of_ble_eq_true rfl, Nat.le_of_ble_eq_true rfl⟩ ⟨Nat.le_of_ble_eq_true rfl, Nat.le_of_ble_eq_true rfl⟩ rfl hl.1 rfl (Nat.le_of_ble_eq_true rfl) dX0_done_4) hG.2.2 (fun v u H1 locs1 hv hG1 => ?_)
    obtain rfl := hv
    refine lv_astore hx hb dX0_done_7 hl (by decide) rfl (fun ls hl => ?_)
    have fin : ∀ (v : Int32) (ls : Array Slot), lv_has ls 6 [(4, .ref u), (0, .ref (ca 0)), (1, .int x1), (2, .int x2), (3, .int x3)] → fC_done_J36 w x3 v = some (r, w') → W p l e (RMw 11 5 269 10312) s m [Value.ref (ca 0), Value.int x1, Value.int x2, Value.int x3].toArray below meth c H1 locs1 (0 + 1) (0 + 40) (MQ below (QX X (fun v (_ : Unit) => v = some (.int r)) (fun _ => CP X ca fa w' ++ rest)) [Value.ref (ca 0), Value.int x1, Value.int x2, Value.int x3].toArray s 5 269 (Az X)) (F0 m 36 ls [.int v]) := by
      intro v ls hl hf
      unfold fC_done_J36 at hf
      obtain ⟨f9, e_2, hf⟩ := bo hf
      cases Option.some.inj hf
      refine lv_istore hx hb dX0_done_36 hl (by decide) rfl (fun ls hl => ?_)
      refine lv_aload_n hx hb dX0_done_38 rfl (lv_at hl 2 rfl) ?_
      refine co_this_g0 B hK hG1.1 dX0_done_39 ?_
      refine lv_iload_n hx hb dX0_done_42 rfl (lv_at hl 5 rfl) ?_
      refine lv_iload hx hb dX0_done_43 (lv_at hl 0 rfl) ?_
      refine lv_iconst (v := 0) hx hb dX0_done_45 (by decide) ?_
      refine cCF_stands B hK hG1 e_2 rfl ⟨Nat.le_of_ble_eq_true rfl, Nat.le_of_ble_eq_true rfl⟩ ⟨Nat.le_of_ble_eq_true rfl, Nat.le_of_ble_eq_true rfl⟩ hl.1 (Nat.le_of_ble_eq_true rfl) dX0_done_46 (fun H locs hG => ?_)
      refine lv_iload hx hb dX0_done_49 (lv_at hl 0 rfl) ?_
      have hG2 : GG X (CP X ca fa (cnf w f9) ++ rest) s.heap H locs := hG.sublist (List.Sublist.append (List.Sublist.refl _) (List.sublist_cons_self _ _))
      refine W.widen (k := 5) (n := 269) (Nat.le_of_ble_eq_true rfl) (Nat.le_of_ble_eq_true rfl) ?_
      exact w_iretX B hr hlk () rfl hG2 dX0_done_51
    refine lv_aload hx hb dX0_done_9 (lv_at hl 0 rfl) ?_
    refine co_pr_n (pr := (u, v9)) B hK hG1.1 dX0_done_11 ?_
    refine lv_if_ne (tgt := 27) hx hb dX0_done_12 (by decide) (fun c_1 => ?_) (fun c_1 => ?_)
    · have hf := ifn c_1 hf
      obtain ⟨v, e_2, hf⟩ := bo hf
      refine lv_aload hx hb dX0_done_27 (lv_at hl 0 rfl) ?_
      refine lv_aload hx hb dX0_done_29 (lv_at hl 0 rfl) ?_
      refine co_pr_n (pr := (u, v9)) B hK hG1.1 dX0_done_31 ?_
      refine lv_iconst (v := 1) hx hb dX0_done_32 (by decide) ?_
      refine lv_isub hx hb dX0_done_33 ?_
      refine co_pr_l (pr := (u, v9)) B hK hG1.1 e_2 dX0_done_34 ?_
      refine lv_l2i hx hb dX0_done_35 rfl ?_
      exact fin _ ls hl hf
    · have hf := ifp c_1 hf
      obtain ⟨v, e_2, hf⟩ := bo hf
      refine lv_aload_n hx hb dX0_done_15 rfl (lv_at hl 1 rfl) ?_
      refine co_this_g0 B hK hG1.1 dX0_done_16 ?_
      refine co_fen_g2 B hK hG1.1 dX0_done_19 ?_
      refine lv_iload_n hx hb dX0_done_22 rfl (lv_at hl 4 rfl) ?_
      refine co_cell_l B hK hG1.1 e_2 dX0_done_23 ?_
      refine lv_goto (tgt := 36) hx hb dX0_done_24 (by decide) ?_
      exact fin _ ls hl hf
