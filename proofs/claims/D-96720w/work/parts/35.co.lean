set_option maxRecDepth 100000
section K_cC_has
variable {p : Program} {l : Launch} {e : Env} {R : Room} {s : State} {m : MethodId} {args : Array Value} {below : List Frame} {meth : Method} {c : Code} {H : Heap} {locs : List Loc} {cells slots : Nat} {Q : State → Prop} {cc : ByteArray} {nL pc : Nat} {ls : Array Slot} {st : List Value} {X : CX} {rest : va_W}
theorem cC_has (B : CallFix p m c cc nL s args lw_all RX0) {x0 : Int32} {x1 : Int32} {r : Int32} (hf : fC_has x0 x1 = some r) (hR : 0 + 1 ≤ R.frames ∧ 21 ≤ R.locals) (hcs : cells ≤ R.cells ∧ slots ≤ R.slots) (hl : ls.size = nL) (hcat : (st.map fun v => v.category).sum ≤ 8) (hdg : decode cc pc = .ok (.invokestatic 318, 3)) (kk : W p l e R s m args below meth c H locs cells slots Q (F0 m (pc + 3) ls (.int r :: st))) : W p l e R s m args below meth c H locs cells slots Q (F0 m pc ls (.int x1 :: .int x0 :: st)) :=
  w_afterR (w_rS_ST (As := [.int x0, .int x1]) B (tC_has l x0 x1 r hf) (lw_S q1204 q591 q87 q592) (n := 2) (by decide +kernel) hR hcs rfl hl rfl hcat hdg) kk
end K_cC_has

section S_C_tells_n
variable {p : Program} {l : Launch} {e : Env} {R : Room} {s : State} {m : MethodId} {args : Array Value} {below : List Frame} {meth : Method} {c : Code} {H : Heap} {locs : List Loc} {cells slots : Nat} {Q : State → Prop} {cc : ByteArray} {nL pc : Nat} {ls : Array Slot} {st : List Value} {X : CX} {rest : va_W} {ca fa : Nat → Nat}
noncomputable def fC_tells_n_L36 (w : CW) (x1 : Int32) (x3 : Int32) (x4 : Int64) (x6 : Int32) : Option ((Int64 × Int32 × CW) ⊕ (Int64 × CW)) :=
  if ((cfe w).1 8) ≤ x6 then
    some (.inr (x4, w))
  else
    (fC_has x1 x6).bind fun r_2 =>
    if r_2 = 0 then
      (some (x6 + 1)).bind fun x_5 =>
      some (.inl (x4, x_5, w))
    else
      (rdP (cfe w).2.2 8 x6).bind fun p_7 =>
      b2 (fC_armAt w p_7 x3) fun r_13 f_10 =>
      (some (f_10)).bind fun w_11 =>
      (some (((10 * x4) + (r_13.toInt64)) + 1)).bind fun x_14 =>
      (some (x6 + 1)).bind fun x_16 =>
      some (.inl (x_14, x_16, w_11))

set_option maxHeartbeats 4000000 in
theorem wC_tells_n_L36 (B : CallFix p m c cX0_tells 7 s args lw_all RX0) (hK : KK X s) {w : CW} {x1 : Int32} {x3 : Int32} {x4 : Int64} {x6 : Int32} {res : (Int64 × Int32 × CW) ⊕ (Int64 × CW)} (hf : fC_tells_n_L36 w x1 x3 x4 x6 = some res) (kc : ∀ (y4 : Int64) (y6 : Int32) (w1 : CW), res = .inl (y4, y6, w1) → ∀ (H : Heap) (locs : List Loc), GG X (CP X ca fa w1 ++ rest) s.heap H locs → ∀ (ls : Array Slot), lv_has ls 7 [(0, .ref (ca 0)), (1, .int x1), (2, .null), (3, .int x3), (4, .long y4), (6, .int y6)] → W p l e (RMw 7 0 0 150) s m args below meth c H locs 0 0 Q (F0 m 36 ls [])) (ke95 : ∀ (y4 : Int64) (w1 : CW), res = .inr (y4, w1) → ∀ (H : Heap) (locs : List Loc), GG X (CP X ca fa w1 ++ rest) s.heap H locs → ∀ (ls : Array Slot), lv_has ls 7 [(0, .ref (ca 0)), (1, .int x1), (2, .null), (3, .int x3), (4, .long y4)] → W p l e (RMw 7 0 0 150) s m args below meth c H locs 0 0 Q (F0 m 95 ls [])) {H : Heap} {locs : List Loc} (hG : GG X (CP X ca fa w ++ rest) s.heap H locs) {ls : Array Slot} (hl : lv_has ls 7 [(0, .ref (ca 0)), (1, .int x1), (2, .null), (3, .int x3), (4, .long x4), (6, .int x6)]) : W p l e (RMw 7 0 0 150) s m args below meth c H locs 0 0 Q (F0 m 36 ls []) := by
  have hx := B.1
  have hb := B.2.1
  unfold fC_tells_n_L36 at hf
  refine lv_iload hx hb dX0_tells_36 (lv_at hl 5 rfl) ?_
  refine lv_aload_n hx hb dX0_tells_38 rfl (lv_at hl 0 rfl) ?_
  refine co_this_g0 B hK hG.1 dX0_tells_39 ?_
  refine co_fen_g8 B hK hG.1 dX0_tells_42 ?_
  refine lv_icmp_ge (tgt := 95) hx hb dX0_tells_45 (by decide) (fun c_1 => ?_) (fun c_1 => ?_)
  · have hf := ifp c_1 hf
    exact ke95 _ _ (Option.some.inj hf).symm _ _ hG _ (lv_sub hl [0, 1, 2, 3, 4] rfl)
  · have hf := ifn c_1 hf
    refine lv_iload_n hx hb dX0_tells_48 rfl (lv_at hl 1 rfl) ?_
    refine lv_iload hx hb dX0_tells_49 (lv_at hl 5 rfl) ?_
    obtain ⟨r_2, e_3, hf⟩ := bo hf
    refine cC_has B e_3 ⟨Nat.le_of_ble_eq_true rfl, Nat.le_of_ble_eq_true rfl⟩ ⟨Nat.zero_le _, Nat.zero_le _⟩ hl.1 (Nat.le_of_ble_eq_true rfl) dX0_tells_51 ?_
    refine lv_if_eq (tgt := 85) hx hb dX0_tells_54 (by decide) (fun c_4 => ?_) (fun c_4 => ?_)
    · have hf := ifp c_4 hf
      refine lv_lload hx hb dX0_tells_85 (lv_at hl 4 rfl) ?_
      refine lv_lstore (lv' := [(4, .long x4), (0, .ref (ca 0)), (1, .int x1), (2, .null), (3, .int x3), (6, .int x6)]) hx hb dX0_tells_87 hl (by decide) rfl (fun ls hl => ?_)
      obtain ⟨x_5, e_6, hf⟩ := bo hf
      refine w_iinc (k := 5) (lv' := [(6, .int x_5), (4, .long x4), (0, .ref (ca 0)), (1, .int x1), (2, .null), (3, .int x3)]) e_6 hx hb dX0_tells_89 hl rfl (by decide) rfl (fun ls hl => ?_)
      refine lv_goto (tgt := 36) hx hb dX0_tells_92 (by decide) ?_
      exact kc _ _ _ (Option.some.inj hf).symm _ _ hG _ (lv_sub hl [2, 3, 4, 5, 1, 0] rfl)
    · have hf := ifn c_4 hf
      refine lv_ldc2 (v := 10) hx hb B.2.2.2.1 (B.2.2.2.2 _ q1205) dX0_tells_57 ?_
      refine lv_lload hx hb dX0_tells_60 (lv_at hl 4 rfl) ?_
      refine lv_lmul hx hb dX0_tells_62 ?_
      refine lv_aload_n hx hb dX0_tells_63 rfl (lv_at hl 0 rfl) ?_
      refine lv_aload_n hx hb dX0_tells_64 rfl (lv_at hl 0 rfl) ?_
      refine co_this_g0 B hK hG.1 dX0_tells_65 ?_
      refine co_fen_g1 B hK hG.1 dX0_tells_68 ?_
      refine lv_iload hx hb dX0_tells_71 (lv_at hl 5 rfl) ?_
      obtain ⟨p_7, e_8, hf⟩ := bo hf
      refine co_post_l B hK hG.1 e_8 dX0_tells_73 ?_
      refine lv_iload_n hx hb dX0_tells_74 rfl (lv_at hl 3 rfl) ?_
      obtain ⟨r_13, f_10, e_9, hf⟩ := b2s hf
      obtain ⟨w_11, e_12, hf⟩ := bo hf
      refine cC_armAt B hK hG e_9 e_12 ⟨Nat.le_of_ble_eq_true rfl, Nat.le_of_ble_eq_true rfl⟩ ⟨Nat.zero_le _, Nat.zero_le _⟩ hl.1 (Nat.le_of_ble_eq_true rfl) dX0_tells_75 (fun H locs hG => ?_)
      refine lv_i2l hx hb dX0_tells_78 rfl ?_
      refine lv_ladd hx hb dX0_tells_79 ?_
      refine lv_lconst (v := 1) hx hb dX0_tells_80 (by decide) ?_
      refine lv_ladd hx hb dX0_tells_81 ?_
      refine lv_goto (tgt := 87) hx hb dX0_tells_82 (by decide) ?_
      obtain ⟨x_14, e_15, hf⟩ := bo hf
      refine w_lstore (lv' := [(4, .long x_14), (0, .ref (ca 0)), (1, .int x1), (2, .null), (3, .int x3), (6, .int x6)]) e_15 hx hb dX0_tells_87 hl (by decide) rfl (fun ls hl => ?_)
      obtain ⟨x_16, e_17, hf⟩ := bo hf
      refine w_iinc (k := 5) (lv' := [(6, .int x_16), (4, .long x_14), (0, .ref (ca 0)), (1, .int x1), (2, .null), (3, .int x3)]) e_17 hx hb dX0_tells_89 hl rfl (by decide) rfl (fun ls hl => ?_)
      refine lv_goto (tgt := 36) hx hb dX0_tells_92 (by decide) ?_
      exact kc _ _ _ (Option.some.inj hf).symm _ _ hG _ (lv_sub hl [2, 3, 4, 5, 1, 0] rfl)

set_option maxHeartbeats 4000000 in
theorem vC_tells_n_L36 (B : CallFix p m c cX0_tells 7 s args lw_all RX0) (hK : KK X s) {w : CW} {x1 : Int32} {x3 : Int32} {x4 : Int64} {x6 : Int32} {res : Int64 × CW} (hf : lp (fun q : Int64 × Int32 × CW => fC_tells_n_L36 q.2.2 x1 x3 q.1 q.2.1) (x4, x6, w) = some res) (ke95 : ∀ (y4 : Int64) (w1 : CW), res = (y4, w1) → ∀ (H : Heap) (locs : List Loc), GG X (CP X ca fa w1 ++ rest) s.heap H locs → ∀ (ls : Array Slot), lv_has ls 7 [(0, .ref (ca 0)), (1, .int x1), (2, .null), (3, .int x3), (4, .long y4)] → W p l e (RMw 7 0 0 150) s m args below meth c H locs 0 0 Q (F0 m 95 ls [])) {H : Heap} {locs : List Loc} (hG : GG X (CP X ca fa w ++ rest) s.heap H locs) {ls : Array Slot} (hl : lv_has ls 7 [(0, .ref (ca 0)), (1, .int x1), (2, .null), (3, .int x3), (4, .long x4), (6, .int x6)]) : W p l e (RMw 7 0 0 150) s m args below meth c H locs 0 0 Q (F0 m 36 ls []) := by
  refine lp_ind (r := res) (P := fun q : Int64 × Int32 × CW => ∀ (H : Heap) (locs : List Loc) (ls : Array Slot), GG X (CP X ca fa q.2.2 ++ rest) s.heap H locs → lv_has ls 7 [(0, .ref (ca 0)), (1, .int x1), (2, .null), (3, .int x3), (4, .long q.1), (6, .int q.2.1)] → W p l e (RMw 7 0 0 150) s m args below meth c H locs 0 0 Q (F0 m 36 ls [])) ?_ ?_ _ hf _ _ _ hG hl
  · intro q hb H locs ls hG hl
    exact wC_tells_n_L36 B hK hb (fun _ _ _ h => by cases h) (fun z0 z1 h => ke95 z0 z1 (Sum.inr.inj h)) hG hl
  · intro q q2 hb ih H locs ls hG hl
    exact wC_tells_n_L36 B hK hb (fun z0 z1 z2 h => by cases h; exact fun H locs hG ls hl => ih H locs ls hG hl) (fun _ _ h => by cases h) hG hl

noncomputable def fC_tells_n_L9 (w : CW) (x1 : Int32) (x3 : Int32) : Option ((Int32 × CW) ⊕ (CW)) :=
  if x3 = (-1) then
    some (.inr w)
  else
    (lp (fun q : Int64 × Int32 × CW => fC_tells_n_L36 q.2.2 x1 x3 q.1 q.2.1) (0, 0, w)).bind (
      fun q_9 => (fun (y_2 : Int64) (w_3 : CW) =>
        ((stoL w_3.2.2.1 70 x3 y_2).map (fun g_6 => ctl w_3 g_6)).bind fun w_4 =>
        (fF_next (cfe w_4) x3).bind fun r_7 =>
        some (.inl (r_7, w_4))
      ) q_9.1 q_9.2
    )

set_option maxHeartbeats 4000000 in
theorem wC_tells_n_L9 (B : CallFix p m c cX0_tells 7 s args lw_all RX0) (hK : KK X s) {w : CW} {x1 : Int32} {x3 : Int32} {res : (Int32 × CW) ⊕ (CW)} (hf : fC_tells_n_L9 w x1 x3 = some res) (kc : ∀ (y3 : Int32) (w1 : CW), res = .inl (y3, w1) → ∀ (H : Heap) (locs : List Loc), GG X (CP X ca fa w1 ++ rest) s.heap H locs → ∀ (ls : Array Slot), lv_has ls 7 [(0, .ref (ca 0)), (1, .int x1), (2, .null), (3, .int y3)] → W p l e (RMw 7 0 0 150) s m args below meth c H locs 0 0 Q (F0 m 9 ls [])) (ke115 : ∀ (w1 : CW), res = .inr w1 → ∀ (H : Heap) (locs : List Loc), GG X (CP X ca fa w1 ++ rest) s.heap H locs → ∀ (ls : Array Slot), lv_has ls 7 [] → W p l e (RMw 7 0 0 150) s m args below meth c H locs 0 0 Q (F0 m 115 ls [])) {H : Heap} {locs : List Loc} (hG : GG X (CP X ca fa w ++ rest) s.heap H locs) {ls : Array Slot} (hl : lv_has ls 7 [(0, .ref (ca 0)), (1, .int x1), (2, .null), (3, .int x3)]) : W p l e (RMw 7 0 0 150) s m args below meth c H locs 0 0 Q (F0 m 9 ls []) := by
  have hx := B.1
  have hb := B.2.1
  unfold fC_tells_n_L9 at hf
  refine lv_iload_n hx hb dX0_tells_9 rfl (lv_at hl 3 rfl) ?_
  refine lv_iconst (v := (-1)) hx hb dX0_tells_10 (by decide) ?_
  refine lv_icmp_eq (tgt := 115) hx hb dX0_tells_11 (by decide) (fun c_1 => ?_) (fun c_1 => ?_)
  · have hf := ifp c_1 hf
    exact ke115 _ (Option.some.inj hf).symm _ _ hG _ (lv_sub hl [] rfl)
  · have hf := ifn c_1 hf
    refine lv_aload_nN hx hb dX0_tells_14 rfl (lv_at hl 2 rfl) ?_
    refine lv_ifnonnullN hx hb dX0_tells_15 ?_
    refine lv_lconst (v := 0) hx hb dX0_tells_18 (by decide) ?_
    refine lv_goto (tgt := 31) hx hb dX0_tells_19 (by decide) ?_
    refine lv_lstore (lv' := [(4, .long 0), (0, .ref (ca 0)), (1, .int x1), (2, .null), (3, .int x3)]) hx hb dX0_tells_31 hl (by decide) rfl (fun ls hl => ?_)
    refine lv_iconst (v := 0) hx hb dX0_tells_33 (by decide) ?_
    refine lv_istore (lv' := [(6, .int 0), (4, .long 0), (0, .ref (ca 0)), (1, .int x1), (2, .null), (3, .int x3)]) hx hb dX0_tells_34 hl (by decide) rfl (fun ls hl => ?_)
    obtain ⟨⟨y_2, w_3⟩, e_10, hf⟩ := bo hf
    try dsimp only at hf
    refine vC_tells_n_L36 B hK e_10 ?_ hG (lv_sub hl [2, 3, 4, 5, 1, 0] rfl)
    intro z0 z1 hz
    cases hz
    intro H locs hG ls hl
    refine lv_aload_n hx hb dX0_tells_95 rfl (lv_at hl 0 rfl) ?_
    refine co_this_g3 B hK hG.1 dX0_tells_96 ?_
    refine lv_iload_n hx hb dX0_tells_99 rfl (lv_at hl 3 rfl) ?_
    refine lv_lload hx hb dX0_tells_100 (lv_at hl 4 rfl) ?_
    obtain ⟨w_4, e_5, hf⟩ := bo hf
    refine co_told_s B hK hG e_5 dX0_tells_102 (fun H locs hG => ?_)
    refine lv_aload_n hx hb dX0_tells_103 rfl (lv_at hl 0 rfl) ?_
    refine co_this_g0 B hK hG.1 dX0_tells_104 ?_
    refine lv_iload_n hx hb dX0_tells_107 rfl (lv_at hl 3 rfl) ?_
    obtain ⟨r_7, e_8, hf⟩ := bo hf
    refine cCF_next B hK hG.2.2 hG.1 e_8 ⟨Nat.le_of_ble_eq_true rfl, Nat.le_of_ble_eq_true rfl⟩ ⟨Nat.zero_le _, Nat.zero_le _⟩ hl.1 (Nat.le_of_ble_eq_true rfl) dX0_tells_108 ?_
    refine lv_istore_n (lv' := [(3, .int r_7), (0, .ref (ca 0)), (1, .int x1), (2, .null), (4, .long y_2)]) hx hb dX0_tells_111 rfl hl (by decide) rfl (fun ls hl => ?_)
    refine lv_goto (tgt := 9) hx hb dX0_tells_112 (by decide) ?_
    exact kc _ _ (Option.some.inj hf).symm _ _ hG _ (lv_sub hl [1, 2, 3, 0] rfl)

set_option maxHeartbeats 4000000 in
theorem vC_tells_n_L9 (B : CallFix p m c cX0_tells 7 s args lw_all RX0) (hK : KK X s) {w : CW} {x1 : Int32} {x3 : Int32} {res : CW} (hf : lp (fun q : Int32 × CW => fC_tells_n_L9 q.2 x1 q.1) (x3, w) = some res) (ke115 : ∀ (w1 : CW), res = w1 → ∀ (H : Heap) (locs : List Loc), GG X (CP X ca fa w1 ++ rest) s.heap H locs → ∀ (ls : Array Slot), lv_has ls 7 [] → W p l e (RMw 7 0 0 150) s m args below meth c H locs 0 0 Q (F0 m 115 ls [])) {H : Heap} {locs : List Loc} (hG : GG X (CP X ca fa w ++ rest) s.heap H locs) {ls : Array Slot} (hl : lv_has ls 7 [(0, .ref (ca 0)), (1, .int x1), (2, .null), (3, .int x3)]) : W p l e (RMw 7 0 0 150) s m args below meth c H locs 0 0 Q (F0 m 9 ls []) := by
  refine lp_ind (r := res) (P := fun q : Int32 × CW => ∀ (H : Heap) (locs : List Loc) (ls : Array Slot), GG X (CP X ca fa q.2 ++ rest) s.heap H locs → lv_has ls 7 [(0, .ref (ca 0)), (1, .int x1), (2, .null), (3, .int q.1)] → W p l e (RMw 7 0 0 150) s m args below meth c H locs 0 0 Q (F0 m 9 ls [])) ?_ ?_ _ hf _ _ _ hG hl
  · intro q hb H locs ls hG hl
    exact wC_tells_n_L9 B hK hb (fun _ _ h => by cases h) (fun z0 h => ke115 z0 (Sum.inr.inj h)) hG hl
  · intro q q2 hb ih H locs ls hG hl
    exact wC_tells_n_L9 B hK hb (fun z0 z1 h => by cases h; exact fun H locs hG ls hl => ih H locs ls hG hl) (fun _ h => by cases h) hG hl

noncomputable def fC_tells_n (w : CW) (x1 : Int32) : Option (CW) :=
  (fF_next (cfe w) (-1)).bind fun r_1 =>
  (lp (fun q : Int32 × CW => fC_tells_n_L9 q.2 x1 q.1) (r_1, w)).bind (
    fun q_4 => (fun (w_3 : CW) =>
      some w_3
    ) q_4
  )

set_option maxHeartbeats 4000000 in
theorem wC_tells_n (B : CallFix p m c cX0_tells 7 s args lw_all RX0) (hK : KK X s) {w : CW} {x1 : Int32} {res : CW} (hf : fC_tells_n w x1 = some res) (kr : ∀ (w1 : CW), res = w1 → ∀ (H : Heap) (locs : List Loc), GG X (CP X ca fa w1 ++ rest) s.heap H locs → ∀ (pc : Nat) (ls : Array Slot), decode cX0_tells pc = .ok (.return_, 1) → W p l e (RMw 7 0 0 150) s m args below meth c H locs 0 0 Q (F0 m pc ls [])) {H : Heap} {locs : List Loc} (hG : GG X (CP X ca fa w ++ rest) s.heap H locs) {ls : Array Slot} (hl : lv_has ls 7 [(0, .ref (ca 0)), (1, .int x1), (2, .null)]) : W p l e (RMw 7 0 0 150) s m args below meth c H locs 0 0 Q (F0 m 0 ls []) := by
  have hx := B.1
  have hb := B.2.1
  unfold fC_tells_n at hf
  refine lv_aload_n hx hb dX0_tells_0 rfl (lv_at hl 0 rfl) ?_
  refine co_this_g0 B hK hG.1 dX0_tells_1 ?_
  refine lv_iconst (v := (-1)) hx hb dX0_tells_4 (by decide) ?_
  obtain ⟨r_1, e_2, hf⟩ := bo hf
  refine cCF_next B hK hG.2.2 hG.1 e_2 ⟨Nat.le_of_ble_eq_true rfl, Nat.le_of_ble_eq_true rfl⟩ ⟨Nat.zero_le _, Nat.zero_le _⟩ hl.1 (Nat.le_of_ble_eq_true rfl) dX0_tells_5 ?_
  refine lv_istore_n (lv' := [(3, .int r_1), (0, .ref (ca 0)), (1, .int x1), (2, .null)]) hx hb dX0_tells_8 rfl hl (by decide) rfl (fun ls hl => ?_)
  obtain ⟨w_3, e_5, hf⟩ := bo hf
  try dsimp only at hf
  refine vC_tells_n_L9 B hK e_5 ?_ hG (lv_sub hl [1, 2, 3, 0] rfl)
  intro z0 hz
  cases hz
  intro H locs hG ls hl
  exact kr _ (Option.some.inj hf).symm _ _ hG _ _ dX0_tells_115

theorem tC_tells_n (l : Launch) (X : CX) (ca fa : Nat → Nat) (rest : va_W) (w w' : CW) (x1 : Int32) (hf : fC_tells_n w x1 = some w') : RW l yX0_tells cX0_tells 7 none 7 0 0 150 [.ref (ca 0), .int x1, .null] X (CP X ca fa w ++ rest) (CP X ca fa (w') ++ rest) none := by
  refine RW.mk (by decide) (Nat.le_of_ble_eq_true rfl) ?_
  intro p e s m below meth c B hr hlk hK hG ls hl
  exact wC_tells_n B hK hf (fun w h H locs hG pc ls hd => by cases h; exact w_vretW B hr hlk hG hd) hG hl
end S_C_tells_n

section S_C_manyAlike
variable {p : Program} {l : Launch} {e : Env} {R : Room} {s : State} {m : MethodId} {args : Array Value} {below : List Frame} {meth : Method} {c : Code} {H : Heap} {locs : List Loc} {cells slots : Nat} {Q : State → Prop} {cc : ByteArray} {nL pc : Nat} {ls : Array Slot} {st : List Value} {X : CX} {rest : va_W} {ca fa : Nat → Nat}
noncomputable def fC_manyAlike_J38_L11 (w : CW) (x1 : Int32) (x3 : Int32) (t0 : Int32) (t1 : Int32) : Option ((Int32 × Int32) ⊕ (Int32)) :=
  (some (t0 + t1)).bind fun x_1 =>
  (fF_next (cfe w) x3).bind fun r_3 =>
  some (.inl (x_1, r_3))

set_option maxHeartbeats 4000000 in
theorem wC_manyAlike_J38_L11 (B : CallFix p m c cX0_manyAlike 4 s args lw_all RX0) (hK : KK X s) {w : CW} (hP : va_P X.2.2.1 vwCl (CP X ca fa w ++ rest) s.heap) {x1 : Int32} {x3 : Int32} {t0 : Int32} {t1 : Int32} {res : (Int32 × Int32) ⊕ (Int32)} (hf : fC_manyAlike_J38_L11 w x1 x3 t0 t1 = some res) (kc : ∀ (y2 : Int32) (y3 : Int32), res = .inl (y2, y3) → ∀ (ls : Array Slot), lv_has ls 4 [(0, .ref (ca 0)), (1, .int x1), (2, .int y2), (3, .int y3)] → W p l e (RM 4 86) s m args below meth c s.heap [] 0 0 Q (F0 m 11 ls [])) (ke52 : ∀ (y2 : Int32), res = .inr y2 → ∀ (ls : Array Slot), lv_has ls 4 [(2, .int y2)] → W p l e (RM 4 86) s m args below meth c s.heap [] 0 0 Q (F0 m 52 ls [])) {ls : Array Slot} (hl : lv_has ls 4 [(0, .ref (ca 0)), (1, .int x1), (3, .int x3)]) : W p l e (RM 4 86) s m args below meth c s.heap [] 0 0 Q (F0 m 38 ls [.int t1, .int t0]) := by
  have hx := B.1
  have hb := B.2.1
  unfold fC_manyAlike_J38_L11 at hf
  refine lv_iadd hx hb dX0_manyAlike_38 ?_
  obtain ⟨x_1, e_2, hf⟩ := bo hf
  refine w_istore_n (lv' := [(2, .int x_1), (0, .ref (ca 0)), (1, .int x1), (3, .int x3)]) e_2 hx hb dX0_manyAlike_39 rfl hl (by decide) rfl (fun ls hl => ?_)
  refine lv_aload_n hx hb dX0_manyAlike_40 rfl (lv_at hl 1 rfl) ?_
  refine co_this_g0 B hK hP dX0_manyAlike_41 ?_
  refine lv_iload_n hx hb dX0_manyAlike_44 rfl (lv_at hl 3 rfl) ?_
  obtain ⟨r_3, e_4, hf⟩ := bo hf
  refine cCF_next B hK va_S.rf hP e_4 ⟨Nat.le_of_ble_eq_true rfl, Nat.le_of_ble_eq_true rfl⟩ ⟨Nat.zero_le _, Nat.zero_le _⟩ hl.1 (Nat.le_of_ble_eq_true rfl) dX0_manyAlike_45 ?_
  refine lv_istore_n (lv' := [(3, .int r_3), (2, .int x_1), (0, .ref (ca 0)), (1, .int x1)]) hx hb dX0_manyAlike_48 rfl hl (by decide) rfl (fun ls hl => ?_)
  refine lv_goto (tgt := 11) hx hb dX0_manyAlike_49 (by decide) ?_
  exact kc _ _ (Option.some.inj hf).symm _ (lv_sub hl [2, 3, 1, 0] rfl)

noncomputable def fC_manyAlike_L11 (w : CW) (x1 : Int32) (x2 : Int32) (x3 : Int32) : Option ((Int32 × Int32) ⊕ (Int32)) :=
  if x3 = (-1) then
    some (.inr x2)
  else
    (rd w.2.2.1 70 x3).bind fun v_2 =>
    (rd w.2.2.1 70 x1).bind fun v_4 =>
    if (lg_cmp v_2 v_4) = 0 then
      fC_manyAlike_J38_L11 w x1 x3 x2 1
    else
      fC_manyAlike_J38_L11 w x1 x3 x2 0

set_option maxHeartbeats 4000000 in
theorem wC_manyAlike_L11 (B : CallFix p m c cX0_manyAlike 4 s args lw_all RX0) (hK : KK X s) {w : CW} (hP : va_P X.2.2.1 vwCl (CP X ca fa w ++ rest) s.heap) {x1 : Int32} {x2 : Int32} {x3 : Int32} {res : (Int32 × Int32) ⊕ (Int32)} (hf : fC_manyAlike_L11 w x1 x2 x3 = some res) (kc : ∀ (y2 : Int32) (y3 : Int32), res = .inl (y2, y3) → ∀ (ls : Array Slot), lv_has ls 4 [(0, .ref (ca 0)), (1, .int x1), (2, .int y2), (3, .int y3)] → W p l e (RM 4 86) s m args below meth c s.heap [] 0 0 Q (F0 m 11 ls [])) (ke52 : ∀ (y2 : Int32), res = .inr y2 → ∀ (ls : Array Slot), lv_has ls 4 [(2, .int y2)] → W p l e (RM 4 86) s m args below meth c s.heap [] 0 0 Q (F0 m 52 ls [])) {ls : Array Slot} (hl : lv_has ls 4 [(0, .ref (ca 0)), (1, .int x1), (2, .int x2), (3, .int x3)]) : W p l e (RM 4 86) s m args below meth c s.heap [] 0 0 Q (F0 m 11 ls []) := by
  have hx := B.1
  have hb := B.2.1
  unfold fC_manyAlike_L11 at hf
  refine lv_iload_n hx hb dX0_manyAlike_11 rfl (lv_at hl 3 rfl) ?_
  refine lv_iconst (v := (-1)) hx hb dX0_manyAlike_12 (by decide) ?_
  refine lv_icmp_eq (tgt := 52) hx hb dX0_manyAlike_13 (by decide) (fun c_1 => ?_) (fun c_1 => ?_)
  · have hf := ifp c_1 hf
    exact ke52 _ (Option.some.inj hf).symm _ (lv_sub hl [2] rfl)
  · have hf := ifn c_1 hf
    refine lv_iload_n hx hb dX0_manyAlike_16 rfl (lv_at hl 2 rfl) ?_
    refine lv_aload_n hx hb dX0_manyAlike_17 rfl (lv_at hl 0 rfl) ?_
    refine co_this_g3 B hK hP dX0_manyAlike_18 ?_
    refine lv_iload_n hx hb dX0_manyAlike_21 rfl (lv_at hl 3 rfl) ?_
    obtain ⟨v_2, e_3, hf⟩ := bo hf
    refine co_told_l B hK hP e_3 dX0_manyAlike_22 ?_
    refine lv_aload_n hx hb dX0_manyAlike_23 rfl (lv_at hl 0 rfl) ?_
    refine co_this_g3 B hK hP dX0_manyAlike_24 ?_
    refine lv_iload_n hx hb dX0_manyAlike_27 rfl (lv_at hl 1 rfl) ?_
    obtain ⟨v_4, e_5, hf⟩ := bo hf
    refine co_told_l B hK hP e_5 dX0_manyAlike_28 ?_
    refine W.lcmp hx hb dX0_manyAlike_29 ?_
    refine lv_if_ne (tgt := 37) hx hb dX0_manyAlike_30 (by decide) (fun c_6 => ?_) (fun c_6 => ?_)
    · have hf := ifn c_6 hf
      refine lv_iconst (v := 0) hx hb dX0_manyAlike_37 (by decide) ?_
      exact wC_manyAlike_J38_L11 B hK hP hf kc ke52 (lv_sub hl [0, 1, 3] rfl)
    · have hf := ifp c_6 hf
      refine lv_iconst (v := 1) hx hb dX0_manyAlike_33 (by decide) ?_
      refine lv_goto (tgt := 38) hx hb dX0_manyAlike_34 (by decide) ?_
      exact wC_manyAlike_J38_L11 B hK hP hf kc ke52 (lv_sub hl [0, 1, 3] rfl)

set_option maxHeartbeats 4000000 in
theorem vC_manyAlike_L11 (B : CallFix p m c cX0_manyAlike 4 s args lw_all RX0) (hK : KK X s) {w : CW} (hP : va_P X.2.2.1 vwCl (CP X ca fa w ++ rest) s.heap) {x1 : Int32} {x2 : Int32} {x3 : Int32} {res : Int32} (hf : lp (fun q : Int32 × Int32 => fC_manyAlike_L11 w x1 q.1 q.2) (x2, x3) = some res) (ke52 : ∀ (y2 : Int32), res = y2 → ∀ (ls : Array Slot), lv_has ls 4 [(2, .int y2)] → W p l e (RM 4 86) s m args below meth c s.heap [] 0 0 Q (F0 m 52 ls [])) {ls : Array Slot} (hl : lv_has ls 4 [(0, .ref (ca 0)), (1, .int x1), (2, .int x2), (3, .int x3)]) : W p l e (RM 4 86) s m args below meth c s.heap [] 0 0 Q (F0 m 11 ls []) := by
  refine lp_ind (r := res) (P := fun q : Int32 × Int32 => ∀ (ls : Array Slot), lv_has ls 4 [(0, .ref (ca 0)), (1, .int x1), (2, .int q.1), (3, .int q.2)] → W p l e (RM 4 86) s m args below meth c s.heap [] 0 0 Q (F0 m 11 ls [])) ?_ ?_ _ hf _ hl
  · intro q hb ls hl
    exact wC_manyAlike_L11 B hK hP hb (fun _ _ h => by cases h) (fun z0 h => ke52 z0 (Sum.inr.inj h)) hl
  · intro q q2 hb ih ls hl
    exact wC_manyAlike_L11 B hK hP hb (fun z0 z1 h => by cases h; exact fun ls hl => ih ls hl) (fun _ h => by cases h) hl

noncomputable def fC_manyAlike (w : CW) (x1 : Int32) : Option (Int32) :=
  (fF_next (cfe w) (-1)).bind fun r_1 =>
  (lp (fun q : Int32 × Int32 => fC_manyAlike_L11 w x1 q.1 q.2) (0, r_1)).bind (
    fun q_4 => (fun (y_3 : Int32) =>
      some y_3
    ) q_4
  )

set_option maxHeartbeats 4000000 in
theorem wC_manyAlike (B : CallFix p m c cX0_manyAlike 4 s args lw_all RX0) (hK : KK X s) {w : CW} (hP : va_P X.2.2.1 vwCl (CP X ca fa w ++ rest) s.heap) {x1 : Int32} {res : Int32} (hf : fC_manyAlike w x1 = some res) (kr : ∀ (r : Int32), res = r → ∀ (pc : Nat) (ls : Array Slot), decode cX0_manyAlike pc = .ok (.ireturn, 1) → W p l e (RM 4 86) s m args below meth c s.heap [] 0 0 Q (F0 m pc ls [.int r])) {ls : Array Slot} (hl : lv_has ls 4 [(0, .ref (ca 0)), (1, .int x1)]) : W p l e (RM 4 86) s m args below meth c s.heap [] 0 0 Q (F0 m 0 ls []) := by
  have hx := B.1
  have hb := B.2.1
  unfold fC_manyAlike at hf
  refine lv_iconst (v := 0) hx hb dX0_manyAlike_0 (by decide) ?_
  refine lv_istore_n (lv' := [(2, .int 0), (0, .ref (ca 0)), (1, .int x1)]) hx hb dX0_manyAlike_1 rfl hl (by decide) rfl (fun ls hl => ?_)
  refine lv_aload_n hx hb dX0_manyAlike_2 rfl (lv_at hl 1 rfl) ?_
  refine co_this_g0 B hK hP dX0_manyAlike_3 ?_
  refine lv_iconst (v := (-1)) hx hb dX0_manyAlike_6 (by decide) ?_
  obtain ⟨r_1, e_2, hf⟩ := bo hf
  refine cCF_next B hK va_S.rf hP e_2 ⟨Nat.le_of_ble_eq_true rfl, Nat.le_of_ble_eq_true rfl⟩ ⟨Nat.zero_le _, Nat.zero_le _⟩ hl.1 (Nat.le_of_ble_eq_true rfl) dX0_manyAlike_7 ?_
  refine lv_istore_n (lv' := [(3, .int r_1), (2, .int 0), (0, .ref (ca 0)), (1, .int x1)]) hx hb dX0_manyAlike_10 rfl hl (by decide) rfl (fun ls hl => ?_)
  obtain ⟨y_3, e_5, hf⟩ := bo hf
  try dsimp only at hf
  refine vC_manyAlike_L11 B hK hP e_5 ?_ (lv_sub hl [2, 3, 1, 0] rfl)
  intro z0 hz
  cases hz
  intro ls hl
  refine lv_iload_n hx hb dX0_manyAlike_52 rfl (lv_at hl 0 rfl) ?_
  exact kr _ (Option.some.inj hf).symm _ _ dX0_manyAlike_53

theorem tC_manyAlike (l : Launch) (X : CX) (ca fa : Nat → Nat) (rest : va_W) (w : CW) (x1 : Int32) (r : Int32) (hf : fC_manyAlike w x1 = some r) : RO l yX0_manyAlike cX0_manyAlike 4 (some .int) 4 86 [.ref (ca 0), .int x1] X (CP X ca fa w ++ rest) (some (.int r)) := by
  refine RO.mk (by decide) (Nat.le_of_ble_eq_true rfl) ?_
  intro p e s m below meth c B hr hlk hK hP ls hl
  exact wC_manyAlike B hK hP hf (fun r h pc ls hd => by cases h; exact w_iretR B hr hlk rfl hd) hl
end S_C_manyAlike

section S_C_isFirst
variable {p : Program} {l : Launch} {e : Env} {R : Room} {s : State} {m : MethodId} {args : Array Value} {below : List Frame} {meth : Method} {c : Code} {H : Heap} {locs : List Loc} {cells slots : Nat} {Q : State → Prop} {cc : ByteArray} {nL pc : Nat} {ls : Array Slot} {st : List Value} {X : CX} {rest : va_W} {ca fa : Nat → Nat}
noncomputable def fC_isFirst_L9 (w : CW) (x1 : Int32) (x2 : Int32) : Option ((Int32) ⊕ (((Unit) ⊕ Unit))) :=
  if x2 = x1 then
    some (.inr (.inl ()))
  else
    (rd w.2.2.1 70 x2).bind fun v_2 =>
    (rd w.2.2.1 70 x1).bind fun v_4 =>
    if (lg_cmp v_2 v_4) = 0 then
      some (.inr (.inr ()))
    else
      (fF_next (cfe w) x2).bind fun r_7 =>
      some (.inl r_7)

set_option maxHeartbeats 4000000 in
theorem wC_isFirst_L9 (B : CallFix p m c cX0_isFirst 3 s args lw_all RX0) (hK : KK X s) {w : CW} (hP : va_P X.2.2.1 vwCl (CP X ca fa w ++ rest) s.heap) {x1 : Int32} {x2 : Int32} {res : (Int32) ⊕ (((Unit) ⊕ Unit))} (hf : fC_isFirst_L9 w x1 x2 = some res) (kc : ∀ (y2 : Int32), res = .inl y2 → ∀ (ls : Array Slot), lv_has ls 3 [(0, .ref (ca 0)), (1, .int x1), (2, .int y2)] → W p l e (RM 4 86) s m args below meth c s.heap [] 0 0 Q (F0 m 9 ls [])) (ke44 : res = .inr (.inl ()) → ∀ (ls : Array Slot), lv_has ls 3 [] → W p l e (RM 4 86) s m args below meth c s.heap [] 0 0 Q (F0 m 44 ls [])) (ke30 : res = .inr (.inr ()) → ∀ (ls : Array Slot), lv_has ls 3 [] → W p l e (RM 4 86) s m args below meth c s.heap [] 0 0 Q (F0 m 30 ls [])) {ls : Array Slot} (hl : lv_has ls 3 [(0, .ref (ca 0)), (1, .int x1), (2, .int x2)]) : W p l e (RM 4 86) s m args below meth c s.heap [] 0 0 Q (F0 m 9 ls []) := by
  have hx := B.1
  have hb := B.2.1
  unfold fC_isFirst_L9 at hf
  refine lv_iload_n hx hb dX0_isFirst_9 rfl (lv_at hl 2 rfl) ?_
  refine lv_iload_n hx hb dX0_isFirst_10 rfl (lv_at hl 1 rfl) ?_
  refine lv_icmp_eq (tgt := 44) hx hb dX0_isFirst_11 (by decide) (fun c_1 => ?_) (fun c_1 => ?_)
  · have hf := ifp c_1 hf
    exact ke44 (Option.some.inj hf).symm _ (lv_sub hl [] rfl)
  · have hf := ifn c_1 hf
    refine lv_aload_n hx hb dX0_isFirst_14 rfl (lv_at hl 0 rfl) ?_
    refine co_this_g3 B hK hP dX0_isFirst_15 ?_
    refine lv_iload_n hx hb dX0_isFirst_18 rfl (lv_at hl 2 rfl) ?_
    obtain ⟨v_2, e_3, hf⟩ := bo hf
    refine co_told_l B hK hP e_3 dX0_isFirst_19 ?_
    refine lv_aload_n hx hb dX0_isFirst_20 rfl (lv_at hl 0 rfl) ?_
    refine co_this_g3 B hK hP dX0_isFirst_21 ?_
    refine lv_iload_n hx hb dX0_isFirst_24 rfl (lv_at hl 1 rfl) ?_
    obtain ⟨v_4, e_5, hf⟩ := bo hf
    refine co_told_l B hK hP e_5 dX0_isFirst_25 ?_
    refine W.lcmp hx hb dX0_isFirst_26 ?_
    refine lv_if_ne (tgt := 32) hx hb dX0_isFirst_27 (by decide) (fun c_6 => ?_) (fun c_6 => ?_)
    · have hf := ifn c_6 hf
      refine lv_aload_n hx hb dX0_isFirst_32 rfl (lv_at hl 0 rfl) ?_
      refine co_this_g0 B hK hP dX0_isFirst_33 ?_
      refine lv_iload_n hx hb dX0_isFirst_36 rfl (lv_at hl 2 rfl) ?_
      obtain ⟨r_7, e_8, hf⟩ := bo hf
      refine cCF_next B hK va_S.rf hP e_8 ⟨Nat.le_of_ble_eq_true rfl, Nat.le_of_ble_eq_true rfl⟩ ⟨Nat.zero_le _, Nat.zero_le _⟩ hl.1 (Nat.le_of_ble_eq_true rfl) dX0_isFirst_37 ?_
      refine lv_istore_n (lv' := [(2, .int r_7), (0, .ref (ca 0)), (1, .int x1)]) hx hb dX0_isFirst_40 rfl hl (by decide) rfl (fun ls hl => ?_)
      refine lv_goto (tgt := 9) hx hb dX0_isFirst_41 (by decide) ?_
      exact kc _ (Option.some.inj hf).symm _ (lv_sub hl [1, 2, 0] rfl)
    · have hf := ifp c_6 hf
      exact ke30 (Option.some.inj hf).symm _ (lv_sub hl [] rfl)

set_option maxHeartbeats 4000000 in
theorem vC_isFirst_L9 (B : CallFix p m c cX0_isFirst 3 s args lw_all RX0) (hK : KK X s) {w : CW} (hP : va_P X.2.2.1 vwCl (CP X ca fa w ++ rest) s.heap) {x1 : Int32} {x2 : Int32} {res : ((Unit) ⊕ Unit)} (hf : lp (fun q : Int32 => fC_isFirst_L9 w x1 q) x2 = some res) (ke44 : res = (.inl ()) → ∀ (ls : Array Slot), lv_has ls 3 [] → W p l e (RM 4 86) s m args below meth c s.heap [] 0 0 Q (F0 m 44 ls [])) (ke30 : res = (.inr ()) → ∀ (ls : Array Slot), lv_has ls 3 [] → W p l e (RM 4 86) s m args below meth c s.heap [] 0 0 Q (F0 m 30 ls [])) {ls : Array Slot} (hl : lv_has ls 3 [(0, .ref (ca 0)), (1, .int x1), (2, .int x2)]) : W p l e (RM 4 86) s m args below meth c s.heap [] 0 0 Q (F0 m 9 ls []) := by
  refine lp_ind (r := res) (P := fun q : Int32 => ∀ (ls : Array Slot), lv_has ls 3 [(0, .ref (ca 0)), (1, .int x1), (2, .int q)] → W p l e (RM 4 86) s m args below meth c s.heap [] 0 0 Q (F0 m 9 ls [])) ?_ ?_ _ hf _ hl
  · intro q hb ls hl
    exact wC_isFirst_L9 B hK hP hb (fun _ h => by cases h) (fun h => ke44 (Sum.inr.inj h)) (fun h => ke30 (Sum.inr.inj h)) hl
  · intro q q2 hb ih ls hl
    exact wC_isFirst_L9 B hK hP hb (fun z0 h => by cases h; exact fun ls hl => ih ls hl) (fun h => by cases h) (fun h => by cases h) hl

noncomputable def fC_isFirst (w : CW) (x1 : Int32) : Option (Int32) :=
  (fF_next (cfe w) (-1)).bind fun r_1 =>
  (lp (fun q : Int32 => fC_isFirst_L9 w x1 q) r_1).bind
    (Sum.elim (
      fun _ =>
        some 1
    )
      (
        fun _ =>
          some 0
      )
    )

set_option maxHeartbeats 4000000 in
theorem wC_isFirst (B : CallFix p m c cX0_isFirst 3 s args lw_all RX0) (hK : KK X s) {w : CW} (hP : va_P X.2.2.1 vwCl (CP X ca fa w ++ rest) s.heap) {x1 : Int32} {res : Int32} (hf : fC_isFirst w x1 = some res) (kr : ∀ (r : Int32), res = r → narrow .boolean (.int r) = .int r → ∀ (pc : Nat) (ls : Array Slot), decode cX0_isFirst pc = .ok (.ireturn, 1) → W p l e (RM 4 86) s m args below meth c s.heap [] 0 0 Q (F0 m pc ls [.int r])) {ls : Array Slot} (hl : lv_has ls 3 [(0, .ref (ca 0)), (1, .int x1)]) : W p l e (RM 4 86) s m args below meth c s.heap [] 0 0 Q (F0 m 0 ls []) := by
  have hx := B.1
  have hb := B.2.1
  unfold fC_isFirst at hf
  refine lv_aload_n hx hb dX0_isFirst_0 rfl (lv_at hl 0 rfl) ?_
  refine co_this_g0 B hK hP dX0_isFirst_1 ?_
  refine lv_iconst (v := (-1)) hx hb dX0_isFirst_4 (by decide) ?_
  obtain ⟨r_1, e_2, hf⟩ := bo hf
  refine cCF_next B hK va_S.rf hP e_2 ⟨Nat.le_of_ble_eq_true rfl, Nat.le_of_ble_eq_true rfl⟩ ⟨Nat.zero_le _, Nat.zero_le _⟩ hl.1 (Nat.le_of_ble_eq_true rfl) dX0_isFirst_5 ?_
  refine lv_istore_n (lv' := [(2, .int r_1), (0, .ref (ca 0)), (1, .int x1)]) hx hb dX0_isFirst_8 rfl hl (by decide) rfl (fun ls hl => ?_)
  rcases bs hf with ⟨⟨⟩, e_5, hf⟩ | ⟨⟨⟩, e_5, hf⟩
  · refine vC_isFirst_L9 B hK hP e_5 ?_ (fun h => by cases h) (lv_sub hl [1, 2, 0] rfl)
    intro hz
    intro ls hl
    refine lv_iconst (v := 1) hx hb dX0_isFirst_44 (by decide) ?_
    exact kr _ (Option.some.inj hf).symm (by decide) _ _ dX0_isFirst_45
  · refine vC_isFirst_L9 B hK hP e_5 (fun h => by cases h) ?_ (lv_sub hl [1, 2, 0] rfl)
    intro hz
    intro ls hl
    refine lv_iconst (v := 0) hx hb dX0_isFirst_30 (by decide) ?_
    exact kr _ (Option.some.inj hf).symm (by decide) _ _ dX0_isFirst_31

theorem tC_isFirst (l : Launch) (X : CX) (ca fa : Nat → Nat) (rest : va_W) (w : CW) (x1 : Int32) (r : Int32) (hf : fC_isFirst w x1 = some r) : RO l yX0_isFirst cX0_isFirst 3 (some .boolean) 4 86 [.ref (ca 0), .int x1] X (CP X ca fa w ++ rest) (some (.int r)) := by
  refine RO.mk (by decide) (Nat.le_of_ble_eq_true rfl) ?_
  intro p e s m below meth c B hr hlk hK hP ls hl
  exact wC_isFirst B hK hP hf (fun r h hn pc ls hd => by cases h; exact w_zretR B hr hlk hn rfl hd) hl
end S_C_isFirst

section K_cC_tells_n
variable {p : Program} {l : Launch} {e : Env} {R : Room} {s : State} {m : MethodId} {args : Array Value} {below : List Frame} {meth : Method} {c : Code} {H : Heap} {locs : List Loc} {cells slots : Nat} {Q : State → Prop} {cc : ByteArray} {nL pc : Nat} {ls : Array Slot} {st : List Value} {X : CX} {rest : va_W} {ca fa : Nat → Nat}
theorem cC_tells_n (B : CallFix p m c cc nL s args lw_all RX0) (hK : KK X s) {w : CW} (hG : GG X (CP X ca fa w ++ rest) s.heap H locs) {x1 : Int32} {f1 : CW} {w' : CW} (hf : fC_tells_n w x1 = some f1) (hw : some (f1) = some w') (hR : 7 + 1 ≤ R.frames ∧ 176 ≤ R.locals) (hcs : cells ≤ R.cells ∧ slots ≤ R.slots) (hl : ls.size = nL) (hcat : (st.map fun v => v.category).sum ≤ 8) (hdg : decode cc pc = .ok (.invokevirtual 303, 3)) (kk : ∀ (H1 : Heap) (locs1 : List Loc), GG X (CP X ca fa (w') ++ rest) s.heap H1 locs1 → W p l e R s m args below meth c H1 locs1 cells slots Q (F0 m (pc + 3) ls st)) : W p l e R s m args below meth c H locs cells slots Q (F0 m pc ls (.null :: .int x1 :: .ref (ca 0) :: st)) := by
  cases hw
  exact w_afterWv (w_rV_RW (ws := CP X ca fa w ++ rest) (As := [.int x1, .null]) B hK hG (tC_tells_n l X ca fa rest w f1 x1 hf) (lw_V q1200 q1202 qs23 q87 q1203) 8 rfl rfl (n := 2) (by decide +kernel) hR hcs rfl hl rfl hcat hdg) hG.2.2 kk
end K_cC_tells_n

section K_cC_isFirst
variable {p : Program} {l : Launch} {e : Env} {R : Room} {s : State} {m : MethodId} {args : Array Value} {below : List Frame} {meth : Method} {c : Code} {H : Heap} {locs : List Loc} {cells slots : Nat} {Q : State → Prop} {cc : ByteArray} {nL pc : Nat} {ls : Array Slot} {st : List Value} {X : CX} {rest : va_W} {ca fa : Nat → Nat}
theorem cC_isFirst (B : CallFix p m c cc nL s args lw_all RX0) (hK : KK X s) (hS : va_S (Az X) s.heap H locs) {w : CW} (hP : va_P X.2.2.1 vwCl (CP X ca fa w ++ rest) H) {x1 : Int32} {r : Int32} (hf : fC_isFirst w x1 = some r) (hR : 4 + 1 ≤ R.frames ∧ 108 ≤ R.locals) (hcs : cells ≤ R.cells ∧ slots ≤ R.slots) (hl : ls.size = nL) (hcat : (st.map fun v => v.category).sum ≤ 8) (hdg : decode cc pc = .ok (.invokevirtual 324, 3)) (kk : W p l e R s m args below meth c H locs cells slots Q (F0 m (pc + 3) ls (.int r :: st))) : W p l e R s m args below meth c H locs cells slots Q (F0 m pc ls (.int x1 :: .ref (ca 0) :: st)) :=
  w_afterR (w_rV_RO (ws := CP X ca fa w ++ rest) (As := [.int x1]) B hK hS hP (tC_isFirst l X ca fa rest w x1 r hf) (lw_V q1230 q1232 qs26 q87 q1233) 8 rfl rfl (n := 1) (by decide +kernel) hR hcs rfl hl rfl hcat hdg) kk
end K_cC_isFirst

section S_C_groups_n
variable {p : Program} {l : Launch} {e : Env} {R : Room} {s : State} {m : MethodId} {args : Array Value} {below : List Frame} {meth : Method} {c : Code} {H : Heap} {locs : List Loc} {cells slots : Nat} {Q : State → Prop} {cc : ByteArray} {nL pc : Nat} {ls : Array Slot} {st : List Value} {X : CX} {rest : va_W} {ca fa : Nat → Nat}
noncomputable def fC_groups_n_J39_L18 (w : CW) (x4 : Int32) (t0 : Int32) (t1 : Int32) : Option ((Int32 × Int32) ⊕ (Int32)) :=
  (some (t0 + t1)).bind fun x_1 =>
  (fF_next (cfe w) x4).bind fun r_3 =>
  some (.inl (x_1, r_3))

set_option maxHeartbeats 4000000 in
theorem wC_groups_n_J39_L18 (B : CallFix p m c cX0_groups 5 s args lw_all RX0) (hK : KK X s) {w : CW} {x4 : Int32} {t0 : Int32} {t1 : Int32} {res : (Int32 × Int32) ⊕ (Int32)} (hf : fC_groups_n_J39_L18 w x4 t0 t1 = some res) (kc : ∀ (y3 : Int32) (y4 : Int32), res = .inl (y3, y4) → ∀ (H : Heap) (locs : List Loc), GG X (CP X ca fa w ++ rest) s.heap H locs → ∀ (ls : Array Slot), lv_has ls 5 [(0, .ref (ca 0)), (3, .int y3), (4, .int y4)] → W p l e (RMw 8 0 0 176) s m args below meth c H locs 0 0 Q (F0 m 18 ls [])) (ke55 : ∀ (y3 : Int32), res = .inr y3 → ∀ (H : Heap) (locs : List Loc), GG X (CP X ca fa w ++ rest) s.heap H locs → ∀ (ls : Array Slot), lv_has ls 5 [(3, .int y3)] → W p l e (RMw 8 0 0 176) s m args below meth c H locs 0 0 Q (F0 m 55 ls [])) {H : Heap} {locs : List Loc} (hG : GG X (CP X ca fa w ++ rest) s.heap H locs) {ls : Array Slot} (hl : lv_has ls 5 [(0, .ref (ca 0)), (4, .int x4)]) : W p l e (RMw 8 0 0 176) s m args below meth c H locs 0 0 Q (F0 m 39 ls [.int t1, .int t0]) := by
  have hx := B.1
  have hb := B.2.1
  unfold fC_groups_n_J39_L18 at hf
  refine lv_iadd hx hb dX0_groups_39 ?_
  obtain ⟨x_1, e_2, hf⟩ := bo hf
  refine w_istore_n (lv' := [(3, .int x_1), (0, .ref (ca 0)), (4, .int x4)]) e_2 hx hb dX0_groups_40 rfl hl (by decide) rfl (fun ls hl => ?_)
  refine lv_aload_n hx hb dX0_groups_41 rfl (lv_at hl 1 rfl) ?_
  refine co_this_g0 B hK hG.1 dX0_groups_42 ?_
  refine lv_iload hx hb dX0_groups_45 (lv_at hl 2 rfl) ?_
  obtain ⟨r_3, e_4, hf⟩ := bo hf
  refine cCF_next B hK hG.2.2 hG.1 e_4 ⟨Nat.le_of_ble_eq_true rfl, Nat.le_of_ble_eq_true rfl⟩ ⟨Nat.zero_le _, Nat.zero_le _⟩ hl.1 (Nat.le_of_ble_eq_true rfl) dX0_groups_47 ?_
  refine lv_istore (lv' := [(4, .int r_3), (3, .int x_1), (0, .ref (ca 0))]) hx hb dX0_groups_50 hl (by decide) rfl (fun ls hl => ?_)
  refine lv_goto (tgt := 18) hx hb dX0_groups_52 (by decide) ?_
  exact kc _ _ (Option.some.inj hf).symm _ _ hG _ (lv_sub hl [2, 1, 0] rfl)

noncomputable def fC_groups_n_L18 (w : CW) (x3 : Int32) (x4 : Int32) : Option ((Int32 × Int32) ⊕ (Int32)) :=
  if x4 = (-1) then
    some (.inr x3)
  else
    (fC_isFirst w x4).bind fun r_2 =>
    if r_2 = 0 then
      fC_groups_n_J39_L18 w x4 x3 0
    else
      fC_groups_n_J39_L18 w x4 x3 1

set_option maxHeartbeats 4000000 in
theorem wC_groups_n_L18 (B : CallFix p m c cX0_groups 5 s args lw_all RX0) (hK : KK X s) {w : CW} {x3 : Int32} {x4 : Int32} {res : (Int32 × Int32) ⊕ (Int32)} (hf : fC_groups_n_L18 w x3 x4 = some res) (kc : ∀ (y3 : Int32) (y4 : Int32), res = .inl (y3, y4) → ∀ (H : Heap) (locs : List Loc), GG X (CP X ca fa w ++ rest) s.heap H locs → ∀ (ls : Array Slot), lv_has ls 5 [(0, .ref (ca 0)), (3, .int y3), (4, .int y4)] → W p l e (RMw 8 0 0 176) s m args below meth c H locs 0 0 Q (F0 m 18 ls [])) (ke55 : ∀ (y3 : Int32), res = .inr y3 → ∀ (H : Heap) (locs : List Loc), GG X (CP X ca fa w ++ rest) s.heap H locs → ∀ (ls : Array Slot), lv_has ls 5 [(3, .int y3)] → W p l e (RMw 8 0 0 176) s m args below meth c H locs 0 0 Q (F0 m 55 ls [])) {H : Heap} {locs : List Loc} (hG : GG X (CP X ca fa w ++ rest) s.heap H locs) {ls : Array Slot} (hl : lv_has ls 5 [(0, .ref (ca 0)), (3, .int x3), (4, .int x4)]) : W p l e (RMw 8 0 0 176) s m args below meth c H locs 0 0 Q (F0 m 18 ls []) := by
  have hx := B.1
  have hb := B.2.1
  unfold fC_groups_n_L18 at hf
  refine lv_iload hx hb dX0_groups_18 (lv_at hl 2 rfl) ?_
  refine lv_iconst (v := (-1)) hx hb dX0_groups_20 (by decide) ?_
  refine lv_icmp_eq (tgt := 55) hx hb dX0_groups_21 (by decide) (fun c_1 => ?_) (fun c_1 => ?_)
  · have hf := ifp c_1 hf
    exact ke55 _ (Option.some.inj hf).symm _ _ hG _ (lv_sub hl [1] rfl)
  · have hf := ifn c_1 hf
    refine lv_iload_n hx hb dX0_groups_24 rfl (lv_at hl 1 rfl) ?_
    refine lv_aload_n hx hb dX0_groups_25 rfl (lv_at hl 0 rfl) ?_
    refine lv_iload hx hb dX0_groups_26 (lv_at hl 2 rfl) ?_
    obtain ⟨r_2, e_3, hf⟩ := bo hf
    refine cC_isFirst B hK hG.2.2 hG.1 e_3 ⟨Nat.le_of_ble_eq_true rfl, Nat.le_of_ble_eq_true rfl⟩ ⟨Nat.zero_le _, Nat.zero_le _⟩ hl.1 (Nat.le_of_ble_eq_true rfl) dX0_groups_28 ?_
    refine lv_if_eq (tgt := 38) hx hb dX0_groups_31 (by decide) (fun c_4 => ?_) (fun c_4 => ?_)
    · have hf := ifp c_4 hf
      refine lv_iconst (v := 0) hx hb dX0_groups_38 (by decide) ?_
      exact wC_groups_n_J39_L18 B hK hf kc ke55 hG (lv_sub hl [0, 2] rfl)
    · have hf := ifn c_4 hf
      refine lv_iconst (v := 1) hx hb dX0_groups_34 (by decide) ?_
      refine lv_goto (tgt := 39) hx hb dX0_groups_35 (by decide) ?_
      exact wC_groups_n_J39_L18 B hK hf kc ke55 hG (lv_sub hl [0, 2] rfl)

set_option maxHeartbeats 4000000 in
theorem vC_groups_n_L18 (B : CallFix p m c cX0_groups 5 s args lw_all RX0) (hK : KK X s) {w : CW} {x3 : Int32} {x4 : Int32} {res : Int32} (hf : lp (fun q : Int32 × Int32 => fC_groups_n_L18 w q.1 q.2) (x3, x4) = some res) (ke55 : ∀ (y3 : Int32), res = y3 → ∀ (H : Heap) (locs : List Loc), GG X (CP X ca fa w ++ rest) s.heap H locs → ∀ (ls : Array Slot), lv_has ls 5 [(3, .int y3)] → W p l e (RMw 8 0 0 176) s m args below meth c H locs 0 0 Q (F0 m 55 ls [])) {H : Heap} {locs : List Loc} (hG : GG X (CP X ca fa w ++ rest) s.heap H locs) {ls : Array Slot} (hl : lv_has ls 5 [(0, .ref (ca 0)), (3, .int x3), (4, .int x4)]) : W p l e (RMw 8 0 0 176) s m args below meth c H locs 0 0 Q (F0 m 18 ls []) := by
  refine lp_ind (r := res) (P := fun q : Int32 × Int32 => ∀ (H : Heap) (locs : List Loc) (ls : Array Slot), GG X (CP X ca fa w ++ rest) s.heap H locs → lv_has ls 5 [(0, .ref (ca 0)), (3, .int q.1), (4, .int q.2)] → W p l e (RMw 8 0 0 176) s m args below meth c H locs 0 0 Q (F0 m 18 ls [])) ?_ ?_ _ hf _ _ _ hG hl
  · intro q hb H locs ls hG hl
    exact wC_groups_n_L18 B hK hb (fun _ _ h => by cases h) (fun z0 h => ke55 z0 (Sum.inr.inj h)) hG hl
  · intro q q2 hb ih H locs ls hG hl
    exact wC_groups_n_L18 B hK hb (fun z0 z1 h => by cases h; exact fun H locs hG ls hl => ih H locs ls hG hl) (fun _ h => by cases h) hG hl

noncomputable def fC_groups_n (w : CW) (x1 : Int32) : Option (Int32 × CW) :=
  (fC_tells_n w x1).bind fun f_2 =>
  (some (f_2)).bind fun w_3 =>
  (fF_next (cfe w_3) (-1)).bind fun r_5 =>
  (lp (fun q : Int32 × Int32 => fC_groups_n_L18 w_3 q.1 q.2) (0, r_5)).bind (
    fun q_8 => (fun (y_7 : Int32) =>
      some (y_7, w_3)
    ) q_8
  )

set_option maxHeartbeats 4000000 in
theorem wC_groups_n (B : CallFix p m c cX0_groups 5 s args lw_all RX0) (hK : KK X s) {w : CW} {x1 : Int32} {res : Int32 × CW} (hf : fC_groups_n w x1 = some res) (kr : ∀ (r : Int32) (w1 : CW), res = (r, w1) → ∀ (H : Heap) (locs : List Loc), GG X (CP X ca fa w1 ++ rest) s.heap H locs → ∀ (pc : Nat) (ls : Array Slot), decode cX0_groups pc = .ok (.ireturn, 1) → W p l e (RMw 8 0 0 176) s m args below meth c H locs 0 0 Q (F0 m pc ls [.int r])) {H : Heap} {locs : List Loc} (hG : GG X (CP X ca fa w ++ rest) s.heap H locs) {ls : Array Slot} (hl : lv_has ls 5 [(0, .ref (ca 0)), (1, .int x1), (2, .null)]) : W p l e (RMw 8 0 0 176) s m args below meth c H locs 0 0 Q (F0 m 0 ls []) := by
  have hx := B.1
  have hb := B.2.1
  unfold fC_groups_n at hf
  refine lv_aload_n hx hb dX0_groups_0 rfl (lv_at hl 0 rfl) ?_
  refine lv_iload_n hx hb dX0_groups_1 rfl (lv_at hl 1 rfl) ?_
  refine lv_aload_nN hx hb dX0_groups_2 rfl (lv_at hl 2 rfl) ?_
  obtain ⟨f_2, e_1, hf⟩ := bo hf
  obtain ⟨w_3, e_4, hf⟩ := bo hf
  refine cC_tells_n B hK hG e_1 e_4 ⟨Nat.le_of_ble_eq_true rfl, Nat.le_of_ble_eq_true rfl⟩ ⟨Nat.zero_le _, Nat.zero_le _⟩ hl.1 (Nat.le_of_ble_eq_true rfl) dX0_groups_3 (fun H locs hG => ?_)
  refine lv_iconst (v := 0) hx hb dX0_groups_6 (by decide) ?_
  refine lv_istore_n (lv' := [(3, .int 0), (0, .ref (ca 0)), (1, .int x1), (2, .null)]) hx hb dX0_groups_7 rfl hl (by decide) rfl (fun ls hl => ?_)
  refine lv_aload_n hx hb dX0_groups_8 rfl (lv_at hl 1 rfl) ?_
  refine co_this_g0 B hK hG.1 dX0_groups_9 ?_
  refine lv_iconst (v := (-1)) hx hb dX0_groups_12 (by decide) ?_
  obtain ⟨r_5, e_6, hf⟩ := bo hf
  refine cCF_next B hK hG.2.2 hG.1 e_6 ⟨Nat.le_of_ble_eq_true rfl, Nat.le_of_ble_eq_true rfl⟩ ⟨Nat.zero_le _, Nat.zero_le _⟩ hl.1 (Nat.le_of_ble_eq_true rfl) dX0_groups_13 ?_
  refine lv_istore (lv' := [(4, .int r_5), (3, .int 0), (0, .ref (ca 0)), (1, .int x1), (2, .null)]) hx hb dX0_groups_16 hl (by decide) rfl (fun ls hl => ?_)
  obtain ⟨y_7, e_9, hf⟩ := bo hf
  try dsimp only at hf
  refine vC_groups_n_L18 B hK e_9 ?_ hG (lv_sub hl [2, 1, 0] rfl)
  intro z0 hz
  cases hz
  intro H locs hG ls hl
  refine lv_iload_n hx hb dX0_groups_55 rfl (lv_at hl 0 rfl) ?_
  exact kr _ _ (Option.some.inj hf).symm _ _ hG _ _ dX0_groups_56

theorem tC_groups_n (l : Launch) (X : CX) (ca fa : Nat → Nat) (rest : va_W) (w w' : CW) (x1 : Int32) (r : Int32) (hf : fC_groups_n w x1 = some (r, w')) : RW l yX0_groups cX0_groups 5 (some .int) 8 0 0 176 [.ref (ca 0), .int x1, .null] X (CP X ca fa w ++ rest) (CP X ca fa (w') ++ rest) (some (.int r)) := by
  refine RW.mk (by decide) (Nat.le_of_ble_eq_true rfl) ?_
  intro p e s m below meth c B hr hlk hK hG ls hl
  exact wC_groups_n B hK hf (fun r w h H locs hG pc ls hd => by cases h; exact w_iretW B hr hlk hG hd) hG hl
end S_C_groups_n

section K_cC_manyAlike
variable {p : Program} {l : Launch} {e : Env} {R : Room} {s : State} {m : MethodId} {args : Array Value} {below : List Frame} {meth : Method} {c : Code} {H : Heap} {locs : List Loc} {cells slots : Nat} {Q : State → Prop} {cc : ByteArray} {nL pc : Nat} {ls : Array Slot} {st : List Value} {X : CX} {rest : va_W} {ca fa : Nat → Nat}
theorem cC_manyAlike (B : CallFix p m c cc nL s args lw_all RX0) (hK : KK X s) (hS : va_S (Az X) s.heap H locs) {w : CW} (hP : va_P X.2.2.1 vwCl (CP X ca fa w ++ rest) H) {x1 : Int32} {r : Int32} (hf : fC_manyAlike w x1 = some r) (hR : 4 + 1 ≤ R.frames ∧ 109 ≤ R.locals) (hcs : cells ≤ R.cells ∧ slots ≤ R.slots) (hl : ls.size = nL) (hcat : (st.map fun v => v.category).sum ≤ 8) (hdg : decode cc pc = .ok (.invokevirtual 307, 3)) (kk : W p l e R s m args below meth c H locs cells slots Q (F0 m (pc + 3) ls (.int r :: st))) : W p l e R s m args below meth c H locs cells slots Q (F0 m pc ls (.int x1 :: .ref (ca 0) :: st)) :=
  w_afterR (w_rV_RO (ws := CP X ca fa w ++ rest) (As := [.int x1]) B hK hS hP (tC_manyAlike l X ca fa rest w x1 r hf) (lw_V q1206 q1208 qs24 q87 q1209) 8 rfl rfl (n := 1) (by decide +kernel) hR hcs rfl hl rfl hcat hdg) kk
end K_cC_manyAlike

section S_C_greatest
variable {p : Program} {l : Launch} {e : Env} {R : Room} {s : State} {m : MethodId} {args : Array Value} {below : List Frame} {meth : Method} {c : Code} {H : Heap} {locs : List Loc} {cells slots : Nat} {Q : State → Prop} {cc : ByteArray} {nL pc : Nat} {ls : Array Slot} {st : List Value} {X : CX} {rest : va_W} {ca fa : Nat → Nat}
noncomputable def fC_greatest_L11 (w : CW) (x1 : Int32) (x2 : Int32) : Option ((Int32 × Int32) ⊕ (Int32)) :=
  if x2 = (-1) then
    some (.inr x1)
  else
    (fC_manyAlike w x2).bind fun r_2 =>
    (some (imax x1 r_2)).bind fun x_4 =>
    (fF_next (cfe w) x2).bind fun r_6 =>
    some (.inl (x_4, r_6))

set_option maxHeartbeats 4000000 in
theorem wC_greatest_L11 (B : CallFix p m c cX0_greatest 3 s args lw_all RX0) (hK : KK X s) {w : CW} (hP : va_P X.2.2.1 vwCl (CP X ca fa w ++ rest) s.heap) {x1 : Int32} {x2 : Int32} {res : (Int32 × Int32) ⊕ (Int32)} (hf : fC_greatest_L11 w x1 x2 = some res) (kc : ∀ (y1 : Int32) (y2 : Int32), res = .inl (y1, y2) → ∀ (ls : Array Slot), lv_has ls 3 [(0, .ref (ca 0)), (1, .int y1), (2, .int y2)] → W p l e (RM 5 109) s m args below meth c s.heap [] 0 0 Q (F0 m 11 ls [])) (ke38 : ∀ (y1 : Int32), res = .inr y1 → ∀ (ls : Array Slot), lv_has ls 3 [(1, .int y1)] → W p l e (RM 5 109) s m args below meth c s.heap [] 0 0 Q (F0 m 38 ls [])) {ls : Array Slot} (hl : lv_has ls 3 [(0, .ref (ca 0)), (1, .int x1), (2, .int x2)]) : W p l e (RM 5 109) s m args below meth c s.heap [] 0 0 Q (F0 m 11 ls []) := by
  have hx := B.1
  have hb := B.2.1
  unfold fC_greatest_L11 at hf
  refine lv_iload_n hx hb dX0_greatest_11 rfl (lv_at hl 2 rfl) ?_
  refine lv_iconst (v := (-1)) hx hb dX0_greatest_12 (by decide) ?_
  refine lv_icmp_eq (tgt := 38) hx hb dX0_greatest_13 (by decide) (fun c_1 => ?_) (fun c_1 => ?_)
  · have hf := ifp c_1 hf
    exact ke38 _ (Option.some.inj hf).symm _ (lv_sub hl [1] rfl)
  · have hf := ifn c_1 hf
    refine lv_iload_n hx hb dX0_greatest_16 rfl (lv_at hl 1 rfl) ?_
    refine lv_aload_n hx hb dX0_greatest_17 rfl (lv_at hl 0 rfl) ?_
    refine lv_iload_n hx hb dX0_greatest_18 rfl (lv_at hl 2 rfl) ?_
    obtain ⟨r_2, e_3, hf⟩ := bo hf
    refine cC_manyAlike B hK va_S.rf hP e_3 ⟨Nat.le_of_ble_eq_true rfl, Nat.le_of_ble_eq_true rfl⟩ ⟨Nat.zero_le _, Nat.zero_le _⟩ hl.1 (Nat.le_of_ble_eq_true rfl) dX0_greatest_19 ?_
    refine w_max B hl.1 q1181 q813 q104 q814 (Nat.le_of_ble_eq_true rfl) (Nat.le_of_ble_eq_true rfl) (Nat.le_of_ble_eq_true rfl) (Nat.zero_le _) (Nat.zero_le _) dX0_greatest_22 ?_
    obtain ⟨x_4, e_5, hf⟩ := bo hf
    refine w_istore_n (lv' := [(1, .int x_4), (0, .ref (ca 0)), (2, .int x2)]) e_5 hx hb dX0_greatest_25 rfl hl (by decide) rfl (fun ls hl => ?_)
    refine lv_aload_n hx hb dX0_greatest_26 rfl (lv_at hl 1 rfl) ?_
    refine co_this_g0 B hK hP dX0_greatest_27 ?_
    refine lv_iload_n hx hb dX0_greatest_30 rfl (lv_at hl 2 rfl) ?_
    obtain ⟨r_6, e_7, hf⟩ := bo hf
    refine cCF_next B hK va_S.rf hP e_7 ⟨Nat.le_of_ble_eq_true rfl, Nat.le_of_ble_eq_true rfl⟩ ⟨Nat.zero_le _, Nat.zero_le _⟩ hl.1 (Nat.le_of_ble_eq_true rfl) dX0_greatest_31 ?_
    refine lv_istore_n (lv' := [(2, .int r_6), (1, .int x_4), (0, .ref (ca 0))]) hx hb dX0_greatest_34 rfl hl (by decide) rfl (fun ls hl => ?_)
    refine lv_goto (tgt := 11) hx hb dX0_greatest_35 (by decide) ?_
    exact kc _ _ (Option.some.inj hf).symm _ (lv_sub hl [2, 1, 0] rfl)

set_option maxHeartbeats 4000000 in
theorem vC_greatest_L11 (B : CallFix p m c cX0_greatest 3 s args lw_all RX0) (hK : KK X s) {w : CW} (hP : va_P X.2.2.1 vwCl (CP X ca fa w ++ rest) s.heap) {x1 : Int32} {x2 : Int32} {res : Int32} (hf : lp (fun q : Int32 × Int32 => fC_greatest_L11 w q.1 q.2) (x1, x2) = some res) (ke38 : ∀ (y1 : Int32), res = y1 → ∀ (ls : Array Slot), lv_has ls 3 [(1, .int y1)] → W p l e (RM 5 109) s m args below meth c s.heap [] 0 0 Q (F0 m 38 ls [])) {ls : Array Slot} (hl : lv_has ls 3 [(0, .ref (ca 0)), (1, .int x1), (2, .int x2)]) : W p l e (RM 5 109) s m args below meth c s.heap [] 0 0 Q (F0 m 11 ls []) := by
  refine lp_ind (r := res) (P := fun q : Int32 × Int32 => ∀ (ls : Array Slot), lv_has ls 3 [(0, .ref (ca 0)), (1, .int q.1), (2, .int q.2)] → W p l e (RM 5 109) s m args below meth c s.heap [] 0 0 Q (F0 m 11 ls [])) ?_ ?_ _ hf _ hl
  · intro q hb ls hl
    exact wC_greatest_L11 B hK hP hb (fun _ _ h => by cases h) (fun z0 h => ke38 z0 (Sum.inr.inj h)) hl
  · intro q q2 hb ih ls hl
    exact wC_greatest_L11 B hK hP hb (fun z0 z1 h => by cases h; exact fun ls hl => ih ls hl) (fun _ h => by cases h) hl

noncomputable def fC_greatest (w : CW)  : Option (Int32) :=
  (fF_next (cfe w) (-1)).bind fun r_1 =>
  (lp (fun q : Int32 × Int32 => fC_greatest_L11 w q.1 q.2) (0, r_1)).bind (
    fun q_4 => (fun (y_3 : Int32) =>
      some y_3
    ) q_4
  )

set_option maxHeartbeats 4000000 in
theorem wC_greatest (B : CallFix p m c cX0_greatest 3 s args lw_all RX0) (hK : KK X s) {w : CW} (hP : va_P X.2.2.1 vwCl (CP X ca fa w ++ rest) s.heap)  {res : Int32} (hf : fC_greatest w  = some res) (kr : ∀ (r : Int32), res = r → ∀ (pc : Nat) (ls : Array Slot), decode cX0_greatest pc = .ok (.ireturn, 1) → W p l e (RM 5 109) s m args below meth c s.heap [] 0 0 Q (F0 m pc ls [.int r])) {ls : Array Slot} (hl : lv_has ls 3 [(0, .ref (ca 0))]) : W p l e (RM 5 109) s m args below meth c s.heap [] 0 0 Q (F0 m 0 ls []) := by
  have hx := B.1
  have hb := B.2.1
  unfold fC_greatest at hf
  refine lv_iconst (v := 0) hx hb dX0_greatest_0 (by decide) ?_
  refine lv_istore_n (lv' := [(1, .int 0), (0, .ref (ca 0))]) hx hb dX0_greatest_1 rfl hl (by decide) rfl (fun ls hl => ?_)
  refine lv_aload_n hx hb dX0_greatest_2 rfl (lv_at hl 1 rfl) ?_
  refine co_this_g0 B hK hP dX0_greatest_3 ?_
  refine lv_iconst (v := (-1)) hx hb dX0_greatest_6 (by decide) ?_
  obtain ⟨r_1, e_2, hf⟩ := bo hf
  refine cCF_next B hK va_S.rf hP e_2 ⟨Nat.le_of_ble_eq_true rfl, Nat.le_of_ble_eq_true rfl⟩ ⟨Nat.zero_le _, Nat.zero_le _⟩ hl.1 (Nat.le_of_ble_eq_true rfl) dX0_greatest_7 ?_
  refine lv_istore_n (lv' := [(2, .int r_1), (1, .int 0), (0, .ref (ca 0))]) hx hb dX0_greatest_10 rfl hl (by decide) rfl (fun ls hl => ?_)
  obtain ⟨y_3, e_5, hf⟩ := bo hf
  try dsimp only at hf
  refine vC_greatest_L11 B hK hP e_5 ?_ (lv_sub hl [2, 1, 0] rfl)
  intro z0 hz
  cases hz
  intro ls hl
  refine lv_iload_n hx hb dX0_greatest_38 rfl (lv_at hl 0 rfl) ?_
  exact kr _ (Option.some.inj hf).symm _ _ dX0_greatest_39

theorem tC_greatest (l : Launch) (X : CX) (ca fa : Nat → Nat) (rest : va_W) (w : CW)  (r : Int32) (hf : fC_greatest w  = some r) : RO l yX0_greatest cX0_greatest 3 (some .int) 5 109 [.ref (ca 0)] X (CP X ca fa w ++ rest) (some (.int r)) := by
  refine RO.mk (by decide) (Nat.le_of_ble_eq_true rfl) ?_
  intro p e s m below meth c B hr hlk hK hP ls hl
  exact wC_greatest B hK hP hf (fun r h pc ls hd => by cases h; exact w_iretR B hr hlk rfl hd) hl
end S_C_greatest

section S_C_blind
variable {p : Program} {l : Launch} {e : Env} {R : Room} {s : State} {m : MethodId} {args : Array Value} {below : List Frame} {meth : Method} {c : Code} {H : Heap} {locs : List Loc} {cells slots : Nat} {Q : State → Prop} {cc : ByteArray} {nL pc : Nat} {ls : Array Slot} {st : List Value} {X : CX} {rest : va_W} {ca fa : Nat → Nat}
noncomputable def fC_blind_J33_L11 (w : CW) (x2 : Int32) (t0 : Int32) (t1 : Int32) : Option ((Int32 × Int32) ⊕ (Int32)) :=
  (some (t0 + t1)).bind fun x_1 =>
  (fF_next (cfe w) x2).bind fun r_3 =>
  some (.inl (x_1, r_3))

set_option maxHeartbeats 4000000 in
theorem wC_blind_J33_L11 (B : CallFix p m c cX0_blind 3 s args lw_all RX0) (hK : KK X s) {w : CW} (hP : va_P X.2.2.1 vwCl (CP X ca fa w ++ rest) s.heap) {x2 : Int32} {t0 : Int32} {t1 : Int32} {res : (Int32 × Int32) ⊕ (Int32)} (hf : fC_blind_J33_L11 w x2 t0 t1 = some res) (kc : ∀ (y1 : Int32) (y2 : Int32), res = .inl (y1, y2) → ∀ (ls : Array Slot), lv_has ls 3 [(0, .ref (ca 0)), (1, .int y1), (2, .int y2)] → W p l e (RM 4 86) s m args below meth c s.heap [] 0 0 Q (F0 m 11 ls [])) (ke47 : ∀ (y1 : Int32), res = .inr y1 → ∀ (ls : Array Slot), lv_has ls 3 [(1, .int y1)] → W p l e (RM 4 86) s m args below meth c s.heap [] 0 0 Q (F0 m 47 ls [])) {ls : Array Slot} (hl : lv_has ls 3 [(0, .ref (ca 0)), (2, .int x2)]) : W p l e (RM 4 86) s m args below meth c s.heap [] 0 0 Q (F0 m 33 ls [.int t1, .int t0]) := by
  have hx := B.1
  have hb := B.2.1
  unfold fC_blind_J33_L11 at hf
  refine lv_iadd hx hb dX0_blind_33 ?_
  obtain ⟨x_1, e_2, hf⟩ := bo hf
  refine w_istore_n (lv' := [(1, .int x_1), (0, .ref (ca 0)), (2, .int x2)]) e_2 hx hb dX0_blind_34 rfl hl (by decide) rfl (fun ls hl => ?_)
  refine lv_aload_n hx hb dX0_blind_35 rfl (lv_at hl 1 rfl) ?_
  refine co_this_g0 B hK hP dX0_blind_36 ?_
  refine lv_iload_n hx hb dX0_blind_39 rfl (lv_at hl 2 rfl) ?_
  obtain ⟨r_3, e_4, hf⟩ := bo hf
  refine cCF_next B hK va_S.rf hP e_4 ⟨Nat.le_of_ble_eq_true rfl, Nat.le_of_ble_eq_true rfl⟩ ⟨Nat.zero_le _, Nat.zero_le _⟩ hl.1 (Nat.le_of_ble_eq_true rfl) dX0_blind_40 ?_
  refine lv_istore_n (lv' := [(2, .int r_3), (1, .int x_1), (0, .ref (ca 0))]) hx hb dX0_blind_43 rfl hl (by decide) rfl (fun ls hl => ?_)
  refine lv_goto (tgt := 11) hx hb dX0_blind_44 (by decide) ?_
  exact kc _ _ (Option.some.inj hf).symm _ (lv_sub hl [2, 1, 0] rfl)

noncomputable def fC_blind_L11 (w : CW) (x1 : Int32) (x2 : Int32) : Option ((Int32 × Int32) ⊕ (Int32)) :=
  if x2 = (-1) then
    some (.inr x1)
  else
    (rd w.2.2.1 70 x2).bind fun v_2 =>
    if (lg_cmp v_2 0) = 0 then
      fC_blind_J33_L11 w x2 x1 1
    else
      fC_blind_J33_L11 w x2 x1 0

set_option maxHeartbeats 4000000 in
theorem wC_blind_L11 (B : CallFix p m c cX0_blind 3 s args lw_all RX0) (hK : KK X s) {w : CW} (hP : va_P X.2.2.1 vwCl (CP X ca fa w ++ rest) s.heap) {x1 : Int32} {x2 : Int32} {res : (Int32 × Int32) ⊕ (Int32)} (hf : fC_blind_L11 w x1 x2 = some res) (kc : ∀ (y1 : Int32) (y2 : Int32), res = .inl (y1, y2) → ∀ (ls : Array Slot), lv_has ls 3 [(0, .ref (ca 0)), (1, .int y1), (2, .int y2)] → W p l e (RM 4 86) s m args below meth c s.heap [] 0 0 Q (F0 m 11 ls [])) (ke47 : ∀ (y1 : Int32), res = .inr y1 → ∀ (ls : Array Slot), lv_has ls 3 [(1, .int y1)] → W p l e (RM 4 86) s m args below meth c s.heap [] 0 0 Q (F0 m 47 ls [])) {ls : Array Slot} (hl : lv_has ls 3 [(0, .ref (ca 0)), (1, .int x1), (2, .int x2)]) : W p l e (RM 4 86) s m args below meth c s.heap [] 0 0 Q (F0 m 11 ls []) := by
  have hx := B.1
  have hb := B.2.1
  unfold fC_blind_L11 at hf
  refine lv_iload_n hx hb dX0_blind_11 rfl (lv_at hl 2 rfl) ?_
  refine lv_iconst (v := (-1)) hx hb dX0_blind_12 (by decide) ?_
  refine lv_icmp_eq (tgt := 47) hx hb dX0_blind_13 (by decide) (fun c_1 => ?_) (fun c_1 => ?_)
  · have hf := ifp c_1 hf
    exact ke47 _ (Option.some.inj hf).symm _ (lv_sub hl [1] rfl)
  · have hf := ifn c_1 hf
    refine lv_iload_n hx hb dX0_blind_16 rfl (lv_at hl 1 rfl) ?_
    refine lv_aload_n hx hb dX0_blind_17 rfl (lv_at hl 0 rfl) ?_
    refine co_this_g3 B hK hP dX0_blind_18 ?_
    refine lv_iload_n hx hb dX0_blind_21 rfl (lv_at hl 2 rfl) ?_
    obtain ⟨v_2, e_3, hf⟩ := bo hf
    refine co_told_l B hK hP e_3 dX0_blind_22 ?_
    refine lv_lconst (v := 0) hx hb dX0_blind_23 (by decide) ?_
    refine W.lcmp hx hb dX0_blind_24 ?_
    refine lv_if_ne (tgt := 32) hx hb dX0_blind_25 (by decide) (fun c_4 => ?_) (fun c_4 => ?_)
    · have hf := ifn c_4 hf
      refine lv_iconst (v := 0) hx hb dX0_blind_32 (by decide) ?_
      exact wC_blind_J33_L11 B hK hP hf kc ke47 (lv_sub hl [0, 2] rfl)
    · have hf := ifp c_4 hf
      refine lv_iconst (v := 1) hx hb dX0_blind_28 (by decide) ?_
      refine lv_goto (tgt := 33) hx hb dX0_blind_29 (by decide) ?_
      exact wC_blind_J33_L11 B hK hP hf kc ke47 (lv_sub hl [0, 2] rfl)

set_option maxHeartbeats 4000000 in
theorem vC_blind_L11 (B : CallFix p m c cX0_blind 3 s args lw_all RX0) (hK : KK X s) {w : CW} (hP : va_P X.2.2.1 vwCl (CP X ca fa w ++ rest) s.heap) {x1 : Int32} {x2 : Int32} {res : Int32} (hf : lp (fun q : Int32 × Int32 => fC_blind_L11 w q.1 q.2) (x1, x2) = some res) (ke47 : ∀ (y1 : Int32), res = y1 → ∀ (ls : Array Slot), lv_has ls 3 [(1, .int y1)] → W p l e (RM 4 86) s m args below meth c s.heap [] 0 0 Q (F0 m 47 ls [])) {ls : Array Slot} (hl : lv_has ls 3 [(0, .ref (ca 0)), (1, .int x1), (2, .int x2)]) : W p l e (RM 4 86) s m args below meth c s.heap [] 0 0 Q (F0 m 11 ls []) := by
  refine lp_ind (r := res) (P := fun q : Int32 × Int32 => ∀ (ls : Array Slot), lv_has ls 3 [(0, .ref (ca 0)), (1, .int q.1), (2, .int q.2)] → W p l e (RM 4 86) s m args below meth c s.heap [] 0 0 Q (F0 m 11 ls [])) ?_ ?_ _ hf _ hl
  · intro q hb ls hl
    exact wC_blind_L11 B hK hP hb (fun _ _ h => by cases h) (fun z0 h => ke47 z0 (Sum.inr.inj h)) hl
  · intro q q2 hb ih ls hl
    exact wC_blind_L11 B hK hP hb (fun z0 z1 h => by cases h; exact fun ls hl => ih ls hl) (fun _ h => by cases h) hl

noncomputable def fC_blind (w : CW)  : Option (Int32) :=
  (fF_next (cfe w) (-1)).bind fun r_1 =>
  (lp (fun q : Int32 × Int32 => fC_blind_L11 w q.1 q.2) (0, r_1)).bind (
    fun q_4 => (fun (y_3 : Int32) =>
      some y_3
    ) q_4
  )

set_option maxHeartbeats 4000000 in
theorem wC_blind (B : CallFix p m c cX0_blind 3 s args lw_all RX0) (hK : KK X s) {w : CW} (hP : va_P X.2.2.1 vwCl (CP X ca fa w ++ rest) s.heap)  {res : Int32} (hf : fC_blind w  = some res) (kr : ∀ (r : Int32), res = r → ∀ (pc : Nat) (ls : Array Slot), decode cX0_blind pc = .ok (.ireturn, 1) → W p l e (RM 4 86) s m args below meth c s.heap [] 0 0 Q (F0 m pc ls [.int r])) {ls : Array Slot} (hl : lv_has ls 3 [(0, .ref (ca 0))]) : W p l e (RM 4 86) s m args below meth c s.heap [] 0 0 Q (F0 m 0 ls []) := by
  have hx := B.1
  have hb := B.2.1
  unfold fC_blind at hf
  refine lv_iconst (v := 0) hx hb dX0_blind_0 (by decide) ?_
  refine lv_istore_n (lv' := [(1, .int 0), (0, .ref (ca 0))]) hx hb dX0_blind_1 rfl hl (by decide) rfl (fun ls hl => ?_)
  refine lv_aload_n hx hb dX0_blind_2 rfl (lv_at hl 1 rfl) ?_
  refine co_this_g0 B hK hP dX0_blind_3 ?_
  refine lv_iconst (v := (-1)) hx hb dX0_blind_6 (by decide) ?_
  obtain ⟨r_1, e_2, hf⟩ := bo hf
  refine cCF_next B hK va_S.rf hP e_2 ⟨Nat.le_of_ble_eq_true rfl, Nat.le_of_ble_eq_true rfl⟩ ⟨Nat.zero_le _, Nat.zero_le _⟩ hl.1 (Nat.le_of_ble_eq_true rfl) dX0_blind_7 ?_
  refine lv_istore_n (lv' := [(2, .int r_1), (1, .int 0), (0, .ref (ca 0))]) hx hb dX0_blind_10 rfl hl (by decide) rfl (fun ls hl => ?_)
  obtain ⟨y_3, e_5, hf⟩ := bo hf
  try dsimp only at hf
  refine vC_blind_L11 B hK hP e_5 ?_ (lv_sub hl [2, 1, 0] rfl)
  intro z0 hz
  cases hz
  intro ls hl
  refine lv_iload_n hx hb dX0_blind_47 rfl (lv_at hl 0 rfl) ?_
  exact kr _ (Option.some.inj hf).symm _ _ dX0_blind_48

theorem tC_blind (l : Launch) (X : CX) (ca fa : Nat → Nat) (rest : va_W) (w : CW)  (r : Int32) (hf : fC_blind w  = some r) : RO l yX0_blind cX0_blind 3 (some .int) 4 86 [.ref (ca 0)] X (CP X ca fa w ++ rest) (some (.int r)) := by
  refine RO.mk (by decide) (Nat.le_of_ble_eq_true rfl) ?_
  intro p e s m below meth c B hr hlk hK hP ls hl
  exact wC_blind B hK hP hf (fun r h pc ls hd => by cases h; exact w_iretR B hr hlk rfl hd) hl
end S_C_blind

section K_cC_allPosts
variable {p : Program} {l : Launch} {e : Env} {R : Room} {s : State} {m : MethodId} {args : Array Value} {below : List Frame} {meth : Method} {c : Code} {H : Heap} {locs : List Loc} {cells slots : Nat} {Q : State → Prop} {cc : ByteArray} {nL pc : Nat} {ls : Array Slot} {st : List Value} {X : CX} {rest : va_W} {ca fa : Nat → Nat}
theorem cC_allPosts (B : CallFix p m c cc nL s args lw_all RX0) (hK : KK X s) (hS : va_S (Az X) s.heap H locs) {w : CW} (hP : va_P X.2.2.1 vwCl (CP X ca fa w ++ rest) H)  {r : Int32} (hf : fC_allPosts w  = some r) (hR : 0 + 1 ≤ R.frames ∧ 20 ≤ R.locals) (hcs : cells ≤ R.cells ∧ slots ≤ R.slots) (hl : ls.size = nL) (hcat : (st.map fun v => v.category).sum ≤ 8) (hdg : decode cc pc = .ok (.invokevirtual 300, 3)) (kk : W p l e R s m args below meth c H locs cells slots Q (F0 m (pc + 3) ls (.int r :: st))) : W p l e R s m args below meth c H locs cells slots Q (F0 m pc ls (.ref (ca 0) :: st)) :=
  w_afterR (w_rV_RO (ws := CP X ca fa w ++ rest) (As := []) B hK hS hP (tC_allPosts l X ca fa rest w  r hf) (lw_V q1196 q1198 qs22 q87 q1199) 8 rfl rfl (n := 0) (by decide +kernel) hR hcs rfl hl rfl hcat hdg) kk
end K_cC_allPosts

section K_cC_groups_n
variable {p : Program} {l : Launch} {e : Env} {R : Room} {s : State} {m : MethodId} {args : Array Value} {below : List Frame} {meth : Method} {c : Code} {H : Heap} {locs : List Loc} {cells slots : Nat} {Q : State → Prop} {cc : ByteArray} {nL pc : Nat} {ls : Array Slot} {st : List Value} {X : CX} {rest : va_W} {ca fa : Nat → Nat}
theorem cC_groups_n (B : CallFix p m c cc nL s args lw_all RX0) (hK : KK X s) {w : CW} (hG : GG X (CP X ca fa w ++ rest) s.heap H locs) {x1 : Int32} {r : Int32} {f1 : CW} {w' : CW} (hf : fC_groups_n w x1 = some (r, f1)) (hw : some (f1) = some w') (hR : 8 + 1 ≤ R.frames ∧ 200 ≤ R.locals) (hcs : cells ≤ R.cells ∧ slots ≤ R.slots) (hl : ls.size = nL) (hcat : (st.map fun v => v.category).sum ≤ 8) (hdg : decode cc pc = .ok (.invokevirtual 310, 3)) (kk : ∀ (H1 : Heap) (locs1 : List Loc), GG X (CP X ca fa (w') ++ rest) s.heap H1 locs1 → W p l e R s m args below meth c H1 locs1 cells slots Q (F0 m (pc + 3) ls (.int r :: st))) : W p l e R s m args below meth c H locs cells slots Q (F0 m pc ls (.null :: .int x1 :: .ref (ca 0) :: st)) := by
  cases hw
  exact w_afterW (w_rV_RW (ws := CP X ca fa w ++ rest) (As := [.int x1, .null]) B hK hG (tC_groups_n l X ca fa rest w f1 x1 r hf) (lw_V q1226 q1228 qs25 q87 q1229) 8 rfl rfl (n := 2) (by decide +kernel) hR hcs rfl hl rfl hcat hdg) hG.2.2 kk
end K_cC_groups_n

section K_cC_blind
variable {p : Program} {l : Launch} {e : Env} {R : Room} {s : State} {m : MethodId} {args : Array Value} {below : List Frame} {meth : Method} {c : Code} {H : Heap} {locs : List Loc} {cells slots : Nat} {Q : State → Prop} {cc : ByteArray} {nL pc : Nat} {ls : Array Slot} {st : List Value} {X : CX} {rest : va_W} {ca fa : Nat → Nat}
theorem cC_blind (B : CallFix p m c cc nL s args lw_all RX0) (hK : KK X s) (hS : va_S (Az X) s.heap H locs) {w : CW} (hP : va_P X.2.2.1 vwCl (CP X ca fa w ++ rest) H)  {r : Int32} (hf : fC_blind w  = some r) (hR : 4 + 1 ≤ R.frames ∧ 108 ≤ R.locals) (hcs : cells ≤ R.cells ∧ slots ≤ R.slots) (hl : ls.size = nL) (hcat : (st.map fun v => v.category).sum ≤ 8) (hdg : decode cc pc = .ok (.invokevirtual 330, 3)) (kk : W p l e R s m args below meth c H locs cells slots Q (F0 m (pc + 3) ls (.int r :: st))) : W p l e R s m args below meth c H locs cells slots Q (F0 m pc ls (.ref (ca 0) :: st)) :=
  w_afterR (w_rV_RO (ws := CP X ca fa w ++ rest) (As := []) B hK hS hP (tC_blind l X ca fa rest w  r hf) (lw_V q1251 q1253 qs28 q87 q1254) 8 rfl rfl (n := 0) (by decide +kernel) hR hcs rfl hl rfl hcat hdg) kk
end K_cC_blind

section K_cC_greatest
variable {p : Program} {l : Launch} {e : Env} {R : Room} {s : State} {m : MethodId} {args : Array Value} {below : List Frame} {meth : Method} {c : Code} {H : Heap} {locs : List Loc} {cells slots : Nat} {Q : State → Prop} {cc : ByteArray} {nL pc : Nat} {ls : Array Slot} {st : List Value} {X : CX} {rest : va_W} {ca fa : Nat → Nat}
theorem cC_greatest (B : CallFix p m c cc nL s args lw_all RX0) (hK : KK X s) (hS : va_S (Az X) s.heap H locs) {w : CW} (hP : va_P X.2.2.1 vwCl (CP X ca fa w ++ rest) H)  {r : Int32} (hf : fC_greatest w  = some r) (hR : 5 + 1 ≤ R.frames ∧ 131 ≤ R.locals) (hcs : cells ≤ R.cells ∧ slots ≤ R.slots) (hl : ls.size = nL) (hcat : (st.map fun v => v.category).sum ≤ 8) (hdg : decode cc pc = .ok (.invokevirtual 327, 3)) (kk : W p l e R s m args below meth c H locs cells slots Q (F0 m (pc + 3) ls (.int r :: st))) : W p l e R s m args below meth c H locs cells slots Q (F0 m pc ls (.ref (ca 0) :: st)) :=
  w_afterR (w_rV_RO (ws := CP X ca fa w ++ rest) (As := []) B hK hS hP (tC_greatest l X ca fa rest w  r hf) (lw_V q1247 q1249 qs27 q87 q1250) 8 rfl rfl (n := 0) (by decide +kernel) hR hcs rfl hl rfl hcat hdg) kk
end K_cC_greatest

section S_C_apart
variable {p : Program} {l : Launch} {e : Env} {R : Room} {s : State} {m : MethodId} {args : Array Value} {below : List Frame} {meth : Method} {c : Code} {H : Heap} {locs : List Loc} {cells slots : Nat} {Q : State → Prop} {cc : ByteArray} {nL pc : Nat} {ls : Array Slot} {st : List Value} {X : CX} {rest : va_W} {ca fa : Nat → Nat}
noncomputable def fC_apart (w : CW) (x1 : Int32) : Option (Int32 × CW) :=
  (fC_isIn x1 0 2).bind fun r_1 =>
  if r_1 = 0 then
    b2 (fC_no w (-2)) fun r_21 f_18 =>
    (some (f_18)).bind fun w_19 =>
    some (r_21, w_19)
  else
    (fC_allPosts w ).bind fun r_4 =>
    b2 (fC_groups_n w r_4) fun r_10 f_7 =>
    (some (f_7)).bind fun w_8 =>
    if x1 = 0 then
      some (r_10, w_8)
    else
      if x1 = 1 then
        (fC_greatest w_8 ).bind fun r_15 =>
        some (r_15, w_8)
      else
        (fC_blind w_8 ).bind fun r_13 =>
        some (r_13, w_8)

set_option maxHeartbeats 4000000 in
theorem wC_apart (B : CallFix p m c cX0_apart 3 s args lw_all RX0) (hK : KK X s) {w : CW} {x1 : Int32} {res : Int32 × CW} (hf : fC_apart w x1 = some res) (kr : ∀ (r : Int32) (w1 : CW), res = (r, w1) → ∀ (H : Heap) (locs : List Loc), GG X (CP X ca fa w1 ++ rest) s.heap H locs → ∀ (pc : Nat) (ls : Array Slot), decode cX0_apart pc = .ok (.ireturn, 1) → W p l e (RMw 9 0 0 200) s m args below meth c H locs 0 0 Q (F0 m pc ls [.int r])) {H : Heap} {locs : List Loc} (hG : GG X (CP X ca fa w ++ rest) s.heap H locs) {ls : Array Slot} (hl : lv_has ls 3 [(0, .ref (ca 0)), (1, .int x1)]) : W p l e (RMw 9 0 0 200) s m args below meth c H locs 0 0 Q (F0 m 0 ls []) := by
  have hx := B.1
  have hb := B.2.1
  unfold fC_apart at hf
  refine lv_iload_n hx hb dX0_apart_0 rfl (lv_at hl 1 rfl) ?_
  refine lv_iconst (v := 0) hx hb dX0_apart_1 (by decide) ?_
  refine lv_iconst (v := 2) hx hb dX0_apart_2 (by decide) ?_
  obtain ⟨r_1, e_2, hf⟩ := bo hf
  refine cC_isIn B e_2 ⟨Nat.le_of_ble_eq_true rfl, Nat.le_of_ble_eq_true rfl⟩ ⟨Nat.zero_le _, Nat.zero_le _⟩ hl.1 (Nat.le_of_ble_eq_true rfl) dX0_apart_3 ?_
  refine lv_if_ne (tgt := 16) hx hb dX0_apart_6 (by decide) (fun c_3 => ?_) (fun c_3 => ?_)
  · have hf := ifn c_3 hf
    refine lv_aload_n hx hb dX0_apart_16 rfl (lv_at hl 0 rfl) ?_
    refine lv_aload_n hx hb dX0_apart_17 rfl (lv_at hl 0 rfl) ?_
    obtain ⟨r_4, e_5, hf⟩ := bo hf
    refine cC_allPosts B hK hG.2.2 hG.1 e_5 ⟨Nat.le_of_ble_eq_true rfl, Nat.le_of_ble_eq_true rfl⟩ ⟨Nat.zero_le _, Nat.zero_le _⟩ hl.1 (Nat.le_of_ble_eq_true rfl) dX0_apart_18 ?_
    refine lv_null hx hb dX0_apart_21 ?_
    obtain ⟨r_10, f_7, e_6, hf⟩ := b2s hf
    obtain ⟨w_8, e_9, hf⟩ := bo hf
    refine cC_groups_n B hK hG e_6 e_9 ⟨Nat.le_of_ble_eq_true rfl, Nat.le_of_ble_eq_true rfl⟩ ⟨Nat.zero_le _, Nat.zero_le _⟩ hl.1 (Nat.le_of_ble_eq_true rfl) dX0_apart_22 (fun H locs hG => ?_)
    refine lv_istore_n (lv' := [(2, .int r_10), (0, .ref (ca 0)), (1, .int x1)]) hx hb dX0_apart_25 rfl hl (by decide) rfl (fun ls hl => ?_)
    refine lv_iload_n hx hb dX0_apart_26 rfl (lv_at hl 2 rfl) ?_
    refine lv_if_ne (tgt := 34) hx hb dX0_apart_27 (by decide) (fun c_11 => ?_) (fun c_11 => ?_)
    · have hf := ifn c_11 hf
      refine lv_iload_n hx hb dX0_apart_34 rfl (lv_at hl 2 rfl) ?_
      refine lv_iconst (v := 1) hx hb dX0_apart_35 (by decide) ?_
      refine lv_icmp_ne (tgt := 46) hx hb dX0_apart_36 (by decide) (fun c_12 => ?_) (fun c_12 => ?_)
      · have hf := ifn c_12 hf
        refine lv_aload_n hx hb dX0_apart_46 rfl (lv_at hl 1 rfl) ?_
        obtain ⟨r_13, e_14, hf⟩ := bo hf
        refine cC_blind B hK hG.2.2 hG.1 e_14 ⟨Nat.le_of_ble_eq_true rfl, Nat.le_of_ble_eq_true rfl⟩ ⟨Nat.zero_le _, Nat.zero_le _⟩ hl.1 (Nat.le_of_ble_eq_true rfl) dX0_apart_47 ?_
        exact kr _ _ (Option.some.inj hf).symm _ _ hG _ _ dX0_apart_50
      · have hf := ifp c_12 hf
        refine lv_aload_n hx hb dX0_apart_39 rfl (lv_at hl 1 rfl) ?_
        obtain ⟨r_15, e_16, hf⟩ := bo hf
        refine cC_greatest B hK hG.2.2 hG.1 e_16 ⟨Nat.le_of_ble_eq_true rfl, Nat.le_of_ble_eq_true rfl⟩ ⟨Nat.zero_le _, Nat.zero_le _⟩ hl.1 (Nat.le_of_ble_eq_true rfl) dX0_apart_40 ?_
        refine lv_goto (tgt := 50) hx hb dX0_apart_43 (by decide) ?_
        exact kr _ _ (Option.some.inj hf).symm _ _ hG _ _ dX0_apart_50
    · have hf := ifp c_11 hf
      refine lv_iload_n hx hb dX0_apart_30 rfl (lv_at hl 0 rfl) ?_
      refine lv_goto (tgt := 50) hx hb dX0_apart_31 (by decide) ?_
      exact kr _ _ (Option.some.inj hf).symm _ _ hG _ _ dX0_apart_50
  · have hf := ifp c_3 hf
    refine lv_aload_n hx hb dX0_apart_9 rfl (lv_at hl 0 rfl) ?_
    refine lv_bipush (v := (-2)) hx hb dX0_apart_10 (by decide) ?_
    obtain ⟨r_21, f_18, e_17, hf⟩ := b2s hf
    obtain ⟨w_19, e_20, hf⟩ := bo hf
    refine cC_no B hK hG e_17 e_20 ⟨Nat.le_of_ble_eq_true rfl, Nat.le_of_ble_eq_true rfl⟩ ⟨Nat.zero_le _, Nat.zero_le _⟩ hl.1 (Nat.le_of_ble_eq_true rfl) dX0_apart_12 (fun H locs hG => ?_)
    exact kr _ _ (Option.some.inj hf).symm _ _ hG _ _ dX0_apart_15

theorem tC_apart (l : Launch) (X : CX) (ca fa : Nat → Nat) (rest : va_W) (w w' : CW) (x1 : Int32) (r : Int32) (hf : fC_apart w x1 = some (r, w')) : RW l yX0_apart cX0_apart 3 (some .int) 9 0 0 200 [.ref (ca 0), .int x1] X (CP X ca fa w ++ rest) (CP X ca fa (w') ++ rest) (some (.int r)) := by
  refine RW.mk (by decide) (Nat.le_of_ble_eq_true rfl) ?_
  intro p e s m below meth c B hr hlk hK hG ls hl
  exact wC_apart B hK hf (fun r w h H locs hG pc ls hd => by cases h; exact w_iretW B hr hlk hG hd) hG hl
end S_C_apart

section K_cCJ_bitCount
variable {p : Program} {l : Launch} {e : Env} {R : Room} {s : State} {m : MethodId} {args : Array Value} {below : List Frame} {meth : Method} {c : Code} {H : Heap} {locs : List Loc} {cells slots : Nat} {Q : State → Prop} {cc : ByteArray} {nL pc : Nat} {ls : Array Slot} {st : List Value} {X : CX} {rest : va_W}
theorem cCJ_bitCount (B : CallFix p m c cc nL s args lw_all RX0) {x0 : Int32} {r : Int32} (hf : fJ_bitCount x0 = some r) (hR : 0 + 1 ≤ R.frames ∧ 20 ≤ R.locals) (hcs : cells ≤ R.cells ∧ slots ≤ R.slots) (hl : ls.size = nL) (hcat : (st.map fun v => v.category).sum ≤ 8) (hdg : decode cc pc = .ok (.invokestatic 333, 3)) (kk : W p l e R s m args below meth c H locs cells slots Q (F0 m (pc + 3) ls (.int r :: st))) : W p l e R s m args below meth c H locs cells slots Q (F0 m pc ls (.int x0 :: st)) :=
  w_afterR (w_rS_ST (As := [.int x0]) B (tJ_bitCount l x0 r hf) (lw_S q1259 q1260 q120 q1261) (n := 1) (by decide +kernel) hR hcs rfl hl rfl hcat hdg) kk
end K_cCJ_bitCount

section S_C_fewest
variable {p : Program} {l : Launch} {e : Env} {R : Room} {s : State} {m : MethodId} {args : Array Value} {below : List Frame} {meth : Method} {c : Code} {H : Heap} {locs : List Loc} {cells slots : Nat} {Q : State → Prop} {cc : ByteArray} {nL pc : Nat} {ls : Array Slot} {st : List Value} {X : CX} {rest : va_W} {ca fa : Nat → Nat}
noncomputable def fC_fewest_J82_L37 (w : CW) (x1 : Int32) (x2 : Int32) (x3 : Int32) (x4 : Int32) : Option ((Int32 × Int32 × CW) ⊕ (Int32 × CW)) :=
  (some (x4 + (Int32.ofInt (-1)))).bind fun x_1 =>
  some (.inl (x3, x_1, w))

set_option maxHeartbeats 4000000 in
theorem wC_fewest_J82_L37 (B : CallFix p m c cX0_fewest 6 s args lw_all RX0) (hK : KK X s) {w : CW} {x1 : Int32} {x2 : Int32} {x3 : Int32} {x4 : Int32} {res : (Int32 × Int32 × CW) ⊕ (Int32 × CW)} (hf : fC_fewest_J82_L37 w x1 x2 x3 x4 = some res) (kc : ∀ (y3 : Int32) (y4 : Int32) (w1 : CW), res = .inl (y3, y4, w1) → ∀ (H : Heap) (locs : List Loc), GG X (CP X ca fa w1 ++ rest) s.heap H locs → ∀ (ls : Array Slot), lv_has ls 6 [(0, .ref (ca 0)), (1, .int x1), (2, .int x2), (3, .int y3), (4, .int y4)] → W p l e (RMw 9 0 0 200) s m args below meth c H locs 0 0 Q (F0 m 37 ls [])) (ke90 : ∀ (y3 : Int32) (w1 : CW), res = .inr (y3, w1) → ∀ (H : Heap) (locs : List Loc), GG X (CP X ca fa w1 ++ rest) s.heap H locs → ∀ (ls : Array Slot), lv_has ls 6 [(1, .int x1), (3, .int y3)] → W p l e (RMw 9 0 0 200) s m args below meth c H locs 0 0 Q (F0 m 90 ls [])) {H : Heap} {locs : List Loc} (hG : GG X (CP X ca fa w ++ rest) s.heap H locs) {ls : Array Slot} (hl : lv_has ls 6 [(0, .ref (ca 0)), (1, .int x1), (2, .int x2), (3, .int x3), (4, .int x4)]) : W p l e (RMw 9 0 0 200) s m args below meth c H locs 0 0 Q (F0 m 82 ls []) := by
  have hx := B.1
  have hb := B.2.1
  unfold fC_fewest_J82_L37 at hf
  refine lv_iload_n hx hb dX0_fewest_82 rfl (lv_at hl 3 rfl) ?_
  refine lv_istore_n (lv' := [(3, .int x3), (0, .ref (ca 0)), (1, .int x1), (2, .int x2), (4, .int x4)]) hx hb dX0_fewest_83 rfl hl (by decide) rfl (fun ls hl => ?_)
  obtain ⟨x_1, e_2, hf⟩ := bo hf
  refine w_iinc (k := 4) (lv' := [(4, .int x_1), (3, .int x3), (0, .ref (ca 0)), (1, .int x1), (2, .int x2)]) e_2 hx hb dX0_fewest_84 hl rfl (by decide) rfl (fun ls hl => ?_)
  refine lv_goto (tgt := 37) hx hb dX0_fewest_87 (by decide) ?_
  exact kc _ _ _ (Option.some.inj hf).symm _ _ hG _ (lv_sub hl [2, 3, 4, 1, 0] rfl)

noncomputable def fC_fewest_J59_L37 (w : CW) (x1 : Int32) (x2 : Int32) (x3 : Int32) (x4 : Int32) (t0 : Int32) : Option ((Int32 × Int32 × CW) ⊕ (Int32 × CW)) :=
  if t0 = 0 then
    fC_fewest_J82_L37 w x1 x2 x3 x4
  else
    b2 (fC_groups_n w x4) fun r_6 f_3 =>
    (some (f_3)).bind fun w_4 =>
    if r_6 = x2 then
      (some (x4 + (Int32.ofInt (-1)))).bind fun x_8 =>
      some (.inl (x4, x_8, w_4))
    else
      fC_fewest_J82_L37 w_4 x1 x2 x3 x4

set_option maxHeartbeats 4000000 in
theorem wC_fewest_J59_L37 (B : CallFix p m c cX0_fewest 6 s args lw_all RX0) (hK : KK X s) {w : CW} {x1 : Int32} {x2 : Int32} {x3 : Int32} {x4 : Int32} {t0 : Int32} {res : (Int32 × Int32 × CW) ⊕ (Int32 × CW)} (hf : fC_fewest_J59_L37 w x1 x2 x3 x4 t0 = some res) (kc : ∀ (y3 : Int32) (y4 : Int32) (w1 : CW), res = .inl (y3, y4, w1) → ∀ (H : Heap) (locs : List Loc), GG X (CP X ca fa w1 ++ rest) s.heap H locs → ∀ (ls : Array Slot), lv_has ls 6 [(0, .ref (ca 0)), (1, .int x1), (2, .int x2), (3, .int y3), (4, .int y4)] → W p l e (RMw 9 0 0 200) s m args below meth c H locs 0 0 Q (F0 m 37 ls [])) (ke90 : ∀ (y3 : Int32) (w1 : CW), res = .inr (y3, w1) → ∀ (H : Heap) (locs : List Loc), GG X (CP X ca fa w1 ++ rest) s.heap H locs → ∀ (ls : Array Slot), lv_has ls 6 [(1, .int x1), (3, .int y3)] → W p l e (RMw 9 0 0 200) s m args below meth c H locs 0 0 Q (F0 m 90 ls [])) {H : Heap} {locs : List Loc} (hG : GG X (CP X ca fa w ++ rest) s.heap H locs) {ls : Array Slot} (hl : lv_has ls 6 [(0, .ref (ca 0)), (1, .int x1), (2, .int x2), (3, .int x3), (4, .int x4)]) : W p l e (RMw 9 0 0 200) s m args below meth c H locs 0 0 Q (F0 m 59 ls [.int t0]) := by
  have hx := B.1
  have hb := B.2.1
  unfold fC_fewest_J59_L37 at hf
  refine lv_istore (lv' := [(5, .int t0), (0, .ref (ca 0)), (1, .int x1), (2, .int x2), (3, .int x3), (4, .int x4)]) hx hb dX0_fewest_59 hl (by decide) rfl (fun ls hl => ?_)
  refine lv_iload hx hb dX0_fewest_61 (lv_at hl 0 rfl) ?_
  refine lv_if_eq (tgt := 82) hx hb dX0_fewest_63 (by decide) (fun c_1 => ?_) (fun c_1 => ?_)
  · have hf := ifp c_1 hf
    exact wC_fewest_J82_L37 B hK hf kc ke90 hG (lv_sub hl [1, 2, 3, 4, 5] rfl)
  · have hf := ifn c_1 hf
    refine lv_aload_n hx hb dX0_fewest_66 rfl (lv_at hl 1 rfl) ?_
    refine lv_iload hx hb dX0_fewest_67 (lv_at hl 5 rfl) ?_
    refine lv_null hx hb dX0_fewest_69 ?_
    obtain ⟨r_6, f_3, e_2, hf⟩ := b2s hf
    obtain ⟨w_4, e_5, hf⟩ := bo hf
    refine cC_groups_n B hK hG e_2 e_5 ⟨Nat.le_of_ble_eq_true rfl, Nat.le_of_ble_eq_true rfl⟩ ⟨Nat.zero_le _, Nat.zero_le _⟩ hl.1 (Nat.le_of_ble_eq_true rfl) dX0_fewest_70 (fun H locs hG => ?_)
    refine lv_iload_n hx hb dX0_fewest_73 rfl (lv_at hl 3 rfl) ?_
    refine lv_icmp_ne (tgt := 82) hx hb dX0_fewest_74 (by decide) (fun c_7 => ?_) (fun c_7 => ?_)
    · have hf := ifn c_7 hf
      exact wC_fewest_J82_L37 B hK hf kc ke90 hG (lv_sub hl [1, 2, 3, 4, 5] rfl)
    · have hf := ifp c_7 hf
      refine lv_iload hx hb dX0_fewest_77 (lv_at hl 5 rfl) ?_
      refine lv_goto (tgt := 83) hx hb dX0_fewest_79 (by decide) ?_
      refine lv_istore_n (lv' := [(3, .int x4), (5, .int t0), (0, .ref (ca 0)), (1, .int x1), (2, .int x2), (4, .int x4)]) hx hb dX0_fewest_83 rfl hl (by decide) rfl (fun ls hl => ?_)
      obtain ⟨x_8, e_9, hf⟩ := bo hf
      refine w_iinc (k := 5) (lv' := [(4, .int x_8), (3, .int x4), (5, .int t0), (0, .ref (ca 0)), (1, .int x1), (2, .int x2)]) e_9 hx hb dX0_fewest_84 hl rfl (by decide) rfl (fun ls hl => ?_)
      refine lv_goto (tgt := 37) hx hb dX0_fewest_87 (by decide) ?_
      exact kc _ _ _ (Option.some.inj hf).symm _ _ hG _ (lv_sub hl [3, 4, 5, 1, 0] rfl)

noncomputable def fC_fewest_L37 (w : CW) (x1 : Int32) (x2 : Int32) (x3 : Int32) (x4 : Int32) : Option ((Int32 × Int32 × CW) ⊕ (Int32 × CW)) :=
  if x4 < 0 then
    some (.inr (x3, w))
  else
    (fJ_bitCount x4).bind fun r_2 =>
    (fJ_bitCount x3).bind fun r_4 =>
    if r_4 < r_2 then
      fC_fewest_J59_L37 w x1 x2 x3 x4 0
    else
      fC_fewest_J59_L37 w x1 x2 x3 x4 1

set_option maxHeartbeats 4000000 in
theorem wC_fewest_L37 (B : CallFix p m c cX0_fewest 6 s args lw_all RX0) (hK : KK X s) {w : CW} {x1 : Int32} {x2 : Int32} {x3 : Int32} {x4 : Int32} {res : (Int32 × Int32 × CW) ⊕ (Int32 × CW)} (hf : fC_fewest_L37 w x1 x2 x3 x4 = some res) (kc : ∀ (y3 : Int32) (y4 : Int32) (w1 : CW), res = .inl (y3, y4, w1) → ∀ (H : Heap) (locs : List Loc), GG X (CP X ca fa w1 ++ rest) s.heap H locs → ∀ (ls : Array Slot), lv_has ls 6 [(0, .ref (ca 0)), (1, .int x1), (2, .int x2), (3, .int y3), (4, .int y4)] → W p l e (RMw 9 0 0 200) s m args below meth c H locs 0 0 Q (F0 m 37 ls [])) (ke90 : ∀ (y3 : Int32) (w1 : CW), res = .inr (y3, w1) → ∀ (H : Heap) (locs : List Loc), GG X (CP X ca fa w1 ++ rest) s.heap H locs → ∀ (ls : Array Slot), lv_has ls 6 [(1, .int x1), (3, .int y3)] → W p l e (RMw 9 0 0 200) s m args below meth c H locs 0 0 Q (F0 m 90 ls [])) {H : Heap} {locs : List Loc} (hG : GG X (CP X ca fa w ++ rest) s.heap H locs) {ls : Array Slot} (hl : lv_has ls 6 [(0, .ref (ca 0)), (1, .int x1), (2, .int x2), (3, .int x3), (4, .int x4)]) : W p l e (RMw 9 0 0 200) s m args below meth c H locs 0 0 Q (F0 m 37 ls []) := by
  have hx := B.1
  have hb := B.2.1
  unfold fC_fewest_L37 at hf
  refine lv_iload hx hb dX0_fewest_37 (lv_at hl 4 rfl) ?_
  refine lv_if_lt (tgt := 90) hx hb dX0_fewest_39 (by decide) (fun c_1 => ?_) (fun c_1 => ?_)
  · have hf := ifp c_1 hf
    exact ke90 _ _ (Option.some.inj hf).symm _ _ hG _ (lv_sub hl [1, 3] rfl)
  · have hf := ifn c_1 hf
    refine lv_iload hx hb dX0_fewest_42 (lv_at hl 4 rfl) ?_
    obtain ⟨r_2, e_3, hf⟩ := bo hf
    refine cCJ_bitCount B e_3 ⟨Nat.le_of_ble_eq_true rfl, Nat.le_of_ble_eq_true rfl⟩ ⟨Nat.zero_le _, Nat.zero_le _⟩ hl.1 (Nat.le_of_ble_eq_true rfl) dX0_fewest_44 ?_
    refine lv_iload_n hx hb dX0_fewest_47 rfl (lv_at hl 3 rfl) ?_
    obtain ⟨r_4, e_5, hf⟩ := bo hf
    refine cCJ_bitCount B e_5 ⟨Nat.le_of_ble_eq_true rfl, Nat.le_of_ble_eq_true rfl⟩ ⟨Nat.zero_le _, Nat.zero_le _⟩ hl.1 (Nat.le_of_ble_eq_true rfl) dX0_fewest_48 ?_
    refine lv_icmp_gt (tgt := 58) hx hb dX0_fewest_51 (by decide) (fun c_6 => ?_) (fun c_6 => ?_)
    · have hf := ifp c_6 hf
      refine lv_iconst (v := 0) hx hb dX0_fewest_58 (by decide) ?_
      exact wC_fewest_J59_L37 B hK hf kc ke90 hG hl
    · have hf := ifn c_6 hf
      refine lv_iconst (v := 1) hx hb dX0_fewest_54 (by decide) ?_
      refine lv_goto (tgt := 59) hx hb dX0_fewest_55 (by decide) ?_
      exact wC_fewest_J59_L37 B hK hf kc ke90 hG hl

set_option maxHeartbeats 4000000 in
theorem vC_fewest_L37 (B : CallFix p m c cX0_fewest 6 s args lw_all RX0) (hK : KK X s) {w : CW} {x1 : Int32} {x2 : Int32} {x3 : Int32} {x4 : Int32} {res : Int32 × CW} (hf : lp (fun q : Int32 × Int32 × CW => fC_fewest_L37 q.2.2 x1 x2 q.1 q.2.1) (x3, x4, w) = some res) (ke90 : ∀ (y3 : Int32) (w1 : CW), res = (y3, w1) → ∀ (H : Heap) (locs : List Loc), GG X (CP X ca fa w1 ++ rest) s.heap H locs → ∀ (ls : Array Slot), lv_has ls 6 [(1, .int x1), (3, .int y3)] → W p l e (RMw 9 0 0 200) s m args below meth c H locs 0 0 Q (F0 m 90 ls [])) {H : Heap} {locs : List Loc} (hG : GG X (CP X ca fa w ++ rest) s.heap H locs) {ls : Array Slot} (hl : lv_has ls 6 [(0, .ref (ca 0)), (1, .int x1), (2, .int x2), (3, .int x3), (4, .int x4)]) : W p l e (RMw 9 0 0 200) s m args below meth c H locs 0 0 Q (F0 m 37 ls []) := by
  refine lp_ind (r := res) (P := fun q : Int32 × Int32 × CW => ∀ (H : Heap) (locs : List Loc) (ls : Array Slot), GG X (CP X ca fa q.2.2 ++ rest) s.heap H locs → lv_has ls 6 [(0, .ref (ca 0)), (1, .int x1), (2, .int x2), (3, .int q.1), (4, .int q.2.1)] → W p l e (RMw 9 0 0 200) s m args below meth c H locs 0 0 Q (F0 m 37 ls [])) ?_ ?_ _ hf _ _ _ hG hl
  · intro q hb H locs ls hG hl
    exact wC_fewest_L37 B hK hb (fun _ _ _ h => by cases h) (fun z0 z1 h => ke90 z0 z1 (Sum.inr.inj h)) hG hl
  · intro q q2 hb ih H locs ls hG hl
    exact wC_fewest_L37 B hK hb (fun z0 z1 z2 h => by cases h; exact fun H locs hG ls hl => ih H locs ls hG hl) (fun _ _ h => by cases h) hG hl

noncomputable def fC_fewest (w : CW) (x1 : Int32) : Option (Int32 × CW) :=
  (fC_isIn x1 0 1).bind fun r_1 =>
  if r_1 = 0 then
    b2 (fC_no w (-2)) fun r_26 f_23 =>
    (some (f_23)).bind fun w_24 =>
    some (r_26, w_24)
  else
    (fC_allPosts w ).bind fun r_4 =>
    b2 (fC_groups_n w r_4) fun r_10 f_7 =>
    (some (f_7)).bind fun w_8 =>
    (fC_allPosts w_8 ).bind fun r_11 =>
    (fC_allPosts w_8 ).bind fun r_13 =>
    (lp (fun q : Int32 × Int32 × CW => fC_fewest_L37 q.2.2 x1 r_10 q.1 q.2.1) (r_11, r_13, w_8)).bind (
      fun q_20 => (fun (y_15 : Int32) (w_16 : CW) =>
        if x1 = 0 then
          (fJ_bitCount y_15).bind fun r_18 =>
          some (r_18, w_16)
        else
          some (y_15, w_16)
      ) q_20.1 q_20.2
    )

set_option maxHeartbeats 4000000 in
theorem wC_fewest (B : CallFix p m c cX0_fewest 6 s args lw_all RX0) (hK : KK X s) {w : CW} {x1 : Int32} {res : Int32 × CW} (hf : fC_fewest w x1 = some res) (kr : ∀ (r : Int32) (w1 : CW), res = (r, w1) → ∀ (H : Heap) (locs : List Loc), GG X (CP X ca fa w1 ++ rest) s.heap H locs → ∀ (pc : Nat) (ls : Array Slot), decode cX0_fewest pc = .ok (.ireturn, 1) → W p l e (RMw 9 0 0 200) s m args below meth c H locs 0 0 Q (F0 m pc ls [.int r])) {H : Heap} {locs : List Loc} (hG : GG X (CP X ca fa w ++ rest) s.heap H locs) {ls : Array Slot} (hl : lv_has ls 6 [(0, .ref (ca 0)), (1, .int x1)]) : W p l e (RMw 9 0 0 200) s m args below meth c H locs 0 0 Q (F0 m 0 ls []) := by
  have hx := B.1
  have hb := B.2.1
  unfold fC_fewest at hf
  refine lv_iload_n hx hb dX0_fewest_0 rfl (lv_at hl 1 rfl) ?_
  refine lv_iconst (v := 0) hx hb dX0_fewest_1 (by decide) ?_
  refine lv_iconst (v := 1) hx hb dX0_fewest_2 (by decide) ?_
  obtain ⟨r_1, e_2, hf⟩ := bo hf
  refine cC_isIn B e_2 ⟨Nat.le_of_ble_eq_true rfl, Nat.le_of_ble_eq_true rfl⟩ ⟨Nat.zero_le _, Nat.zero_le _⟩ hl.1 (Nat.le_of_ble_eq_true rfl) dX0_fewest_3 ?_
  refine lv_if_ne (tgt := 16) hx hb dX0_fewest_6 (by decide) (fun c_3 => ?_) (fun c_3 => ?_)
  · have hf := ifn c_3 hf
    refine lv_aload_n hx hb dX0_fewest_16 rfl (lv_at hl 0 rfl) ?_
    refine lv_aload_n hx hb dX0_fewest_17 rfl (lv_at hl 0 rfl) ?_
    obtain ⟨r_4, e_5, hf⟩ := bo hf
    refine cC_allPosts B hK hG.2.2 hG.1 e_5 ⟨Nat.le_of_ble_eq_true rfl, Nat.le_of_ble_eq_true rfl⟩ ⟨Nat.zero_le _, Nat.zero_le _⟩ hl.1 (Nat.le_of_ble_eq_true rfl) dX0_fewest_18 ?_
    refine lv_null hx hb dX0_fewest_21 ?_
    obtain ⟨r_10, f_7, e_6, hf⟩ := b2s hf
    obtain ⟨w_8, e_9, hf⟩ := bo hf
    refine cC_groups_n B hK hG e_6 e_9 ⟨Nat.le_of_ble_eq_true rfl, Nat.le_of_ble_eq_true rfl⟩ ⟨Nat.zero_le _, Nat.zero_le _⟩ hl.1 (Nat.le_of_ble_eq_true rfl) dX0_fewest_22 (fun H locs hG => ?_)
    refine lv_istore_n (lv' := [(2, .int r_10), (0, .ref (ca 0)), (1, .int x1)]) hx hb dX0_fewest_25 rfl hl (by decide) rfl (fun ls hl => ?_)
    refine lv_aload_n hx hb dX0_fewest_26 rfl (lv_at hl 1 rfl) ?_
    obtain ⟨r_11, e_12, hf⟩ := bo hf
    refine cC_allPosts B hK hG.2.2 hG.1 e_12 ⟨Nat.le_of_ble_eq_true rfl, Nat.le_of_ble_eq_true rfl⟩ ⟨Nat.zero_le _, Nat.zero_le _⟩ hl.1 (Nat.le_of_ble_eq_true rfl) dX0_fewest_27 ?_
    refine lv_istore_n (lv' := [(3, .int r_11), (2, .int r_10), (0, .ref (ca 0)), (1, .int x1)]) hx hb dX0_fewest_30 rfl hl (by decide) rfl (fun ls hl => ?_)
    refine lv_aload_n hx hb dX0_fewest_31 rfl (lv_at hl 2 rfl) ?_
    obtain ⟨r_13, e_14, hf⟩ := bo hf
    refine cC_allPosts B hK hG.2.2 hG.1 e_14 ⟨Nat.le_of_ble_eq_true rfl, Nat.le_of_ble_eq_true rfl⟩ ⟨Nat.zero_le _, Nat.zero_le _⟩ hl.1 (Nat.le_of_ble_eq_true rfl) dX0_fewest_32 ?_
    refine lv_istore (lv' := [(4, .int r_13), (3, .int r_11), (2, .int r_10), (0, .ref (ca 0)), (1, .int x1)]) hx hb dX0_fewest_35 hl (by decide) rfl (fun ls hl => ?_)
    obtain ⟨⟨y_15, w_16⟩, e_21, hf⟩ := bo hf
    try dsimp only at hf
    refine vC_fewest_L37 B hK e_21 ?_ hG (lv_sub hl [3, 4, 2, 1, 0] rfl)
    intro z0 z1 hz
    cases hz
    intro H locs hG ls hl
    refine lv_iload_n hx hb dX0_fewest_90 rfl (lv_at hl 0 rfl) ?_
    refine lv_if_ne (tgt := 101) hx hb dX0_fewest_91 (by decide) (fun c_17 => ?_) (fun c_17 => ?_)
    · have hf := ifn c_17 hf
      refine lv_iload_n hx hb dX0_fewest_101 rfl (lv_at hl 1 rfl) ?_
      exact kr _ _ (Option.some.inj hf).symm _ _ hG _ _ dX0_fewest_102
    · have hf := ifp c_17 hf
      refine lv_iload_n hx hb dX0_fewest_94 rfl (lv_at hl 1 rfl) ?_
      obtain ⟨r_18, e_19, hf⟩ := bo hf
      refine cCJ_bitCount B e_19 ⟨Nat.le_of_ble_eq_true rfl, Nat.le_of_ble_eq_true rfl⟩ ⟨Nat.zero_le _, Nat.zero_le _⟩ hl.1 (Nat.le_of_ble_eq_true rfl) dX0_fewest_95 ?_
      refine lv_goto (tgt := 102) hx hb dX0_fewest_98 (by decide) ?_
      exact kr _ _ (Option.some.inj hf).symm _ _ hG _ _ dX0_fewest_102
  · have hf := ifp c_3 hf
    refine lv_aload_n hx hb dX0_fewest_9 rfl (lv_at hl 0 rfl) ?_
    refine lv_bipush (v := (-2)) hx hb dX0_fewest_10 (by decide) ?_
    obtain ⟨r_26, f_23, e_22, hf⟩ := b2s hf
    obtain ⟨w_24, e_25, hf⟩ := bo hf
    refine cC_no B hK hG e_22 e_25 ⟨Nat.le_of_ble_eq_true rfl, Nat.le_of_ble_eq_true rfl⟩ ⟨Nat.zero_le _, Nat.zero_le _⟩ hl.1 (Nat.le_of_ble_eq_true rfl) dX0_fewest_12 (fun H locs hG => ?_)
    exact kr _ _ (Option.some.inj hf).symm _ _ hG _ _ dX0_fewest_15

theorem tC_fewest (l : Launch) (X : CX) (ca fa : Nat → Nat) (rest : va_W) (w w' : CW) (x1 : Int32) (r : Int32) (hf : fC_fewest w x1 = some (r, w')) : RW l yX0_fewest cX0_fewest 6 (some .int) 9 0 0 200 [.ref (ca 0), .int x1] X (CP X ca fa w ++ rest) (CP X ca fa (w') ++ rest) (some (.int r)) := by
  refine RW.mk (by decide) (Nat.le_of_ble_eq_true rfl) ?_
  intro p e s m below meth c B hr hlk hK hG ls hl
  exact wC_fewest B hK hf (fun r w h H locs hG pc ls hd => by cases h; exact w_iretW B hr hlk hG hd) hG hl
end S_C_fewest

section S_C_bestPair
variable {p : Program} {l : Launch} {e : Env} {R : Room} {s : State} {m : MethodId} {args : Array Value} {below : List Frame} {meth : Method} {c : Code} {H : Heap} {locs : List Loc} {cells slots : Nat} {Q : State → Prop} {cc : ByteArray} {nL pc : Nat} {ls : Array Slot} {st : List Value} {X : CX} {rest : va_W} {ca fa : Nat → Nat}
noncomputable def fC_bestPair_J66_L22 (w : CW) (x2 : Int32) (x3 : Int32) (x4 : Int32) (x5 : Int32) (t0 : Int32) : Option ((Int32 × Int32 × Int32 × CW) ⊕ (Int32 × Int32 × CW)) :=
  (some (imax x2 x5)).bind fun x_1 =>
  (some (x4 + 1)).bind fun x_3 =>
  some (.inl (t0, x_1, x_3, w))

set_option maxHeartbeats 4000000 in
theorem wC_bestPair_J66_L22 (B : CallFix p m c cX0_bestPair 6 s args lw_all RX0) (hK : KK X s) {w : CW} {x2 : Int32} {x3 : Int32} {x4 : Int32} {x5 : Int32} {t0 : Int32} {res : (Int32 × Int32 × Int32 × CW) ⊕ (Int32 × Int32 × CW)} (hf : fC_bestPair_J66_L22 w x2 x3 x4 x5 t0 = some res) (kc : ∀ (y1 : Int32) (y2 : Int32) (y4 : Int32) (w1 : CW), res = .inl (y1, y2, y4, w1) → ∀ (H : Heap) (locs : List Loc), GG X (CP X ca fa w1 ++ rest) s.heap H locs → ∀ (ls : Array Slot), lv_has ls 6 [(0, .ref (ca 0)), (1, .int y1), (2, .int y2), (3, .int x3), (4, .int y4)] → W p l e (RMw 9 0 0 200) s m args below meth c H locs 0 0 Q (F0 m 22 ls [])) (ke80 : ∀ (y1 : Int32) (y2 : Int32) (w1 : CW), res = .inr (y1, y2, w1) → ∀ (H : Heap) (locs : List Loc), GG X (CP X ca fa w1 ++ rest) s.heap H locs → ∀ (ls : Array Slot), lv_has ls 6 [(0, .ref (ca 0)), (1, .int y1), (2, .int y2), (3, .int x3)] → W p l e (RMw 9 0 0 200) s m args below meth c H locs 0 0 Q (F0 m 80 ls [])) {H : Heap} {locs : List Loc} (hG : GG X (CP X ca fa w ++ rest) s.heap H locs) {ls : Array Slot} (hl : lv_has ls 6 [(0, .ref (ca 0)), (2, .int x2), (3, .int x3), (4, .int x4), (5, .int x5)]) : W p l e (RMw 9 0 0 200) s m args below meth c H locs 0 0 Q (F0 m 66 ls [.int t0]) := by
  have hx := B.1
  have hb := B.2.1
  unfold fC_bestPair_J66_L22 at hf
  refine lv_istore_n (lv' := [(1, .int t0), (0, .ref (ca 0)), (2, .int x2), (3, .int x3), (4, .int x4), (5, .int x5)]) hx hb dX0_bestPair_66 rfl hl (by decide) rfl (fun ls hl => ?_)
  refine lv_iload_n hx hb dX0_bestPair_67 rfl (lv_at hl 2 rfl) ?_
  refine lv_iload hx hb dX0_bestPair_68 (lv_at hl 5 rfl) ?_
  refine w_max B hl.1 q1181 q813 q104 q814 (Nat.le_of_ble_eq_true rfl) (Nat.le_of_ble_eq_true rfl) (Nat.le_of_ble_eq_true rfl) (Nat.zero_le _) (Nat.zero_le _) dX0_bestPair_70 ?_
  obtain ⟨x_1, e_2, hf⟩ := bo hf
  refine w_istore_n (lv' := [(2, .int x_1), (1, .int t0), (0, .ref (ca 0)), (3, .int x3), (4, .int x4), (5, .int x5)]) e_2 hx hb dX0_bestPair_73 rfl hl (by decide) rfl (fun ls hl => ?_)
  obtain ⟨x_3, e_4, hf⟩ := bo hf
  refine w_iinc (k := 4) (lv' := [(4, .int x_3), (2, .int x_1), (1, .int t0), (0, .ref (ca 0)), (3, .int x3), (5, .int x5)]) e_4 hx hb dX0_bestPair_74 hl rfl (by decide) rfl (fun ls hl => ?_)
  refine lv_goto (tgt := 22) hx hb dX0_bestPair_77 (by decide) ?_
  exact kc _ _ _ _ (Option.some.inj hf).symm _ _ hG _ (lv_sub hl [3, 2, 1, 4, 0] rfl)

noncomputable def fC_bestPair_L22 (w : CW) (x1 : Int32) (x2 : Int32) (x3 : Int32) (x4 : Int32) : Option ((Int32 × Int32 × Int32 × CW) ⊕ (Int32 × Int32 × CW)) :=
  if ((cfe w).1 8) ≤ x4 then
    some (.inr (x1, x2, w))
  else
    b2 (fC_groups_n w ((ishl 1 x3) ||| (ishl 1 x4))) fun r_6 f_3 =>
    (some (f_3)).bind fun w_4 =>
    if r_6 ≤ x2 then
      fC_bestPair_J66_L22 w_4 x2 x3 x4 r_6 x1
    else
      fC_bestPair_J66_L22 w_4 x2 x3 x4 r_6 ((10 * x3) + x4)

set_option maxHeartbeats 4000000 in
theorem wC_bestPair_L22 (B : CallFix p m c cX0_bestPair 6 s args lw_all RX0) (hK : KK X s) {w : CW} {x1 : Int32} {x2 : Int32} {x3 : Int32} {x4 : Int32} {res : (Int32 × Int32 × Int32 × CW) ⊕ (Int32 × Int32 × CW)} (hf : fC_bestPair_L22 w x1 x2 x3 x4 = some res) (kc : ∀ (y1 : Int32) (y2 : Int32) (y4 : Int32) (w1 : CW), res = .inl (y1, y2, y4, w1) → ∀ (H : Heap) (locs : List Loc), GG X (CP X ca fa w1 ++ rest) s.heap H locs → ∀ (ls : Array Slot), lv_has ls 6 [(0, .ref (ca 0)), (1, .int y1), (2, .int y2), (3, .int x3), (4, .int y4)] → W p l e (RMw 9 0 0 200) s m args below meth c H locs 0 0 Q (F0 m 22 ls [])) (ke80 : ∀ (y1 : Int32) (y2 : Int32) (w1 : CW), res = .inr (y1, y2, w1) → ∀ (H : Heap) (locs : List Loc), GG X (CP X ca fa w1 ++ rest) s.heap H locs → ∀ (ls : Array Slot), lv_has ls 6 [(0, .ref (ca 0)), (1, .int y1), (2, .int y2), (3, .int x3)] → W p l e (RMw 9 0 0 200) s m args below meth c H locs 0 0 Q (F0 m 80 ls [])) {H : Heap} {locs : List Loc} (hG : GG X (CP X ca fa w ++ rest) s.heap H locs) {ls : Array Slot} (hl : lv_has ls 6 [(0, .ref (ca 0)), (1, .int x1), (2, .int x2), (3, .int x3), (4, .int x4)]) : W p l e (RMw 9 0 0 200) s m args below meth c H locs 0 0 Q (F0 m 22 ls []) := by
  have hx := B.1
  have hb := B.2.1
  unfold fC_bestPair_L22 at hf
  refine lv_iload hx hb dX0_bestPair_22 (lv_at hl 4 rfl) ?_
  refine lv_aload_n hx hb dX0_bestPair_24 rfl (lv_at hl 0 rfl) ?_
  refine co_this_g0 B hK hG.1 dX0_bestPair_25 ?_
  refine co_fen_g8 B hK hG.1 dX0_bestPair_28 ?_
  refine lv_icmp_ge (tgt := 80) hx hb dX0_bestPair_31 (by decide) (fun c_1 => ?_) (fun c_1 => ?_)
  · have hf := ifp c_1 hf
    exact ke80 _ _ _ (Option.some.inj hf).symm _ _ hG _ (lv_sub hl [0, 1, 2, 3] rfl)
  · have hf := ifn c_1 hf
    refine lv_aload_n hx hb dX0_bestPair_34 rfl (lv_at hl 0 rfl) ?_
    refine lv_iconst (v := 1) hx hb dX0_bestPair_35 (by decide) ?_
    refine lv_iload_n hx hb dX0_bestPair_36 rfl (lv_at hl 3 rfl) ?_
    refine w_ishl hx hb dX0_bestPair_37 ?_
    refine lv_iconst (v := 1) hx hb dX0_bestPair_38 (by decide) ?_
    refine lv_iload hx hb dX0_bestPair_39 (lv_at hl 4 rfl) ?_
    refine w_ishl hx hb dX0_bestPair_41 ?_
    refine lv_ior hx hb dX0_bestPair_42 ?_
    refine lv_null hx hb dX0_bestPair_43 ?_
    obtain ⟨r_6, f_3, e_2, hf⟩ := b2s hf
    obtain ⟨w_4, e_5, hf⟩ := bo hf
    refine cC_groups_n B hK hG e_2 e_5 ⟨Nat.le_of_ble_eq_true rfl, Nat.le_of_ble_eq_true rfl⟩ ⟨Nat.zero_le _, Nat.zero_le _⟩ hl.1 (Nat.le_of_ble_eq_true rfl) dX0_bestPair_44 (fun H locs hG => ?_)
    refine lv_istore (lv' := [(5, .int r_6), (0, .ref (ca 0)), (1, .int x1), (2, .int x2), (3, .int x3), (4, .int x4)]) hx hb dX0_bestPair_47 hl (by decide) rfl (fun ls hl => ?_)
    refine lv_iload hx hb dX0_bestPair_49 (lv_at hl 0 rfl) ?_
    refine lv_iload_n hx hb dX0_bestPair_51 rfl (lv_at hl 3 rfl) ?_
    refine lv_icmp_le (tgt := 65) hx hb dX0_bestPair_52 (by decide) (fun c_7 => ?_) (fun c_7 => ?_)
    · have hf := ifp c_7 hf
      refine lv_iload_n hx hb dX0_bestPair_65 rfl (lv_at hl 2 rfl) ?_
      exact wC_bestPair_J66_L22 B hK hf kc ke80 hG (lv_sub hl [1, 3, 4, 5, 0] rfl)
    · have hf := ifn c_7 hf
      refine lv_bipush (v := 10) hx hb dX0_bestPair_55 (by decide) ?_
      refine lv_iload_n hx hb dX0_bestPair_57 rfl (lv_at hl 4 rfl) ?_
      refine lv_imul hx hb dX0_bestPair_58 ?_
      refine lv_iload hx hb dX0_bestPair_59 (lv_at hl 5 rfl) ?_
      refine lv_iadd hx hb dX0_bestPair_61 ?_
      refine lv_goto (tgt := 66) hx hb dX0_bestPair_62 (by decide) ?_
      exact wC_bestPair_J66_L22 B hK hf kc ke80 hG (lv_sub hl [1, 3, 4, 5, 0] rfl)

set_option maxHeartbeats 4000000 in
theorem vC_bestPair_L22 (B : CallFix p m c cX0_bestPair 6 s args lw_all RX0) (hK : KK X s) {w : CW} {x1 : Int32} {x2 : Int32} {x3 : Int32} {x4 : Int32} {res : Int32 × Int32 × CW} (hf : lp (fun q : Int32 × Int32 × Int32 × CW => fC_bestPair_L22 q.2.2.2 q.1 q.2.1 x3 q.2.2.1) (x1, x2, x4, w) = some res) (ke80 : ∀ (y1 : Int32) (y2 : Int32) (w1 : CW), res = (y1, y2, w1) → ∀ (H : Heap) (locs : List Loc), GG X (CP X ca fa w1 ++ rest) s.heap H locs → ∀ (ls : Array Slot), lv_has ls 6 [(0, .ref (ca 0)), (1, .int y1), (2, .int y2), (3, .int x3)] → W p l e (RMw 9 0 0 200) s m args below meth c H locs 0 0 Q (F0 m 80 ls [])) {H : Heap} {locs : List Loc} (hG : GG X (CP X ca fa w ++ rest) s.heap H locs) {ls : Array Slot} (hl : lv_has ls 6 [(0, .ref (ca 0)), (1, .int x1), (2, .int x2), (3, .int x3), (4, .int x4)]) : W p l e (RMw 9 0 0 200) s m args below meth c H locs 0 0 Q (F0 m 22 ls []) := by
  refine lp_ind (r := res) (P := fun q : Int32 × Int32 × Int32 × CW => ∀ (H : Heap) (locs : List Loc) (ls : Array Slot), GG X (CP X ca fa q.2.2.2 ++ rest) s.heap H locs → lv_has ls 6 [(0, .ref (ca 0)), (1, .int q.1), (2, .int q.2.1), (3, .int x3), (4, .int q.2.2.1)] → W p l e (RMw 9 0 0 200) s m args below meth c H locs 0 0 Q (F0 m 22 ls [])) ?_ ?_ _ hf _ _ _ hG hl
  · intro q hb H locs ls hG hl
    exact wC_bestPair_L22 B hK hb (fun _ _ _ _ h => by cases h) (fun z0 z1 z2 h => ke80 z0 z1 z2 (Sum.inr.inj h)) hG hl
  · intro q q2 hb ih H locs ls hG hl
    exact wC_bestPair_L22 B hK hb (fun z0 z1 z2 z3 h => by cases h; exact fun H locs hG ls hl => ih H locs ls hG hl) (fun _ _ _ h => by cases h) hG hl

noncomputable def fC_bestPair_L6 (w : CW) (x1 : Int32) (x2 : Int32) (x3 : Int32) : Option ((Int32 × Int32 × Int32 × CW) ⊕ (Int32 × CW)) :=
  if ((cfe w).1 8) ≤ x3 then
    some (.inr (x1, w))
  else
    (some (x3 + 1)).bind fun x_2 =>
    (lp (fun q : Int32 × Int32 × Int32 × CW => fC_bestPair_L22 q.2.2.2 q.1 q.2.1 x3 q.2.2.1) (x1, x2, x_2, w)).bind (
      fun q_9 => (fun (y_4 : Int32) (y_5 : Int32) (w_6 : CW) =>
        (some (x3 + 1)).bind fun x_7 =>
        some (.inl (y_4, y_5, x_7, w_6))
      ) q_9.1 q_9.2.1 q_9.2.2
    )

set_option maxHeartbeats 4000000 in
theorem wC_bestPair_L6 (B : CallFix p m c cX0_bestPair 6 s args lw_all RX0) (hK : KK X s) {w : CW} {x1 : Int32} {x2 : Int32} {x3 : Int32} {res : (Int32 × Int32 × Int32 × CW) ⊕ (Int32 × CW)} (hf : fC_bestPair_L6 w x1 x2 x3 = some res) (kc : ∀ (y1 : Int32) (y2 : Int32) (y3 : Int32) (w1 : CW), res = .inl (y1, y2, y3, w1) → ∀ (H : Heap) (locs : List Loc), GG X (CP X ca fa w1 ++ rest) s.heap H locs → ∀ (ls : Array Slot), lv_has ls 6 [(0, .ref (ca 0)), (1, .int y1), (2, .int y2), (3, .int y3)] → W p l e (RMw 9 0 0 200) s m args below meth c H locs 0 0 Q (F0 m 6 ls [])) (ke86 : ∀ (y1 : Int32) (w1 : CW), res = .inr (y1, w1) → ∀ (H : Heap) (locs : List Loc), GG X (CP X ca fa w1 ++ rest) s.heap H locs → ∀ (ls : Array Slot), lv_has ls 6 [(1, .int y1)] → W p l e (RMw 9 0 0 200) s m args below meth c H locs 0 0 Q (F0 m 86 ls [])) {H : Heap} {locs : List Loc} (hG : GG X (CP X ca fa w ++ rest) s.heap H locs) {ls : Array Slot} (hl : lv_has ls 6 [(0, .ref (ca 0)), (1, .int x1), (2, .int x2), (3, .int x3)]) : W p l e (RMw 9 0 0 200) s m args below meth c H locs 0 0 Q (F0 m 6 ls []) := by
  have hx := B.1
  have hb := B.2.1
  unfold fC_bestPair_L6 at hf
  refine lv_iload_n hx hb dX0_bestPair_6 rfl (lv_at hl 3 rfl) ?_
  refine lv_aload_n hx hb dX0_bestPair_7 rfl (lv_at hl 0 rfl) ?_
  refine co_this_g0 B hK hG.1 dX0_bestPair_8 ?_
  refine co_fen_g8 B hK hG.1 dX0_bestPair_11 ?_
  refine lv_icmp_ge (tgt := 86) hx hb dX0_bestPair_14 (by decide) (fun c_1 => ?_) (fun c_1 => ?_)
  · have hf := ifp c_1 hf
    exact ke86 _ _ (Option.some.inj hf).symm _ _ hG _ (lv_sub hl [1] rfl)
  · have hf := ifn c_1 hf
    refine lv_iload_n hx hb dX0_bestPair_17 rfl (lv_at hl 3 rfl) ?_
    refine lv_iconst (v := 1) hx hb dX0_bestPair_18 (by decide) ?_
    refine lv_iadd hx hb dX0_bestPair_19 ?_
    obtain ⟨x_2, e_3, hf⟩ := bo hf
    refine w_istore (lv' := [(4, .int x_2), (0, .ref (ca 0)), (1, .int x1), (2, .int x2), (3, .int x3)]) e_3 hx hb dX0_bestPair_20 hl (by decide) rfl (fun ls hl => ?_)
    obtain ⟨⟨y_4, y_5, w_6⟩, e_10, hf⟩ := bo hf
    try dsimp only at hf
    refine vC_bestPair_L22 B hK e_10 ?_ hG (lv_sub hl [1, 2, 3, 4, 0] rfl)
    intro z0 z1 z2 hz
    cases hz
    intro H locs hG ls hl
    obtain ⟨x_7, e_8, hf⟩ := bo hf
    refine w_iinc (k := 3) (lv' := [(3, .int x_7), (0, .ref (ca 0)), (1, .int y_4), (2, .int y_5)]) e_8 hx hb dX0_bestPair_80 hl rfl (by decide) rfl (fun ls hl => ?_)
    refine lv_goto (tgt := 6) hx hb dX0_bestPair_83 (by decide) ?_
    exact kc _ _ _ _ (Option.some.inj hf).symm _ _ hG _ (lv_sub hl [1, 2, 3, 0] rfl)

set_option maxHeartbeats 4000000 in
theorem vC_bestPair_L6 (B : CallFix p m c cX0_bestPair 6 s args lw_all RX0) (hK : KK X s) {w : CW} {x1 : Int32} {x2 : Int32} {x3 : Int32} {res : Int32 × CW} (hf : lp (fun q : Int32 × Int32 × Int32 × CW => fC_bestPair_L6 q.2.2.2 q.1 q.2.1 q.2.2.1) (x1, x2, x3, w) = some res) (ke86 : ∀ (y1 : Int32) (w1 : CW), res = (y1, w1) → ∀ (H : Heap) (locs : List Loc), GG X (CP X ca fa w1 ++ rest) s.heap H locs → ∀ (ls : Array Slot), lv_has ls 6 [(1, .int y1)] → W p l e (RMw 9 0 0 200) s m args below meth c H locs 0 0 Q (F0 m 86 ls [])) {H : Heap} {locs : List Loc} (hG : GG X (CP X ca fa w ++ rest) s.heap H locs) {ls : Array Slot} (hl : lv_has ls 6 [(0, .ref (ca 0)), (1, .int x1), (2, .int x2), (3, .int x3)]) : W p l e (RMw 9 0 0 200) s m args below meth c H locs 0 0 Q (F0 m 6 ls []) := by
  refine lp_ind (r := res) (P := fun q : Int32 × Int32 × Int32 × CW => ∀ (H : Heap) (locs : List Loc) (ls : Array Slot), GG X (CP X ca fa q.2.2.2 ++ rest) s.heap H locs → lv_has ls 6 [(0, .ref (ca 0)), (1, .int q.1), (2, .int q.2.1), (3, .int q.2.2.1)] → W p l e (RMw 9 0 0 200) s m args below meth c H locs 0 0 Q (F0 m 6 ls [])) ?_ ?_ _ hf _ _ _ hG hl
  · intro q hb H locs ls hG hl
    exact wC_bestPair_L6 B hK hb (fun _ _ _ _ h => by cases h) (fun z0 z1 h => ke86 z0 z1 (Sum.inr.inj h)) hG hl
  · intro q q2 hb ih H locs ls hG hl
    exact wC_bestPair_L6 B hK hb (fun z0 z1 z2 z3 h => by cases h; exact fun H locs hG ls hl => ih H locs ls hG hl) (fun _ _ h => by cases h) hG hl

noncomputable def fC_bestPair (w : CW)  : Option (Int32 × CW) :=
  (lp (fun q : Int32 × Int32 × Int32 × CW => fC_bestPair_L6 q.2.2.2 q.1 q.2.1 q.2.2.1) ((-1), (-1), 0, w)).bind (
    fun q_3 => (fun (y_1 : Int32) (w_2 : CW) =>
      some (y_1, w_2)
    ) q_3.1 q_3.2
  )

set_option maxHeartbeats 4000000 in
theorem wC_bestPair (B : CallFix p m c cX0_bestPair 6 s args lw_all RX0) (hK : KK X s) {w : CW}  {res : Int32 × CW} (hf : fC_bestPair w  = some res) (kr : ∀ (r : Int32) (w1 : CW), res = (r, w1) → ∀ (H : Heap) (locs : List Loc), GG X (CP X ca fa w1 ++ rest) s.heap H locs → ∀ (pc : Nat) (ls : Array Slot), decode cX0_bestPair pc = .ok (.ireturn, 1) → W p l e (RMw 9 0 0 200) s m args below meth c H locs 0 0 Q (F0 m pc ls [.int r])) {H : Heap} {locs : List Loc} (hG : GG X (CP X ca fa w ++ rest) s.heap H locs) {ls : Array Slot} (hl : lv_has ls 6 [(0, .ref (ca 0))]) : W p l e (RMw 9 0 0 200) s m args below meth c H locs 0 0 Q (F0 m 0 ls []) := by
  have hx := B.1
  have hb := B.2.1
  unfold fC_bestPair at hf
  refine lv_iconst (v := (-1)) hx hb dX0_bestPair_0 (by decide) ?_
  refine lv_istore_n (lv' := [(1, .int (-1)), (0, .ref (ca 0))]) hx hb dX0_bestPair_1 rfl hl (by decide) rfl (fun ls hl => ?_)
  refine lv_iconst (v := (-1)) hx hb dX0_bestPair_2 (by decide) ?_
  refine lv_istore_n (lv' := [(2, .int (-1)), (1, .int (-1)), (0, .ref (ca 0))]) hx hb dX0_bestPair_3 rfl hl (by decide) rfl (fun ls hl => ?_)
  refine lv_iconst (v := 0) hx hb dX0_bestPair_4 (by decide) ?_
  refine lv_istore_n (lv' := [(3, .int 0), (2, .int (-1)), (1, .int (-1)), (0, .ref (ca 0))]) hx hb dX0_bestPair_5 rfl hl (by decide) rfl (fun ls hl => ?_)
  obtain ⟨⟨y_1, w_2⟩, e_4, hf⟩ := bo hf
  try dsimp only at hf
  refine vC_bestPair_L6 B hK e_4 ?_ hG (lv_sub hl [3, 2, 1, 0] rfl)
  intro z0 z1 hz
  cases hz
  intro H locs hG ls hl
  refine lv_iload_n hx hb dX0_bestPair_86 rfl (lv_at hl 0 rfl) ?_
  exact kr _ _ (Option.some.inj hf).symm _ _ hG _ _ dX0_bestPair_87

theorem tC_bestPair (l : Launch) (X : CX) (ca fa : Nat → Nat) (rest : va_W) (w w' : CW)  (r : Int32) (hf : fC_bestPair w  = some (r, w')) : RW l yX0_bestPair cX0_bestPair 6 (some .int) 9 0 0 200 [.ref (ca 0)] X (CP X ca fa w ++ rest) (CP X ca fa (w') ++ rest) (some (.int r)) := by
  refine RW.mk (by decide) (Nat.le_of_ble_eq_true rfl) ?_
  intro p e s m below meth c B hr hlk hK hG ls hl
  exact wC_bestPair B hK hf (fun r w h H locs hG pc ls hd => by cases h; exact w_iretW B hr hlk hG hd) hG hl
end S_C_bestPair

section S_C_idlest
variable {p : Program} {l : Launch} {e : Env} {R : Room} {s : State} {m : MethodId} {args : Array Value} {below : List Frame} {meth : Method} {c : Code} {H : Heap} {locs : List Loc} {cells slots : Nat} {Q : State → Prop} {cc : ByteArray} {nL pc : Nat} {ls : Array Slot} {st : List Value} {X : CX} {rest : va_W} {ca fa : Nat → Nat}
noncomputable def fC_idlest_J45_L6 (w : CW) (x2 : Int32) (x3 : Int32) (x4 : Int32) (t0 : Int32) : Option ((Int32 × Int32 × Int32 × CW) ⊕ (Int32 × CW)) :=
  (some (imax x2 x4)).bind fun x_1 =>
  (some (x3 + 1)).bind fun x_3 =>
  some (.inl (t0, x_1, x_3, w))

set_option maxHeartbeats 4000000 in
theorem wC_idlest_J45_L6 (B : CallFix p m c cX0_idlest 5 s args lw_all RX0) (hK : KK X s) {w : CW} {x2 : Int32} {x3 : Int32} {x4 : Int32} {t0 : Int32} {res : (Int32 × Int32 × Int32 × CW) ⊕ (Int32 × CW)} (hf : fC_idlest_J45_L6 w x2 x3 x4 t0 = some res) (kc : ∀ (y1 : Int32) (y2 : Int32) (y3 : Int32) (w1 : CW), res = .inl (y1, y2, y3, w1) → ∀ (H : Heap) (locs : List Loc), GG X (CP X ca fa w1 ++ rest) s.heap H locs → ∀ (ls : Array Slot), lv_has ls 5 [(0, .ref (ca 0)), (1, .int y1), (2, .int y2), (3, .int y3)] → W p l e (RMw 9 0 0 200) s m args below meth c H locs 0 0 Q (F0 m 6 ls [])) (ke59 : ∀ (y1 : Int32) (w1 : CW), res = .inr (y1, w1) → ∀ (H : Heap) (locs : List Loc), GG X (CP X ca fa w1 ++ rest) s.heap H locs → ∀ (ls : Array Slot), lv_has ls 5 [(0, .ref (ca 0)), (1, .int y1)] → W p l e (RMw 9 0 0 200) s m args below meth c H locs 0 0 Q (F0 m 59 ls [])) {H : Heap} {locs : List Loc} (hG : GG X (CP X ca fa w ++ rest) s.heap H locs) {ls : Array Slot} (hl : lv_has ls 5 [(0, .ref (ca 0)), (2, .int x2), (3, .int x3), (4, .int x4)]) : W p l e (RMw 9 0 0 200) s m args below meth c H locs 0 0 Q (F0 m 45 ls [.int t0]) := by
  have hx := B.1
  have hb := B.2.1
  unfold fC_idlest_J45_L6 at hf
  refine lv_istore_n (lv' := [(1, .int t0), (0, .ref (ca 0)), (2, .int x2), (3, .int x3), (4, .int x4)]) hx hb dX0_idlest_45 rfl hl (by decide) rfl (fun ls hl => ?_)
  refine lv_iload_n hx hb dX0_idlest_46 rfl (lv_at hl 2 rfl) ?_
  refine lv_iload hx hb dX0_idlest_47 (lv_at hl 4 rfl) ?_
  refine w_max B hl.1 q1181 q813 q104 q814 (Nat.le_of_ble_eq_true rfl) (Nat.le_of_ble_eq_true rfl) (Nat.le_of_ble_eq_true rfl) (Nat.zero_le _) (Nat.zero_le _) dX0_idlest_49 ?_
  obtain ⟨x_1, e_2, hf⟩ := bo hf
  refine w_istore_n (lv' := [(2, .int x_1), (1, .int t0), (0, .ref (ca 0)), (3, .int x3), (4, .int x4)]) e_2 hx hb dX0_idlest_52 rfl hl (by decide) rfl (fun ls hl => ?_)
  obtain ⟨x_3, e_4, hf⟩ := bo hf
  refine w_iinc (k := 3) (lv' := [(3, .int x_3), (2, .int x_1), (1, .int t0), (0, .ref (ca 0)), (4, .int x4)]) e_4 hx hb dX0_idlest_53 hl rfl (by decide) rfl (fun ls hl => ?_)
  refine lv_goto (tgt := 6) hx hb dX0_idlest_56 (by decide) ?_
  exact kc _ _ _ _ (Option.some.inj hf).symm _ _ hG _ (lv_sub hl [3, 2, 1, 0] rfl)

noncomputable def fC_idlest_L6 (w : CW) (x1 : Int32) (x2 : Int32) (x3 : Int32) : Option ((Int32 × Int32 × Int32 × CW) ⊕ (Int32 × CW)) :=
  if ((cfe w).1 8) ≤ x3 then
    some (.inr (x1, w))
  else
    (fC_allPosts w ).bind fun r_2 =>
    b2 (fC_groups_n w (r_2 &&& ((ishl 1 x3) ^^^ (-1)))) fun r_8 f_5 =>
    (some (f_5)).bind fun w_6 =>
    if r_8 ≤ x2 then
      fC_idlest_J45_L6 w_6 x2 x3 r_8 x1
    else
      fC_idlest_J45_L6 w_6 x2 x3 r_8 x3

set_option maxHeartbeats 4000000 in
theorem wC_idlest_L6 (B : CallFix p m c cX0_idlest 5 s args lw_all RX0) (hK : KK X s) {w : CW} {x1 : Int32} {x2 : Int32} {x3 : Int32} {res : (Int32 × Int32 × Int32 × CW) ⊕ (Int32 × CW)} (hf : fC_idlest_L6 w x1 x2 x3 = some res) (kc : ∀ (y1 : Int32) (y2 : Int32) (y3 : Int32) (w1 : CW), res = .inl (y1, y2, y3, w1) → ∀ (H : Heap) (locs : List Loc), GG X (CP X ca fa w1 ++ rest) s.heap H locs → ∀ (ls : Array Slot), lv_has ls 5 [(0, .ref (ca 0)), (1, .int y1), (2, .int y2), (3, .int y3)] → W p l e (RMw 9 0 0 200) s m args below meth c H locs 0 0 Q (F0 m 6 ls [])) (ke59 : ∀ (y1 : Int32) (w1 : CW), res = .inr (y1, w1) → ∀ (H : Heap) (locs : List Loc), GG X (CP X ca fa w1 ++ rest) s.heap H locs → ∀ (ls : Array Slot), lv_has ls 5 [(0, .ref (ca 0)), (1, .int y1)] → W p l e (RMw 9 0 0 200) s m args below meth c H locs 0 0 Q (F0 m 59 ls [])) {H : Heap} {locs : List Loc} (hG : GG X (CP X ca fa w ++ rest) s.heap H locs) {ls : Array Slot} (hl : lv_has ls 5 [(0, .ref (ca 0)), (1, .int x1), (2, .int x2), (3, .int x3)]) : W p l e (RMw 9 0 0 200) s m args below meth c H locs 0 0 Q (F0 m 6 ls []) := by
  have hx := B.1
  have hb := B.2.1
  unfold fC_idlest_L6 at hf
  refine lv_iload_n hx hb dX0_idlest_6 rfl (lv_at hl 3 rfl) ?_
  refine lv_aload_n hx hb dX0_idlest_7 rfl (lv_at hl 0 rfl) ?_
  refine co_this_g0 B hK hG.1 dX0_idlest_8 ?_
  refine co_fen_g8 B hK hG.1 dX0_idlest_11 ?_
  refine lv_icmp_ge (tgt := 59) hx hb dX0_idlest_14 (by decide) (fun c_1 => ?_) (fun c_1 => ?_)
  · have hf := ifp c_1 hf
    exact ke59 _ _ (Option.some.inj hf).symm _ _ hG _ (lv_sub hl [0, 1] rfl)
  · have hf := ifn c_1 hf
    refine lv_aload_n hx hb dX0_idlest_17 rfl (lv_at hl 0 rfl) ?_
    refine lv_aload_n hx hb dX0_idlest_18 rfl (lv_at hl 0 rfl) ?_
    obtain ⟨r_2, e_3, hf⟩ := bo hf
    refine cC_allPosts B hK hG.2.2 hG.1 e_3 ⟨Nat.le_of_ble_eq_true rfl, Nat.le_of_ble_eq_true rfl⟩ ⟨Nat.zero_le _, Nat.zero_le _⟩ hl.1 (Nat.le_of_ble_eq_true rfl) dX0_idlest_19 ?_
    refine lv_iconst (v := 1) hx hb dX0_idlest_22 (by decide) ?_
    refine lv_iload_n hx hb dX0_idlest_23 rfl (lv_at hl 3 rfl) ?_
    refine w_ishl hx hb dX0_idlest_24 ?_
    refine lv_iconst (v := (-1)) hx hb dX0_idlest_25 (by decide) ?_
    refine lv_ixor hx hb dX0_idlest_26 ?_
    refine lv_iand hx hb dX0_idlest_27 ?_
    refine lv_null hx hb dX0_idlest_28 ?_
    obtain ⟨r_8, f_5, e_4, hf⟩ := b2s hf
    obtain ⟨w_6, e_7, hf⟩ := bo hf
    refine cC_groups_n B hK hG e_4 e_7 ⟨Nat.le_of_ble_eq_true rfl, Nat.le_of_ble_eq_true rfl⟩ ⟨Nat.zero_le _, Nat.zero_le _⟩ hl.1 (Nat.le_of_ble_eq_true rfl) dX0_idlest_29 (fun H locs hG => ?_)
    refine lv_istore (lv' := [(4, .int r_8), (0, .ref (ca 0)), (1, .int x1), (2, .int x2), (3, .int x3)]) hx hb dX0_idlest_32 hl (by decide) rfl (fun ls hl => ?_)
    refine lv_iload hx hb dX0_idlest_34 (lv_at hl 0 rfl) ?_
    refine lv_iload_n hx hb dX0_idlest_36 rfl (lv_at hl 3 rfl) ?_
    refine lv_icmp_le (tgt := 44) hx hb dX0_idlest_37 (by decide) (fun c_9 => ?_) (fun c_9 => ?_)
    · have hf := ifp c_9 hf
      refine lv_iload_n hx hb dX0_idlest_44 rfl (lv_at hl 2 rfl) ?_
      exact wC_idlest_J45_L6 B hK hf kc ke59 hG (lv_sub hl [1, 3, 4, 0] rfl)
    · have hf := ifn c_9 hf
      refine lv_iload_n hx hb dX0_idlest_40 rfl (lv_at hl 4 rfl) ?_
      refine lv_goto (tgt := 45) hx hb dX0_idlest_41 (by decide) ?_
      exact wC_idlest_J45_L6 B hK hf kc ke59 hG (lv_sub hl [1, 3, 4, 0] rfl)

set_option maxHeartbeats 4000000 in
theorem vC_idlest_L6 (B : CallFix p m c cX0_idlest 5 s args lw_all RX0) (hK : KK X s) {w : CW} {x1 : Int32} {x2 : Int32} {x3 : Int32} {res : Int32 × CW} (hf : lp (fun q : Int32 × Int32 × Int32 × CW => fC_idlest_L6 q.2.2.2 q.1 q.2.1 q.2.2.1) (x1, x2, x3, w) = some res) (ke59 : ∀ (y1 : Int32) (w1 : CW), res = (y1, w1) → ∀ (H : Heap) (locs : List Loc), GG X (CP X ca fa w1 ++ rest) s.heap H locs → ∀ (ls : Array Slot), lv_has ls 5 [(0, .ref (ca 0)), (1, .int y1)] → W p l e (RMw 9 0 0 200) s m args below meth c H locs 0 0 Q (F0 m 59 ls [])) {H : Heap} {locs : List Loc} (hG : GG X (CP X ca fa w ++ rest) s.heap H locs) {ls : Array Slot} (hl : lv_has ls 5 [(0, .ref (ca 0)), (1, .int x1), (2, .int x2), (3, .int x3)]) : W p l e (RMw 9 0 0 200) s m args below meth c H locs 0 0 Q (F0 m 6 ls []) := by
  refine lp_ind (r := res) (P := fun q : Int32 × Int32 × Int32 × CW => ∀ (H : Heap) (locs : List Loc) (ls : Array Slot), GG X (CP X ca fa q.2.2.2 ++ rest) s.heap H locs → lv_has ls 5 [(0, .ref (ca 0)), (1, .int q.1), (2, .int q.2.1), (3, .int q.2.2.1)] → W p l e (RMw 9 0 0 200) s m args below meth c H locs 0 0 Q (F0 m 6 ls [])) ?_ ?_ _ hf _ _ _ hG hl
  · intro q hb H locs ls hG hl
    exact wC_idlest_L6 B hK hb (fun _ _ _ _ h => by cases h) (fun z0 z1 h => ke59 z0 z1 (Sum.inr.inj h)) hG hl
  · intro q q2 hb ih H locs ls hG hl
    exact wC_idlest_L6 B hK hb (fun z0 z1 z2 z3 h => by cases h; exact fun H locs hG ls hl => ih H locs ls hG hl) (fun _ _ h => by cases h) hG hl

noncomputable def fC_idlest (w : CW)  : Option (Int32 × CW) :=
  (lp (fun q : Int32 × Int32 × Int32 × CW => fC_idlest_L6 q.2.2.2 q.1 q.2.1 q.2.2.1) ((-1), (-1), 0, w)).bind (
    fun q_9 => (fun (y_1 : Int32) (w_2 : CW) =>
      if y_1 = (-1) then
        b2 (fC_no w_2 (-5)) fun r_8 f_5 =>
        (some (f_5)).bind fun w_6 =>
        some (r_8, w_6)
      else
        some (y_1, w_2)
    ) q_9.1 q_9.2
  )

set_option maxHeartbeats 4000000 in
theorem wC_idlest (B : CallFix p m c cX0_idlest 5 s args lw_all RX0) (hK : KK X s) {w : CW}  {res : Int32 × CW} (hf : fC_idlest w  = some res) (kr : ∀ (r : Int32) (w1 : CW), res = (r, w1) → ∀ (H : Heap) (locs : List Loc), GG X (CP X ca fa w1 ++ rest) s.heap H locs → ∀ (pc : Nat) (ls : Array Slot), decode cX0_idlest pc = .ok (.ireturn, 1) → W p l e (RMw 9 0 0 200) s m args below meth c H locs 0 0 Q (F0 m pc ls [.int r])) {H : Heap} {locs : List Loc} (hG : GG X (CP X ca fa w ++ rest) s.heap H locs) {ls : Array Slot} (hl : lv_has ls 5 [(0, .ref (ca 0))]) : W p l e (RMw 9 0 0 200) s m args below meth c H locs 0 0 Q (F0 m 0 ls []) := by
  have hx := B.1
  have hb := B.2.1
  unfold fC_idlest at hf
  refine lv_iconst (v := (-1)) hx hb dX0_idlest_0 (by decide) ?_
  refine lv_istore_n (lv' := [(1, .int (-1)), (0, .ref (ca 0))]) hx hb dX0_idlest_1 rfl hl (by decide) rfl (fun ls hl => ?_)
  refine lv_iconst (v := (-1)) hx hb dX0_idlest_2 (by decide) ?_
  refine lv_istore_n (lv' := [(2, .int (-1)), (1, .int (-1)), (0, .ref (ca 0))]) hx hb dX0_idlest_3 rfl hl (by decide) rfl (fun ls hl => ?_)
  refine lv_iconst (v := 0) hx hb dX0_idlest_4 (by decide) ?_
  refine lv_istore_n (lv' := [(3, .int 0), (2, .int (-1)), (1, .int (-1)), (0, .ref (ca 0))]) hx hb dX0_idlest_5 rfl hl (by decide) rfl (fun ls hl => ?_)
  obtain ⟨⟨y_1, w_2⟩, e_10, hf⟩ := bo hf
  try dsimp only at hf
  refine vC_idlest_L6 B hK e_10 ?_ hG (lv_sub hl [3, 2, 1, 0] rfl)
  intro z0 z1 hz
  cases hz
  intro H locs hG ls hl
  refine lv_iload_n hx hb dX0_idlest_59 rfl (lv_at hl 1 rfl) ?_
  refine lv_iconst (v := (-1)) hx hb dX0_idlest_60 (by decide) ?_
  refine lv_icmp_ne (tgt := 73) hx hb dX0_idlest_61 (by decide) (fun c_3 => ?_) (fun c_3 => ?_)
  · have hf := ifn c_3 hf
    refine lv_iload_n hx hb dX0_idlest_73 rfl (lv_at hl 1 rfl) ?_
    exact kr _ _ (Option.some.inj hf).symm _ _ hG _ _ dX0_idlest_74
  · have hf := ifp c_3 hf
    refine lv_aload_n hx hb dX0_idlest_64 rfl (lv_at hl 0 rfl) ?_
    refine lv_bipush (v := (-5)) hx hb dX0_idlest_65 (by decide) ?_
    obtain ⟨r_8, f_5, e_4, hf⟩ := b2s hf
    obtain ⟨w_6, e_7, hf⟩ := bo hf
    refine cC_no B hK hG e_4 e_7 ⟨Nat.le_of_ble_eq_true rfl, Nat.le_of_ble_eq_true rfl⟩ ⟨Nat.zero_le _, Nat.zero_le _⟩ hl.1 (Nat.le_of_ble_eq_true rfl) dX0_idlest_67 (fun H locs hG => ?_)
    refine lv_goto (tgt := 74) hx hb dX0_idlest_70 (by decide) ?_
    exact kr _ _ (Option.some.inj hf).symm _ _ hG _ _ dX0_idlest_74

theorem tC_idlest (l : Launch) (X : CX) (ca fa : Nat → Nat) (rest : va_W) (w w' : CW)  (r : Int32) (hf : fC_idlest w  = some (r, w')) : RW l yX0_idlest cX0_idlest 5 (some .int) 9 0 0 200 [.ref (ca 0)] X (CP X ca fa w ++ rest) (CP X ca fa (w') ++ rest) (some (.int r)) := by
  refine RW.mk (by decide) (Nat.le_of_ble_eq_true rfl) ?_
  intro p e s m below meth c B hr hlk hK hG ls hl
  exact wC_idlest B hK hf (fun r w h H locs hG pc ls hd => by cases h; exact w_iretW B hr hlk hG hd) hG hl
end S_C_idlest

section K_cCF_isDry
variable {p : Program} {l : Launch} {e : Env} {R : Room} {s : State} {m : MethodId} {args : Array Value} {below : List Frame} {meth : Method} {c : Code} {H : Heap} {locs : List Loc} {cells slots : Nat} {Q : State → Prop} {cc : ByteArray} {nL pc : Nat} {ls : Array Slot} {st : List Value} {X : CX} {rest : va_W} {ca fa : Nat → Nat}
theorem cCF_isDry (B : CallFix p m c cc nL s args lw_all RX0) (hK : KK X s) (hS : va_S (Az X) s.heap H locs) {w : CW} (hP : va_P X.2.2.1 vwCl (CP X ca fa w ++ rest) H) {x1 : Int64} {r : Int32} (hf : fF_isDry (cfe w) x1 = some r) (hR : 2 + 1 ≤ R.frames ∧ 64 ≤ R.locals) (hcs : cells ≤ R.cells ∧ slots ≤ R.slots) (hl : ls.size = nL) (hcat : (st.map fun v => v.category).sum ≤ 8) (hdg : decode cc pc = .ok (.invokevirtual 297, 3)) (kk : W p l e R s m args below meth c H locs cells slots Q (F0 m (pc + 3) ls (.int r :: st))) : W p l e R s m args below meth c H locs cells slots Q (F0 m pc ls (.long x1 :: .ref (fa 0) :: st)) :=
  w_afterR (w_rV_RO (ws := FP X fa (cfe w) ++ (CPr X ca fa w ++ rest)) (As := [.long x1]) B hK hS hP (tF_isDry l X fa (CPr X ca fa w ++ rest) (cfe w) x1 r hf) (lw_V q1195 q1160 q1161 q88 q1162) 0 rfl rfl (n := 1) (by decide +kernel) hR hcs rfl hl rfl hcat hdg) kk
end K_cCF_isDry

section S_C_alike
variable {p : Program} {l : Launch} {e : Env} {R : Room} {s : State} {m : MethodId} {args : Array Value} {below : List Frame} {meth : Method} {c : Code} {H : Heap} {locs : List Loc} {cells slots : Nat} {Q : State → Prop} {cc : ByteArray} {nL pc : Nat} {ls : Array Slot} {st : List Value} {X : CX} {rest : va_W} {ca fa : Nat → Nat}
noncomputable def fC_alike (w : CW) (x1 : Int32) : Option (Int32 × CW) :=
  (fF_isDry (cfe w) (x1.toInt64)).bind fun r_1 =>
  if r_1 = 0 then
    b2 (fC_no w (-2)) fun r_16 f_13 =>
    (some (f_13)).bind fun w_14 =>
    some (r_16, w_14)
  else
    (fC_allPosts w ).bind fun r_4 =>
    (fC_tells_n w r_4).bind fun f_7 =>
    (some (f_7)).bind fun w_8 =>
    (fC_manyAlike w_8 x1).bind fun r_10 =>
    some (r_10, w_8)

set_option maxHeartbeats 4000000 in
theorem wC_alike (B : CallFix p m c cX0_alike 2 s args lw_all RX0) (hK : KK X s) {w : CW} {x1 : Int32} {res : Int32 × CW} (hf : fC_alike w x1 = some res) (kr : ∀ (r : Int32) (w1 : CW), res = (r, w1) → ∀ (H : Heap) (locs : List Loc), GG X (CP X ca fa w1 ++ rest) s.heap H locs → ∀ (pc : Nat) (ls : Array Slot), decode cX0_alike pc = .ok (.ireturn, 1) → W p l e (RMw 8 0 0 176) s m args below meth c H locs 0 0 Q (F0 m pc ls [.int r])) {H : Heap} {locs : List Loc} (hG : GG X (CP X ca fa w ++ rest) s.heap H locs) {ls : Array Slot} (hl : lv_has ls 2 [(0, .ref (ca 0)), (1, .int x1)]) : W p l e (RMw 8 0 0 176) s m args below meth c H locs 0 0 Q (F0 m 0 ls []) := by
  have hx := B.1
  have hb := B.2.1
  unfold fC_alike at hf
  refine lv_aload_n hx hb dX0_alike_0 rfl (lv_at hl 0 rfl) ?_
  refine co_this_g0 B hK hG.1 dX0_alike_1 ?_
  refine lv_iload_n hx hb dX0_alike_4 rfl (lv_at hl 1 rfl) ?_
  refine lv_i2l hx hb dX0_alike_5 rfl ?_
  obtain ⟨r_1, e_2, hf⟩ := bo hf
  refine cCF_isDry B hK hG.2.2 hG.1 e_2 ⟨Nat.le_of_ble_eq_true rfl, Nat.le_of_ble_eq_true rfl⟩ ⟨Nat.zero_le _, Nat.zero_le _⟩ hl.1 (Nat.le_of_ble_eq_true rfl) dX0_alike_6 ?_
  refine lv_if_ne (tgt := 19) hx hb dX0_alike_9 (by decide) (fun c_3 => ?_) (fun c_3 => ?_)
  · have hf := ifn c_3 hf
    refine lv_aload_n hx hb dX0_alike_19 rfl (lv_at hl 0 rfl) ?_
    refine lv_aload_n hx hb dX0_alike_20 rfl (lv_at hl 0 rfl) ?_
    obtain ⟨r_4, e_5, hf⟩ := bo hf
    refine cC_allPosts B hK hG.2.2 hG.1 e_5 ⟨Nat.le_of_ble_eq_true rfl, Nat.le_of_ble_eq_true rfl⟩ ⟨Nat.zero_le _, Nat.zero_le _⟩ hl.1 (Nat.le_of_ble_eq_true rfl) dX0_alike_21 ?_
    refine lv_null hx hb dX0_alike_24 ?_
    obtain ⟨f_7, e_6, hf⟩ := bo hf
    obtain ⟨w_8, e_9, hf⟩ := bo hf
    refine cC_tells_n B hK hG e_6 e_9 ⟨Nat.le_of_ble_eq_true rfl, Nat.le_of_ble_eq_true rfl⟩ ⟨Nat.zero_le _, Nat.zero_le _⟩ hl.1 (Nat.le_of_ble_eq_true rfl) dX0_alike_25 (fun H locs hG => ?_)
    refine lv_aload_n hx hb dX0_alike_28 rfl (lv_at hl 0 rfl) ?_
    refine lv_iload_n hx hb dX0_alike_29 rfl (lv_at hl 1 rfl) ?_
    obtain ⟨r_10, e_11, hf⟩ := bo hf
    refine cC_manyAlike B hK hG.2.2 hG.1 e_11 ⟨Nat.le_of_ble_eq_true rfl, Nat.le_of_ble_eq_true rfl⟩ ⟨Nat.zero_le _, Nat.zero_le _⟩ hl.1 (Nat.le_of_ble_eq_true rfl) dX0_alike_30 ?_
    exact kr _ _ (Option.some.inj hf).symm _ _ hG _ _ dX0_alike_33
  · have hf := ifp c_3 hf
    refine lv_aload_n hx hb dX0_alike_12 rfl (lv_at hl 0 rfl) ?_
    refine lv_bipush (v := (-2)) hx hb dX0_alike_13 (by decide) ?_
    obtain ⟨r_16, f_13, e_12, hf⟩ := b2s hf
    obtain ⟨w_14, e_15, hf⟩ := bo hf
    refine cC_no B hK hG e_12 e_15 ⟨Nat.le_of_ble_eq_true rfl, Nat.le_of_ble_eq_true rfl⟩ ⟨Nat.zero_le _, Nat.zero_le _⟩ hl.1 (Nat.le_of_ble_eq_true rfl) dX0_alike_15 (fun H locs hG => ?_)
    exact kr _ _ (Option.some.inj hf).symm _ _ hG _ _ dX0_alike_18

theorem tC_alike (l : Launch) (X : CX) (ca fa : Nat → Nat) (rest : va_W) (w w' : CW) (x1 : Int32) (r : Int32) (hf : fC_alike w x1 = some (r, w')) : RW l yX0_alike cX0_alike 2 (some .int) 8 0 0 176 [.ref (ca 0), .int x1] X (CP X ca fa w ++ rest) (CP X ca fa (w') ++ rest) (some (.int r)) := by
  refine RW.mk (by decide) (Nat.le_of_ble_eq_true rfl) ?_
  intro p e s m below meth c B hr hlk hK hG ls hl
  exact wC_alike B hK hf (fun r w h H locs hG pc ls hd => by cases h; exact w_iretW B hr hlk hG hd) hG hl
end S_C_alike

section S_C_tells
variable {p : Program} {l : Launch} {e : Env} {R : Room} {s : State} {m : MethodId} {args : Array Value} {below : List Frame} {meth : Method} {c : Code} {H : Heap} {locs : List Loc} {cells slots : Nat} {Q : State → Prop} {cc : ByteArray} {nL pc : Nat} {ls : Array Slot} {st : List Value} {X : CX} {rest : va_W} {ca fa : Nat → Nat}
noncomputable def fC_tells_L36 (w : CW) (x1 : Int32) (x2 : PV) (x3 : Int32) (x4 : Int64) (x6 : Int32) : Option ((Int64 × Int32 × CW) ⊕ (Int64 × CW)) :=
  if ((cfe w).1 8) ≤ x6 then
    some (.inr (x4, w))
  else
    (fC_has x1 x6).bind fun r_2 =>
    if r_2 = 0 then
      (some (x6 + 1)).bind fun x_5 =>
      some (.inl (x4, x_5, w))
    else
      (rdP (cfe w).2.2 8 x6).bind fun p_7 =>
      b2 (fC_armAt w p_7 x3) fun r_13 f_10 =>
      (some (f_10)).bind fun w_11 =>
      (some (((10 * x4) + (r_13.toInt64)) + 1)).bind fun x_14 =>
      (some (x6 + 1)).bind fun x_16 =>
      some (.inl (x_14, x_16, w_11))

set_option maxHeartbeats 4000000 in
theorem wC_tells_L36 (B : CallFix p m c cX0_tells 7 s args lw_all RX0) (hK : KK X s) {w : CW} {x1 : Int32} {x2 : PV} {x3 : Int32} {x4 : Int64} {x6 : Int32} {res : (Int64 × Int32 × CW) ⊕ (Int64 × CW)} (hf : fC_tells_L36 w x1 x2 x3 x4 x6 = some res) (kc : ∀ (y4 : Int64) (y6 : Int32) (w1 : CW), res = .inl (y4, y6, w1) → ∀ (H : Heap) (locs : List Loc), GG X (CP X ca fa w1 ++ rest) s.heap H locs → ∀ (ls : Array Slot), lv_has ls 7 [(0, .ref (ca 0)), (1, .int x1), (2, .ref x2.1), (3, .int x3), (4, .long y4), (6, .int y6)] → W p l e (RMw 7 0 0 150) s m args below meth c H locs 0 0 Q (F0 m 36 ls [])) (ke95 : ∀ (y4 : Int64) (w1 : CW), res = .inr (y4, w1) → ∀ (H : Heap) (locs : List Loc), GG X (CP X ca fa w1 ++ rest) s.heap H locs → ∀ (ls : Array Slot), lv_has ls 7 [(0, .ref (ca 0)), (1, .int x1), (2, .ref x2.1), (3, .int x3), (4, .long y4)] → W p l e (RMw 7 0 0 150) s m args below meth c H locs 0 0 Q (F0 m 95 ls [])) {H : Heap} {locs : List Loc} (hG : GG X (CP X ca fa w ++ rest) s.heap H locs) {ls : Array Slot} (hl : lv_has ls 7 [(0, .ref (ca 0)), (1, .int x1), (2, .ref x2.1), (3, .int x3), (4, .long x4), (6, .int x6)]) : W p l e (RMw 7 0 0 150) s m args below meth c H locs 0 0 Q (F0 m 36 ls []) := by
  have hx := B.1
  have hb := B.2.1
  unfold fC_tells_L36 at hf
  refine lv_iload hx hb dX0_tells_36 (lv_at hl 5 rfl) ?_
  refine lv_aload_n hx hb dX0_tells_38 rfl (lv_at hl 0 rfl) ?_
  refine co_this_g0 B hK hG.1 dX0_tells_39 ?_
  refine co_fen_g8 B hK hG.1 dX0_tells_42 ?_
  refine lv_icmp_ge (tgt := 95) hx hb dX0_tells_45 (by decide) (fun c_1 => ?_) (fun c_1 => ?_)
  · have hf := ifp c_1 hf
    exact ke95 _ _ (Option.some.inj hf).symm _ _ hG _ (lv_sub hl [0, 1, 2, 3, 4] rfl)
  · have hf := ifn c_1 hf
    refine lv_iload_n hx hb dX0_tells_48 rfl (lv_at hl 1 rfl) ?_
    refine lv_iload hx hb dX0_tells_49 (lv_at hl 5 rfl) ?_
    obtain ⟨r_2, e_3, hf⟩ := bo hf
    refine cC_has B e_3 ⟨Nat.le_of_ble_eq_true rfl, Nat.le_of_ble_eq_true rfl⟩ ⟨Nat.zero_le _, Nat.zero_le _⟩ hl.1 (Nat.le_of_ble_eq_true rfl) dX0_tells_51 ?_
    refine lv_if_eq (tgt := 85) hx hb dX0_tells_54 (by decide) (fun c_4 => ?_) (fun c_4 => ?_)
    · have hf := ifp c_4 hf
      refine lv_lload hx hb dX0_tells_85 (lv_at hl 4 rfl) ?_
      refine lv_lstore (lv' := [(4, .long x4), (0, .ref (ca 0)), (1, .int x1), (2, .ref x2.1), (3, .int x3), (6, .int x6)]) hx hb dX0_tells_87 hl (by decide) rfl (fun ls hl => ?_)
      obtain ⟨x_5, e_6, hf⟩ := bo hf
      refine w_iinc (k := 5) (lv' := [(6, .int x_5), (4, .long x4), (0, .ref (ca 0)), (1, .int x1), (2, .ref x2.1), (3, .int x3)]) e_6 hx hb dX0_tells_89 hl rfl (by decide) rfl (fun ls hl => ?_)
      refine lv_goto (tgt := 36) hx hb dX0_tells_92 (by decide) ?_
      exact kc _ _ _ (Option.some.inj hf).symm _ _ hG _ (lv_sub hl [2, 3, 4, 5, 1, 0] rfl)
    · have hf := ifn c_4 hf
      refine lv_ldc2 (v := 10) hx hb B.2.2.2.1 (B.2.2.2.2 _ q1205) dX0_tells_57 ?_
      refine lv_lload hx hb dX0_tells_60 (lv_at hl 4 rfl) ?_
      refine lv_lmul hx hb dX0_tells_62 ?_
      refine lv_aload_n hx hb dX0_tells_63 rfl (lv_at hl 0 rfl) ?_
      refine lv_aload_n hx hb dX0_tells_64 rfl (lv_at hl 0 rfl) ?_
      refine co_this_g0 B hK hG.1 dX0_tells_65 ?_
      refine co_fen_g1 B hK hG.1 dX0_tells_68 ?_
      refine lv_iload hx hb dX0_tells_71 (lv_at hl 5 rfl) ?_
      obtain ⟨p_7, e_8, hf⟩ := bo hf
      refine co_post_l B hK hG.1 e_8 dX0_tells_73 ?_
      refine lv_iload_n hx hb dX0_tells_74 rfl (lv_at hl 3 rfl) ?_
      obtain ⟨r_13, f_10, e_9, hf⟩ := b2s hf
      obtain ⟨w_11, e_12, hf⟩ := bo hf
      refine cC_armAt B hK hG e_9 e_12 ⟨Nat.le_of_ble_eq_true rfl, Nat.le_of_ble_eq_true rfl⟩ ⟨Nat.zero_le _, Nat.zero_le _⟩ hl.1 (Nat.le_of_ble_eq_true rfl) dX0_tells_75 (fun H locs hG => ?_)
      refine lv_i2l hx hb dX0_tells_78 rfl ?_
      refine lv_ladd hx hb dX0_tells_79 ?_
      refine lv_lconst (v := 1) hx hb dX0_tells_80 (by decide) ?_
      refine lv_ladd hx hb dX0_tells_81 ?_
      refine lv_goto (tgt := 87) hx hb dX0_tells_82 (by decide) ?_
      obtain ⟨x_14, e_15, hf⟩ := bo hf
      refine w_lstore (lv' := [(4, .long x_14), (0, .ref (ca 0)), (1, .int x1), (2, .ref x2.1), (3, .int x3), (6, .int x6)]) e_15 hx hb dX0_tells_87 hl (by decide) rfl (fun ls hl => ?_)
      obtain ⟨x_16, e_17, hf⟩ := bo hf
      refine w_iinc (k := 5) (lv' := [(6, .int x_16), (4, .long x_14), (0, .ref (ca 0)), (1, .int x1), (2, .ref x2.1), (3, .int x3)]) e_17 hx hb dX0_tells_89 hl rfl (by decide) rfl (fun ls hl => ?_)
      refine lv_goto (tgt := 36) hx hb dX0_tells_92 (by decide) ?_
      exact kc _ _ _ (Option.some.inj hf).symm _ _ hG _ (lv_sub hl [2, 3, 4, 5, 1, 0] rfl)

set_option maxHeartbeats 4000000 in
theorem vC_tells_L36 (B : CallFix p m c cX0_tells 7 s args lw_all RX0) (hK : KK X s) {w : CW} {x1 : Int32} {x2 : PV} {x3 : Int32} {x4 : Int64} {x6 : Int32} {res : Int64 × CW} (hf : lp (fun q : Int64 × Int32 × CW => fC_tells_L36 q.2.2 x1 x2 x3 q.1 q.2.1) (x4, x6, w) = some res) (ke95 : ∀ (y4 : Int64) (w1 : CW), res = (y4, w1) → ∀ (H : Heap) (locs : List Loc), GG X (CP X ca fa w1 ++ rest) s.heap H locs → ∀ (ls : Array Slot), lv_has ls 7 [(0, .ref (ca 0)), (1, .int x1), (2, .ref x2.1), (3, .int x3), (4, .long y4)] → W p l e (RMw 7 0 0 150) s m args below meth c H locs 0 0 Q (F0 m 95 ls [])) {H : Heap} {locs : List Loc} (hG : GG X (CP X ca fa w ++ rest) s.heap H locs) {ls : Array Slot} (hl : lv_has ls 7 [(0, .ref (ca 0)), (1, .int x1), (2, .ref x2.1), (3, .int x3), (4, .long x4), (6, .int x6)]) : W p l e (RMw 7 0 0 150) s m args below meth c H locs 0 0 Q (F0 m 36 ls []) := by
  refine lp_ind (r := res) (P := fun q : Int64 × Int32 × CW => ∀ (H : Heap) (locs : List Loc) (ls : Array Slot), GG X (CP X ca fa q.2.2 ++ rest) s.heap H locs → lv_has ls 7 [(0, .ref (ca 0)), (1, .int x1), (2, .ref x2.1), (3, .int x3), (4, .long q.1), (6, .int q.2.1)] → W p l e (RMw 7 0 0 150) s m args below meth c H locs 0 0 Q (F0 m 36 ls [])) ?_ ?_ _ hf _ _ _ hG hl
  · intro q hb H locs ls hG hl
    exact wC_tells_L36 B hK hb (fun _ _ _ h => by cases h) (fun z0 z1 h => ke95 z0 z1 (Sum.inr.inj h)) hG hl
  · intro q q2 hb ih H locs ls hG hl
    exact wC_tells_L36 B hK hb (fun z0 z1 z2 h => by cases h; exact fun H locs hG ls hl => ih H locs ls hG hl) (fun _ _ h => by cases h) hG hl

noncomputable def fC_tells_L9 (w : CW) (x1 : Int32) (x2 : PV) (x3 : Int32) : Option ((Int32 × CW) ⊕ (CW)) :=
  if x3 = (-1) then
    some (.inr w)
  else
    b2 (fC_armAt w x2 x3) fun r_6 f_3 =>
    (some (f_3)).bind fun w_4 =>
    (some ((r_6 + 1).toInt64)).bind fun x_7 =>
    (lp (fun q : Int64 × Int32 × CW => fC_tells_L36 q.2.2 x1 x2 x3 q.1 q.2.1) (x_7, 0, w_4)).bind (
      fun q_16 => (fun (y_9 : Int64) (w_10 : CW) =>
        ((stoL w_10.2.2.1 70 x3 y_9).map (fun g_13 => ctl w_10 g_13)).bind fun w_11 =>
        (fF_next (cfe w_11) x3).bind fun r_14 =>
        some (.inl (r_14, w_11))
      ) q_16.1 q_16.2
    )

set_option maxHeartbeats 4000000 in
theorem wC_tells_L9 (B : CallFix p m c cX0_tells 7 s args lw_all RX0) (hK : KK X s) {w : CW} {x1 : Int32} {x2 : PV} {x3 : Int32} {res : (Int32 × CW) ⊕ (CW)} (hf : fC_tells_L9 w x1 x2 x3 = some res) (kc : ∀ (y3 : Int32) (w1 : CW), res = .inl (y3, w1) → ∀ (H : Heap) (locs : List Loc), GG X (CP X ca fa w1 ++ rest) s.heap H locs → ∀ (ls : Array Slot), lv_has ls 7 [(0, .ref (ca 0)), (1, .int x1), (2, .ref x2.1), (3, .int y3)] → W p l e (RMw 7 0 0 150) s m args below meth c H locs 0 0 Q (F0 m 9 ls [])) (ke115 : ∀ (w1 : CW), res = .inr w1 → ∀ (H : Heap) (locs : List Loc), GG X (CP X ca fa w1 ++ rest) s.heap H locs → ∀ (ls : Array Slot), lv_has ls 7 [] → W p l e (RMw 7 0 0 150) s m args below meth c H locs 0 0 Q (F0 m 115 ls [])) {H : Heap} {locs : List Loc} (hG : GG X (CP X ca fa w ++ rest) s.heap H locs) {ls : Array Slot} (hl : lv_has ls 7 [(0, .ref (ca 0)), (1, .int x1), (2, .ref x2.1), (3, .int x3)]) : W p l e (RMw 7 0 0 150) s m args below meth c H locs 0 0 Q (F0 m 9 ls []) := by
  have hx := B.1
  have hb := B.2.1
  unfold fC_tells_L9 at hf
  refine lv_iload_n hx hb dX0_tells_9 rfl (lv_at hl 3 rfl) ?_
  refine lv_iconst (v := (-1)) hx hb dX0_tells_10 (by decide) ?_
  refine lv_icmp_eq (tgt := 115) hx hb dX0_tells_11 (by decide) (fun c_1 => ?_) (fun c_1 => ?_)
  · have hf := ifp c_1 hf
    exact ke115 _ (Option.some.inj hf).symm _ _ hG _ (lv_sub hl [] rfl)
  · have hf := ifn c_1 hf
    refine lv_aload_n hx hb dX0_tells_14 rfl (lv_at hl 2 rfl) ?_
    refine lv_ifnonnull (tgt := 22) hx hb dX0_tells_15 (by decide) ?_
    refine lv_aload_n hx hb dX0_tells_22 rfl (lv_at hl 0 rfl) ?_
    refine lv_aload_n hx hb dX0_tells_23 rfl (lv_at hl 2 rfl) ?_
    refine lv_iload_n hx hb dX0_tells_24 rfl (lv_at hl 3 rfl) ?_
    obtain ⟨r_6, f_3, e_2, hf⟩ := b2s hf
    obtain ⟨w_4, e_5, hf⟩ := bo hf
    refine cC_armAt B hK hG e_2 e_5 ⟨Nat.le_of_ble_eq_true rfl, Nat.le_of_ble_eq_true rfl⟩ ⟨Nat.zero_le _, Nat.zero_le _⟩ hl.1 (Nat.le_of_ble_eq_true rfl) dX0_tells_25 (fun H locs hG => ?_)
    refine lv_iconst (v := 1) hx hb dX0_tells_28 (by decide) ?_
    refine lv_iadd hx hb dX0_tells_29 ?_
    refine lv_i2l hx hb dX0_tells_30 rfl ?_
    obtain ⟨x_7, e_8, hf⟩ := bo hf
    refine w_lstore (lv' := [(4, .long x_7), (0, .ref (ca 0)), (1, .int x1), (2, .ref x2.1), (3, .int x3)]) e_8 hx hb dX0_tells_31 hl (by decide) rfl (fun ls hl => ?_)
    refine lv_iconst (v := 0) hx hb dX0_tells_33 (by decide) ?_
    refine lv_istore (lv' := [(6, .int 0), (4, .long x_7), (0, .ref (ca 0)), (1, .int x1), (2, .ref x2.1), (3, .int x3)]) hx hb dX0_tells_34 hl (by decide) rfl (fun ls hl => ?_)
    obtain ⟨⟨y_9, w_10⟩, e_17, hf⟩ := bo hf
    try dsimp only at hf
    refine vC_tells_L36 B hK e_17 ?_ hG (lv_sub hl [2, 3, 4, 5, 1, 0] rfl)
    intro z0 z1 hz
    cases hz
    intro H locs hG ls hl
    refine lv_aload_n hx hb dX0_tells_95 rfl (lv_at hl 0 rfl) ?_
    refine co_this_g3 B hK hG.1 dX0_tells_96 ?_
    refine lv_iload_n hx hb dX0_tells_99 rfl (lv_at hl 3 rfl) ?_
    refine lv_lload hx hb dX0_tells_100 (lv_at hl 4 rfl) ?_
    obtain ⟨w_11, e_12, hf⟩ := bo hf
    refine co_told_s B hK hG e_12 dX0_tells_102 (fun H locs hG => ?_)
    refine lv_aload_n hx hb dX0_tells_103 rfl (lv_at hl 0 rfl) ?_
    refine co_this_g0 B hK hG.1 dX0_tells_104 ?_
    refine lv_iload_n hx hb dX0_tells_107 rfl (lv_at hl 3 rfl) ?_
    obtain ⟨r_14, e_15, hf⟩ := bo hf
    refine cCF_next B hK hG.2.2 hG.1 e_15 ⟨Nat.le_of_ble_eq_true rfl, Nat.le_of_ble_eq_true rfl⟩ ⟨Nat.zero_le _, Nat.zero_le _⟩ hl.1 (Nat.le_of_ble_eq_true rfl) dX0_tells_108 ?_
    refine lv_istore_n (lv' := [(3, .int r_14), (0, .ref (ca 0)), (1, .int x1), (2, .ref x2.1), (4, .long y_9)]) hx hb dX0_tells_111 rfl hl (by decide) rfl (fun ls hl => ?_)
    refine lv_goto (tgt := 9) hx hb dX0_tells_112 (by decide) ?_
    exact kc _ _ (Option.some.inj hf).symm _ _ hG _ (lv_sub hl [1, 2, 3, 0] rfl)

set_option maxHeartbeats 4000000 in
theorem vC_tells_L9 (B : CallFix p m c cX0_tells 7 s args lw_all RX0) (hK : KK X s) {w : CW} {x1 : Int32} {x2 : PV} {x3 : Int32} {res : CW} (hf : lp (fun q : Int32 × CW => fC_tells_L9 q.2 x1 x2 q.1) (x3, w) = some res) (ke115 : ∀ (w1 : CW), res = w1 → ∀ (H : Heap) (locs : List Loc), GG X (CP X ca fa w1 ++ rest) s.heap H locs → ∀ (ls : Array Slot), lv_has ls 7 [] → W p l e (RMw 7 0 0 150) s m args below meth c H locs 0 0 Q (F0 m 115 ls [])) {H : Heap} {locs : List Loc} (hG : GG X (CP X ca fa w ++ rest) s.heap H locs) {ls : Array Slot} (hl : lv_has ls 7 [(0, .ref (ca 0)), (1, .int x1), (2, .ref x2.1), (3, .int x3)]) : W p l e (RMw 7 0 0 150) s m args below meth c H locs 0 0 Q (F0 m 9 ls []) := by
  refine lp_ind (r := res) (P := fun q : Int32 × CW => ∀ (H : Heap) (locs : List Loc) (ls : Array Slot), GG X (CP X ca fa q.2 ++ rest) s.heap H locs → lv_has ls 7 [(0, .ref (ca 0)), (1, .int x1), (2, .ref x2.1), (3, .int q.1)] → W p l e (RMw 7 0 0 150) s m args below meth c H locs 0 0 Q (F0 m 9 ls [])) ?_ ?_ _ hf _ _ _ hG hl
  · intro q hb H locs ls hG hl
    exact wC_tells_L9 B hK hb (fun _ _ h => by cases h) (fun z0 h => ke115 z0 (Sum.inr.inj h)) hG hl
  · intro q q2 hb ih H locs ls hG hl
    exact wC_tells_L9 B hK hb (fun z0 z1 h => by cases h; exact fun H locs hG ls hl => ih H locs ls hG hl) (fun _ h => by cases h) hG hl

noncomputable def fC_tells (w : CW) (x1 : Int32) (x2 : PV) : Option (CW) :=
  (fF_next (cfe w) (-1)).bind fun r_1 =>
  (lp (fun q : Int32 × CW => fC_tells_L9 q.2 x1 x2 q.1) (r_1, w)).bind (
    fun q_4 => (fun (w_3 : CW) =>
      some w_3
    ) q_4
  )

set_option maxHeartbeats 4000000 in
theorem wC_tells (B : CallFix p m c cX0_tells 7 s args lw_all RX0) (hK : KK X s) {w : CW} {x1 : Int32} {x2 : PV} {res : CW} (hf : fC_tells w x1 x2 = some res) (kr : ∀ (w1 : CW), res = w1 → ∀ (H : Heap) (locs : List Loc), GG X (CP X ca fa w1 ++ rest) s.heap H locs → ∀ (pc : Nat) (ls : Array Slot), decode cX0_tells pc = .ok (.return_, 1) → W p l e (RMw 7 0 0 150) s m args below meth c H locs 0 0 Q (F0 m pc ls [])) {H : Heap} {locs : List Loc} (hG : GG X (CP X ca fa w ++ rest) s.heap H locs) {ls : Array Slot} (hl : lv_has ls 7 [(0, .ref (ca 0)), (1, .int x1), (2, .ref x2.1)]) : W p l e (RMw 7 0 0 150) s m args below meth c H locs 0 0 Q (F0 m 0 ls []) := by
  have hx := B.1
  have hb := B.2.1
  unfold fC_tells at hf
  refine lv_aload_n hx hb dX0_tells_0 rfl (lv_at hl 0 rfl) ?_
  refine co_this_g0 B hK hG.1 dX0_tells_1 ?_
  refine lv_iconst (v := (-1)) hx hb dX0_tells_4 (by decide) ?_
  obtain ⟨r_1, e_2, hf⟩ := bo hf
  refine cCF_next B hK hG.2.2 hG.1 e_2 ⟨Nat.le_of_ble_eq_true rfl, Nat.le_of_ble_eq_true rfl⟩ ⟨Nat.zero_le _, Nat.zero_le _⟩ hl.1 (Nat.le_of_ble_eq_true rfl) dX0_tells_5 ?_
  refine lv_istore_n (lv' := [(3, .int r_1), (0, .ref (ca 0)), (1, .int x1), (2, .ref x2.1)]) hx hb dX0_tells_8 rfl hl (by decide) rfl (fun ls hl => ?_)
  obtain ⟨w_3, e_5, hf⟩ := bo hf
  try dsimp only at hf
  refine vC_tells_L9 B hK e_5 ?_ hG (lv_sub hl [1, 2, 3, 0] rfl)
  intro z0 hz
  cases hz
  intro H locs hG ls hl
  exact kr _ (Option.some.inj hf).symm _ _ hG _ _ dX0_tells_115

theorem tC_tells (l : Launch) (X : CX) (ca fa : Nat → Nat) (rest : va_W) (w w' : CW) (x1 : Int32) (x2 : PV) (hf : fC_tells w x1 x2 = some w') : RW l yX0_tells cX0_tells 7 none 7 0 0 150 [.ref (ca 0), .int x1, .ref x2.1] X (CP X ca fa w ++ rest) (CP X ca fa (w') ++ rest) none := by
  refine RW.mk (by decide) (Nat.le_of_ble_eq_true rfl) ?_
  intro p e s m below meth c B hr hlk hK hG ls hl
  exact wC_tells B hK hf (fun w h H locs hG pc ls hd => by cases h; exact w_vretW B hr hlk hG hd) hG hl
end S_C_tells

section K_cC_tells
variable {p : Program} {l : Launch} {e : Env} {R : Room} {s : State} {m : MethodId} {args : Array Value} {below : List Frame} {meth : Method} {c : Code} {H : Heap} {locs : List Loc} {cells slots : Nat} {Q : State → Prop} {cc : ByteArray} {nL pc : Nat} {ls : Array Slot} {st : List Value} {X : CX} {rest : va_W} {ca fa : Nat → Nat}
theorem cC_tells (B : CallFix p m c cc nL s args lw_all RX0) (hK : KK X s) {w : CW} (hG : GG X (CP X ca fa w ++ rest) s.heap H locs) {x1 : Int32} {x2 : PV} {f1 : CW} {w' : CW} (hf : fC_tells w x1 x2 = some f1) (hw : some (f1) = some w') (hR : 7 + 1 ≤ R.frames ∧ 176 ≤ R.locals) (hcs : cells ≤ R.cells ∧ slots ≤ R.slots) (hl : ls.size = nL) (hcat : (st.map fun v => v.category).sum ≤ 8) (hdg : decode cc pc = .ok (.invokevirtual 303, 3)) (kk : ∀ (H1 : Heap) (locs1 : List Loc), GG X (CP X ca fa (w') ++ rest) s.heap H1 locs1 → W p l e R s m args below meth c H1 locs1 cells slots Q (F0 m (pc + 3) ls st)) : W p l e R s m args below meth c H locs cells slots Q (F0 m pc ls (.ref x2.1 :: .int x1 :: .ref (ca 0) :: st)) := by
  cases hw
  exact w_afterWv (w_rV_RW (ws := CP X ca fa w ++ rest) (As := [.int x1, .ref x2.1]) B hK hG (tC_tells l X ca fa rest w f1 x1 x2 hf) (lw_V q1200 q1202 qs23 q87 q1203) 8 rfl rfl (n := 2) (by decide +kernel) hR hcs rfl hl rfl hcat hdg) hG.2.2 kk
end K_cC_tells

section S_C_groups
variable {p : Program} {l : Launch} {e : Env} {R : Room} {s : State} {m : MethodId} {args : Array Value} {below : List Frame} {meth : Method} {c : Code} {H : Heap} {locs : List Loc} {cells slots : Nat} {Q : State → Prop} {cc : ByteArray} {nL pc : Nat} {ls : Array Slot} {st : List Value} {X : CX} {rest : va_W} {ca fa : Nat → Nat}
noncomputable def fC_groups_J39_L18 (w : CW) (x4 : Int32) (t0 : Int32) (t1 : Int32) : Option ((Int32 × Int32) ⊕ (Int32)) :=
  (some (t0 + t1)).bind fun x_1 =>
  (fF_next (cfe w) x4).bind fun r_3 =>
  some (.inl (x_1, r_3))

set_option maxHeartbeats 4000000 in
theorem wC_groups_J39_L18 (B : CallFix p m c cX0_groups 5 s args lw_all RX0) (hK : KK X s) {w : CW} {x4 : Int32} {t0 : Int32} {t1 : Int32} {res : (Int32 × Int32) ⊕ (Int32)} (hf : fC_groups_J39_L18 w x4 t0 t1 = some res) (kc : ∀ (y3 : Int32) (y4 : Int32), res = .inl (y3, y4) → ∀ (H : Heap) (locs : List Loc), GG X (CP X ca fa w ++ rest) s.heap H locs → ∀ (ls : Array Slot), lv_has ls 5 [(0, .ref (ca 0)), (3, .int y3), (4, .int y4)] → W p l e (RMw 8 0 0 176) s m args below meth c H locs 0 0 Q (F0 m 18 ls [])) (ke55 : ∀ (y3 : Int32), res = .inr y3 → ∀ (H : Heap) (locs : List Loc), GG X (CP X ca fa w ++ rest) s.heap H locs → ∀ (ls : Array Slot), lv_has ls 5 [(3, .int y3)] → W p l e (RMw 8 0 0 176) s m args below meth c H locs 0 0 Q (F0 m 55 ls [])) {H : Heap} {locs : List Loc} (hG : GG X (CP X ca fa w ++ rest) s.heap H locs) {ls : Array Slot} (hl : lv_has ls 5 [(0, .ref (ca 0)), (4, .int x4)]) : W p l e (RMw 8 0 0 176) s m args below meth c H locs 0 0 Q (F0 m 39 ls [.int t1, .int t0]) := by
  have hx := B.1
  have hb := B.2.1
  unfold fC_groups_J39_L18 at hf
  refine lv_iadd hx hb dX0_groups_39 ?_
  obtain ⟨x_1, e_2, hf⟩ := bo hf
  refine w_istore_n (lv' := [(3, .int x_1), (0, .ref (ca 0)), (4, .int x4)]) e_2 hx hb dX0_groups_40 rfl hl (by decide) rfl (fun ls hl => ?_)
  refine lv_aload_n hx hb dX0_groups_41 rfl (lv_at hl 1 rfl) ?_
  refine co_this_g0 B hK hG.1 dX0_groups_42 ?_
  refine lv_iload hx hb dX0_groups_45 (lv_at hl 2 rfl) ?_
  obtain ⟨r_3, e_4, hf⟩ := bo hf
  refine cCF_next B hK hG.2.2 hG.1 e_4 ⟨Nat.le_of_ble_eq_true rfl, Nat.le_of_ble_eq_true rfl⟩ ⟨Nat.zero_le _, Nat.zero_le _⟩ hl.1 (Nat.le_of_ble_eq_true rfl) dX0_groups_47 ?_
  refine lv_istore (lv' := [(4, .int r_3), (3, .int x_1), (0, .ref (ca 0))]) hx hb dX0_groups_50 hl (by decide) rfl (fun ls hl => ?_)
  refine lv_goto (tgt := 18) hx hb dX0_groups_52 (by decide) ?_
  exact kc _ _ (Option.some.inj hf).symm _ _ hG _ (lv_sub hl [2, 1, 0] rfl)

noncomputable def fC_groups_L18 (w : CW) (x3 : Int32) (x4 : Int32) : Option ((Int32 × Int32) ⊕ (Int32)) :=
  if x4 = (-1) then
    some (.inr x3)
  else
    (fC_isFirst w x4).bind fun r_2 =>
    if r_2 = 0 then
      fC_groups_J39_L18 w x4 x3 0
    else
      fC_groups_J39_L18 w x4 x3 1

set_option maxHeartbeats 4000000 in
theorem wC_groups_L18 (B : CallFix p m c cX0_groups 5 s args lw_all RX0) (hK : KK X s) {w : CW} {x3 : Int32} {x4 : Int32} {res : (Int32 × Int32) ⊕ (Int32)} (hf : fC_groups_L18 w x3 x4 = some res) (kc : ∀ (y3 : Int32) (y4 : Int32), res = .inl (y3, y4) → ∀ (H : Heap) (locs : List Loc), GG X (CP X ca fa w ++ rest) s.heap H locs → ∀ (ls : Array Slot), lv_has ls 5 [(0, .ref (ca 0)), (3, .int y3), (4, .int y4)] → W p l e (RMw 8 0 0 176) s m args below meth c H locs 0 0 Q (F0 m 18 ls [])) (ke55 : ∀ (y3 : Int32), res = .inr y3 → ∀ (H : Heap) (locs : List Loc), GG X (CP X ca fa w ++ rest) s.heap H locs → ∀ (ls : Array Slot), lv_has ls 5 [(3, .int y3)] → W p l e (RMw 8 0 0 176) s m args below meth c H locs 0 0 Q (F0 m 55 ls [])) {H : Heap} {locs : List Loc} (hG : GG X (CP X ca fa w ++ rest) s.heap H locs) {ls : Array Slot} (hl : lv_has ls 5 [(0, .ref (ca 0)), (3, .int x3), (4, .int x4)]) : W p l e (RMw 8 0 0 176) s m args below meth c H locs 0 0 Q (F0 m 18 ls []) := by
  have hx := B.1
  have hb := B.2.1
  unfold fC_groups_L18 at hf
  refine lv_iload hx hb dX0_groups_18 (lv_at hl 2 rfl) ?_
  refine lv_iconst (v := (-1)) hx hb dX0_groups_20 (by decide) ?_
  refine lv_icmp_eq (tgt := 55) hx hb dX0_groups_21 (by decide) (fun c_1 => ?_) (fun c_1 => ?_)
  · have hf := ifp c_1 hf
    exact ke55 _ (Option.some.inj hf).symm _ _ hG _ (lv_sub hl [1] rfl)
  · have hf := ifn c_1 hf
    refine lv_iload_n hx hb dX0_groups_24 rfl (lv_at hl 1 rfl) ?_
    refine lv_aload_n hx hb dX0_groups_25 rfl (lv_at hl 0 rfl) ?_
    refine lv_iload hx hb dX0_groups_26 (lv_at hl 2 rfl) ?_
    obtain ⟨r_2, e_3, hf⟩ := bo hf
    refine cC_isFirst B hK hG.2.2 hG.1 e_3 ⟨Nat.le_of_ble_eq_true rfl, Nat.le_of_ble_eq_true rfl⟩ ⟨Nat.zero_le _, Nat.zero_le _⟩ hl.1 (Nat.le_of_ble_eq_true rfl) dX0_groups_28 ?_
    refine lv_if_eq (tgt := 38) hx hb dX0_groups_31 (by decide) (fun c_4 => ?_) (fun c_4 => ?_)
    · have hf := ifp c_4 hf
      refine lv_iconst (v := 0) hx hb dX0_groups_38 (by decide) ?_
      exact wC_groups_J39_L18 B hK hf kc ke55 hG (lv_sub hl [0, 2] rfl)
    · have hf := ifn c_4 hf
      refine lv_iconst (v := 1) hx hb dX0_groups_34 (by decide) ?_
      refine lv_goto (tgt := 39) hx hb dX0_groups_35 (by decide) ?_
      exact wC_groups_J39_L18 B hK hf kc ke55 hG (lv_sub hl [0, 2] rfl)

set_option maxHeartbeats 4000000 in
theorem vC_groups_L18 (B : CallFix p m c cX0_groups 5 s args lw_all RX0) (hK : KK X s) {w : CW} {x3 : Int32} {x4 : Int32} {res : Int32} (hf : lp (fun q : Int32 × Int32 => fC_groups_L18 w q.1 q.2) (x3, x4) = some res) (ke55 : ∀ (y3 : Int32), res = y3 → ∀ (H : Heap) (locs : List Loc), GG X (CP X ca fa w ++ rest) s.heap H locs → ∀ (ls : Array Slot), lv_has ls 5 [(3, .int y3)] → W p l e (RMw 8 0 0 176) s m args below meth c H locs 0 0 Q (F0 m 55 ls [])) {H : Heap} {locs : List Loc} (hG : GG X (CP X ca fa w ++ rest) s.heap H locs) {ls : Array Slot} (hl : lv_has ls 5 [(0, .ref (ca 0)), (3, .int x3), (4, .int x4)]) : W p l e (RMw 8 0 0 176) s m args below meth c H locs 0 0 Q (F0 m 18 ls []) := by
  refine lp_ind (r := res) (P := fun q : Int32 × Int32 => ∀ (H : Heap) (locs : List Loc) (ls : Array Slot), GG X (CP X ca fa w ++ rest) s.heap H locs → lv_has ls 5 [(0, .ref (ca 0)), (3, .int q.1), (4, .int q.2)] → W p l e (RMw 8 0 0 176) s m args below meth c H locs 0 0 Q (F0 m 18 ls [])) ?_ ?_ _ hf _ _ _ hG hl
  · intro q hb H locs ls hG hl
    exact wC_groups_L18 B hK hb (fun _ _ h => by cases h) (fun z0 h => ke55 z0 (Sum.inr.inj h)) hG hl
  · intro q q2 hb ih H locs ls hG hl
    exact wC_groups_L18 B hK hb (fun z0 z1 h => by cases h; exact fun H locs hG ls hl => ih H locs ls hG hl) (fun _ h => by cases h) hG hl

noncomputable def fC_groups (w : CW) (x1 : Int32) (x2 : PV) : Option (Int32 × CW) :=
  (fC_tells w x1 x2).bind fun f_2 =>
  (some (f_2)).bind fun w_3 =>
  (fF_next (cfe w_3) (-1)).bind fun r_5 =>
  (lp (fun q : Int32 × Int32 => fC_groups_L18 w_3 q.1 q.2) (0, r_5)).bind (
    fun q_8 => (fun (y_7 : Int32) =>
      some (y_7, w_3)
    ) q_8
  )

set_option maxHeartbeats 4000000 in
theorem wC_groups (B : CallFix p m c cX0_groups 5 s args lw_all RX0) (hK : KK X s) {w : CW} {x1 : Int32} {x2 : PV} {res : Int32 × CW} (hf : fC_groups w x1 x2 = some res) (kr : ∀ (r : Int32) (w1 : CW), res = (r, w1) → ∀ (H : Heap) (locs : List Loc), GG X (CP X ca fa w1 ++ rest) s.heap H locs → ∀ (pc : Nat) (ls : Array Slot), decode cX0_groups pc = .ok (.ireturn, 1) → W p l e (RMw 8 0 0 176) s m args below meth c H locs 0 0 Q (F0 m pc ls [.int r])) {H : Heap} {locs : List Loc} (hG : GG X (CP X ca fa w ++ rest) s.heap H locs) {ls : Array Slot} (hl : lv_has ls 5 [(0, .ref (ca 0)), (1, .int x1), (2, .ref x2.1)]) : W p l e (RMw 8 0 0 176) s m args below meth c H locs 0 0 Q (F0 m 0 ls []) := by
  have hx := B.1
  have hb := B.2.1
  unfold fC_groups at hf
  refine lv_aload_n hx hb dX0_groups_0 rfl (lv_at hl 0 rfl) ?_
  refine lv_iload_n hx hb dX0_groups_1 rfl (lv_at hl 1 rfl) ?_
  refine lv_aload_n hx hb dX0_groups_2 rfl (lv_at hl 2 rfl) ?_
  obtain ⟨f_2, e_1, hf⟩ := bo hf
  obtain ⟨w_3, e_4, hf⟩ := bo hf
  refine cC_tells B hK hG e_1 e_4 ⟨Nat.le_of_ble_eq_true rfl, Nat.le_of_ble_eq_true rfl⟩ ⟨Nat.zero_le _, Nat.zero_le _⟩ hl.1 (Nat.le_of_ble_eq_true rfl) dX0_groups_3 (fun H locs hG => ?_)
  refine lv_iconst (v := 0) hx hb dX0_groups_6 (by decide) ?_
  refine lv_istore_n (lv' := [(3, .int 0), (0, .ref (ca 0)), (1, .int x1), (2, .ref x2.1)]) hx hb dX0_groups_7 rfl hl (by decide) rfl (fun ls hl => ?_)
  refine lv_aload_n hx hb dX0_groups_8 rfl (lv_at hl 1 rfl) ?_
  refine co_this_g0 B hK hG.1 dX0_groups_9 ?_
  refine lv_iconst (v := (-1)) hx hb dX0_groups_12 (by decide) ?_
  obtain ⟨r_5, e_6, hf⟩ := bo hf
  refine cCF_next B hK hG.2.2 hG.1 e_6 ⟨Nat.le_of_ble_eq_true rfl, Nat.le_of_ble_eq_true rfl⟩ ⟨Nat.zero_le _, Nat.zero_le _⟩ hl.1 (Nat.le_of_ble_eq_true rfl) dX0_groups_13 ?_
  refine lv_istore (lv' := [(4, .int r_5), (3, .int 0), (0, .ref (ca 0)), (1, .int x1), (2, .ref x2.1)]) hx hb dX0_groups_16 hl (by decide) rfl (fun ls hl => ?_)
  obtain ⟨y_7, e_9, hf⟩ := bo hf
  try dsimp only at hf
  refine vC_groups_L18 B hK e_9 ?_ hG (lv_sub hl [2, 1, 0] rfl)
  intro z0 hz
  cases hz
  intro H locs hG ls hl
  refine lv_iload_n hx hb dX0_groups_55 rfl (lv_at hl 0 rfl) ?_
  exact kr _ _ (Option.some.inj hf).symm _ _ hG _ _ dX0_groups_56

theorem tC_groups (l : Launch) (X : CX) (ca fa : Nat → Nat) (rest : va_W) (w w' : CW) (x1 : Int32) (x2 : PV) (r : Int32) (hf : fC_groups w x1 x2 = some (r, w')) : RW l yX0_groups cX0_groups 5 (some .int) 8 0 0 176 [.ref (ca 0), .int x1, .ref x2.1] X (CP X ca fa w ++ rest) (CP X ca fa (w') ++ rest) (some (.int r)) := by
  refine RW.mk (by decide) (Nat.le_of_ble_eq_true rfl) ?_
  intro p e s m below meth c B hr hlk hK hG ls hl
  exact wC_groups B hK hf (fun r w h H locs hG pc ls hd => by cases h; exact w_iretW B hr hlk hG hd) hG hl
end S_C_groups

section S_C_fits
variable {p : Program} {l : Launch} {e : Env} {R : Room} {s : State} {m : MethodId} {args : Array Value} {below : List Frame} {meth : Method} {c : Code} {H : Heap} {locs : List Loc} {cells slots : Nat} {Q : State → Prop} {cc : ByteArray} {nL pc : Nat} {ls : Array Slot} {st : List Value} {X : CX} {rest : va_W} {ca fa : Nat → Nat} {pr : Nat × Nat × (Nat → Int64)}
noncomputable def fC_fits_L3 (pr : Nat × Nat × (Nat → Int64)) (w : CW) (x2 : Int32) (x3 : Int32) (x4 : Int32) : Option ((Int32 × CW) ⊕ (((CW) ⊕ CW))) :=
  if (nI pr.2.1) ≤ x4 then
    some (.inr (.inl w))
  else
    if (x4 / 2) = x3 then
      (some (x4 + 2)).bind fun x_3 =>
      some (.inl (x_3, w))
    else
      (rd pr.2.2 pr.2.1 x4).bind fun v_5 =>
      (rdP (cfe w).2.2 8 (v_5.toInt32)).bind fun p_7 =>
      b2 (fC_armAt w p_7 x2) fun r_13 f_10 =>
      (some (f_10)).bind fun w_11 =>
      (rd pr.2.2 pr.2.1 (x4 + 1)).bind fun v_14 =>
      if (lg_cmp (r_13.toInt64) v_14) = 0 then
        (some (x4 + 2)).bind fun x_17 =>
        some (.inl (x_17, w_11))
      else
        some (.inr (.inr w_11))

set_option maxHeartbeats 4000000 in
theorem wC_fits_L3 (B : CallFix p m c cX0_fits 5 s args lw_all RX0) (hK : KK X s) {w : CW} {x2 : Int32} {x3 : Int32} {x4 : Int32} {res : (Int32 × CW) ⊕ (((CW) ⊕ CW))} (hf : fC_fits_L3 pr w x2 x3 x4 = some res) (kc : ∀ (y4 : Int32) (w1 : CW), res = .inl (y4, w1) → ∀ (H : Heap) (locs : List Loc), GG X (CP X ca fa w1 ++ (LC X pr :: rest)) s.heap H locs → ∀ (ls : Array Slot), lv_has ls 5 [(0, .ref (ca 0)), (1, .ref pr.1), (2, .int x2), (3, .int x3), (4, .int y4)] → W p l e (RMw 7 0 0 150) s m args below meth c H locs 0 0 Q (F0 m 3 ls [])) (ke55 : ∀ (w1 : CW), res = .inr (.inl w1) → ∀ (H : Heap) (locs : List Loc), GG X (CP X ca fa w1 ++ (LC X pr :: rest)) s.heap H locs → ∀ (ls : Array Slot), lv_has ls 5 [] → W p l e (RMw 7 0 0 150) s m args below meth c H locs 0 0 Q (F0 m 55 ls [])) (ke47 : ∀ (w1 : CW), res = .inr (.inr w1) → ∀ (H : Heap) (locs : List Loc), GG X (CP X ca fa w1 ++ (LC X pr :: rest)) s.heap H locs → ∀ (ls : Array Slot), lv_has ls 5 [] → W p l e (RMw 7 0 0 150) s m args below meth c H locs 0 0 Q (F0 m 47 ls [])) {H : Heap} {locs : List Loc} (hG : GG X (CP X ca fa w ++ (LC X pr :: rest)) s.heap H locs) {ls : Array Slot} (hl : lv_has ls 5 [(0, .ref (ca 0)), (1, .ref pr.1), (2, .int x2), (3, .int x3), (4, .int x4)]) : W p l e (RMw 7 0 0 150) s m args below meth c H locs 0 0 Q (F0 m 3 ls []) := by
  have hx := B.1
  have hb := B.2.1
  unfold fC_fits_L3 at hf
  refine lv_iload hx hb dX0_fits_3 (lv_at hl 4 rfl) ?_
  refine lv_aload_n hx hb dX0_fits_5 rfl (lv_at hl 1 rfl) ?_
  refine co_pr_n B hK hG.1 dX0_fits_6 ?_
  refine lv_icmp_ge (tgt := 55) hx hb dX0_fits_7 (by decide) (fun c_1 => ?_) (fun c_1 => ?_)
  · have hf := ifp c_1 hf
    exact ke55 _ (Option.some.inj hf).symm _ _ hG _ (lv_sub hl [] rfl)
  · have hf := ifn c_1 hf
    refine lv_iload hx hb dX0_fits_10 (lv_at hl 4 rfl) ?_
    refine lv_iconst (v := 2) hx hb dX0_fits_12 (by decide) ?_
    refine lv_idiv hx hb dX0_fits_13 (by decide) ?_
    refine lv_iload_n hx hb dX0_fits_14 rfl (lv_at hl 3 rfl) ?_
    refine lv_icmp_eq (tgt := 49) hx hb dX0_fits_15 (by decide) (fun c_2 => ?_) (fun c_2 => ?_)
    · have hf := ifp c_2 hf
      obtain ⟨x_3, e_4, hf⟩ := bo hf
      refine w_iinc (k := 4) (lv' := [(4, .int x_3), (0, .ref (ca 0)), (1, .ref pr.1), (2, .int x2), (3, .int x3)]) e_4 hx hb dX0_fits_49 hl rfl (by decide) rfl (fun ls hl => ?_)
      refine lv_goto (tgt := 3) hx hb dX0_fits_52 (by decide) ?_
      exact kc _ _ (Option.some.inj hf).symm _ _ hG _ (lv_sub hl [1, 2, 3, 4, 0] rfl)
    · have hf := ifn c_2 hf
      refine lv_aload_n hx hb dX0_fits_18 rfl (lv_at hl 0 rfl) ?_
      refine lv_aload_n hx hb dX0_fits_19 rfl (lv_at hl 0 rfl) ?_
      refine co_this_g0 B hK hG.1 dX0_fits_20 ?_
      refine co_fen_g1 B hK hG.1 dX0_fits_23 ?_
      refine lv_aload_n hx hb dX0_fits_26 rfl (lv_at hl 1 rfl) ?_
      refine lv_iload hx hb dX0_fits_27 (lv_at hl 4 rfl) ?_
      obtain ⟨v_5, e_6, hf⟩ := bo hf
      refine co_pr_l B hK hG.1 e_6 dX0_fits_29 ?_
      refine lv_l2i hx hb dX0_fits_30 rfl ?_
      obtain ⟨p_7, e_8, hf⟩ := bo hf
      refine co_post_l B hK hG.1 e_8 dX0_fits_31 ?_
      refine lv_iload_n hx hb dX0_fits_32 rfl (lv_at hl 2 rfl) ?_
      obtain ⟨r_13, f_10, e_9, hf⟩ := b2s hf
      obtain ⟨w_11, e_12, hf⟩ := bo hf
      refine cC_armAt B hK hG e_9 e_12 ⟨Nat.le_of_ble_eq_true rfl, Nat.le_of_ble_eq_true rfl⟩ ⟨Nat.zero_le _, Nat.zero_le _⟩ hl.1 (Nat.le_of_ble_eq_true rfl) dX0_fits_33 (fun H locs hG => ?_)
      refine lv_i2l hx hb dX0_fits_36 rfl ?_
      refine lv_aload_n hx hb dX0_fits_37 rfl (lv_at hl 1 rfl) ?_
      refine lv_iload hx hb dX0_fits_38 (lv_at hl 4 rfl) ?_
      refine lv_iconst (v := 1) hx hb dX0_fits_40 (by decide) ?_
      refine lv_iadd hx hb dX0_fits_41 ?_
      obtain ⟨v_14, e_15, hf⟩ := bo hf
      refine co_pr_l B hK hG.1 e_15 dX0_fits_42 ?_
      refine W.lcmp hx hb dX0_fits_43 ?_
      refine lv_if_eq (tgt := 49) hx hb dX0_fits_44 (by decide) (fun c_16 => ?_) (fun c_16 => ?_)
      · have hf := ifp c_16 hf
        obtain ⟨x_17, e_18, hf⟩ := bo hf
        refine w_iinc (k := 4) (lv' := [(4, .int x_17), (0, .ref (ca 0)), (1, .ref pr.1), (2, .int x2), (3, .int x3)]) e_18 hx hb dX0_fits_49 hl rfl (by decide) rfl (fun ls hl => ?_)
        refine lv_goto (tgt := 3) hx hb dX0_fits_52 (by decide) ?_
        exact kc _ _ (Option.some.inj hf).symm _ _ hG _ (lv_sub hl [1, 2, 3, 4, 0] rfl)
      · have hf := ifn c_16 hf
        exact ke47 _ (Option.some.inj hf).symm _ _ hG _ (lv_sub hl [] rfl)

set_option maxHeartbeats 4000000 in
theorem vC_fits_L3 (B : CallFix p m c cX0_fits 5 s args lw_all RX0) (hK : KK X s) {w : CW} {x2 : Int32} {x3 : Int32} {x4 : Int32} {res : ((CW) ⊕ CW)} (hf : lp (fun q : Int32 × CW => fC_fits_L3 pr q.2 x2 x3 q.1) (x4, w) = some res) (ke55 : ∀ (w1 : CW), res = (.inl w1) → ∀ (H : Heap) (locs : List Loc), GG X (CP X ca fa w1 ++ (LC X pr :: rest)) s.heap H locs → ∀ (ls : Array Slot), lv_has ls 5 [] → W p l e (RMw 7 0 0 150) s m args below meth c H locs 0 0 Q (F0 m 55 ls [])) (ke47 : ∀ (w1 : CW), res = (.inr w1) → ∀ (H : Heap) (locs : List Loc), GG X (CP X ca fa w1 ++ (LC X pr :: rest)) s.heap H locs → ∀ (ls : Array Slot), lv_has ls 5 [] → W p l e (RMw 7 0 0 150) s m args below meth c H locs 0 0 Q (F0 m 47 ls [])) {H : Heap} {locs : List Loc} (hG : GG X (CP X ca fa w ++ (LC X pr :: rest)) s.heap H locs) {ls : Array Slot} (hl : lv_has ls 5 [(0, .ref (ca 0)), (1, .ref pr.1), (2, .int x2), (3, .int x3), (4, .int x4)]) : W p l e (RMw 7 0 0 150) s m args below meth c H locs 0 0 Q (F0 m 3 ls []) := by
  refine lp_ind (r := res) (P := fun q : Int32 × CW => ∀ (H : Heap) (locs : List Loc) (ls : Array Slot), GG X (CP X ca fa q.2 ++ (LC X pr :: rest)) s.heap H locs → lv_has ls 5 [(0, .ref (ca 0)), (1, .ref pr.1), (2, .int x2), (3, .int x3), (4, .int q.1)] → W p l e (RMw 7 0 0 150) s m args below meth c H locs 0 0 Q (F0 m 3 ls [])) ?_ ?_ _ hf _ _ _ hG hl
  · intro q hb H locs ls hG hl
    exact wC_fits_L3 B hK hb (fun _ _ h => by cases h) (fun z0 h => ke55 z0 (Sum.inr.inj h)) (fun z0 h => ke47 z0 (Sum.inr.inj h)) hG hl
  · intro q q2 hb ih H locs ls hG hl
    exact wC_fits_L3 B hK hb (fun z0 z1 h => by cases h; exact fun H locs hG ls hl => ih H locs ls hG hl) (fun _ h => by cases h) (fun _ h => by cases h) hG hl

noncomputable def fC_fits (pr : Nat × Nat × (Nat → Int64)) (w : CW) (x2 : Int32) (x3 : Int32) : Option (Int32 × CW) :=
  (lp (fun q : Int32 × CW => fC_fits_L3 pr q.2 x2 x3 q.1) (0, w)).bind
    (Sum.elim (
      fun q_3 => (fun (w_1 : CW) =>
        some (1, w_1)
      ) q_3
    )
      (
        fun q_4 => (fun (w_2 : CW) =>
          some (0, w_2)
        ) q_4
      )
    )

set_option maxHeartbeats 4000000 in
theorem wC_fits (B : CallFix p m c cX0_fits 5 s args lw_all RX0) (hK : KK X s) {w : CW} {x2 : Int32} {x3 : Int32} {res : Int32 × CW} (hf : fC_fits pr w x2 x3 = some res) (kr : ∀ (r : Int32) (w1 : CW), res = (r, w1) → narrow .boolean (.int r) = .int r → ∀ (H : Heap) (locs : List Loc), GG X (CP X ca fa w1 ++ (LC X pr :: rest)) s.heap H locs → ∀ (pc : Nat) (ls : Array Slot), decode cX0_fits pc = .ok (.ireturn, 1) → W p l e (RMw 7 0 0 150) s m args below meth c H locs 0 0 Q (F0 m pc ls [.int r])) {H : Heap} {locs : List Loc} (hG : GG X (CP X ca fa w ++ (LC X pr :: rest)) s.heap H locs) {ls : Array Slot} (hl : lv_has ls 5 [(0, .ref (ca 0)), (1, .ref pr.1), (2, .int x2), (3, .int x3)]) : W p l e (RMw 7 0 0 150) s m args below meth c H locs 0 0 Q (F0 m 0 ls []) := by
  have hx := B.1
  have hb := B.2.1
  unfold fC_fits at hf
  refine lv_iconst (v := 0) hx hb dX0_fits_0 (by decide) ?_
  refine lv_istore (lv' := [(4, .int 0), (0, .ref (ca 0)), (1, .ref pr.1), (2, .int x2), (3, .int x3)]) hx hb dX0_fits_1 hl (by decide) rfl (fun ls hl => ?_)
  rcases bs hf with ⟨w_1, e_5, hf⟩ | ⟨w_2, e_5, hf⟩
  · try dsimp only at hf
    refine vC_fits_L3 B hK e_5 ?_ (fun _ h => by cases h) hG (lv_sub hl [1, 2, 3, 4, 0] rfl)
    intro z0 hz
    cases hz
    intro H locs hG ls hl
    refine lv_iconst (v := 1) hx hb dX0_fits_55 (by decide) ?_
    exact kr _ _ (Option.some.inj hf).symm (by decide) _ _ hG _ _ dX0_fits_56
  · try dsimp only at hf
    refine vC_fits_L3 B hK e_5 (fun _ h => by cases h) ?_ hG (lv_sub hl [1, 2, 3, 4, 0] rfl)
    intro z0 hz
    cases hz
    intro H locs hG ls hl
    refine lv_iconst (v := 0) hx hb dX0_fits_47 (by decide) ?_
    exact kr _ _ (Option.some.inj hf).symm (by decide) _ _ hG _ _ dX0_fits_48

theorem tC_fits (l : Launch) (X : CX) (ca fa : Nat → Nat) (pr : Nat × Nat × (Nat → Int64)) (rest : va_W) (w w' : CW) (x2 : Int32) (x3 : Int32) (r : Int32) (hf : fC_fits pr w x2 x3 = some (r, w')) : RW l yX0_fits cX0_fits 5 (some .boolean) 7 0 0 150 [.ref (ca 0), .ref pr.1, .int x2, .int x3] X (CP X ca fa w ++ (LC X pr :: rest)) (CP X ca fa (w') ++ (LC X pr :: rest)) (some (.int r)) := by
  refine RW.mk (by decide) (Nat.le_of_ble_eq_true rfl) ?_
  intro p e s m below meth c B hr hlk hK hG ls hl
  exact wC_fits B hK hf (fun r w h hn H locs hG pc ls hd => by cases h; exact w_zretW B hr hlk hn hG hd) hG hl
end S_C_fits

section K_cC_fits
variable {p : Program} {l : Launch} {e : Env} {R : Room} {s : State} {m : MethodId} {args : Array Value} {below : List Frame} {meth : Method} {c : Code} {H : Heap} {locs : List Loc} {cells slots : Nat} {Q : State → Prop} {cc : ByteArray} {nL pc : Nat} {ls : Array Slot} {st : List Value} {X : CX} {rest : va_W} {ca fa : Nat → Nat} {pr : Nat × Nat × (Nat → Int64)}
theorem cC_fits (B : CallFix p m c cc nL s args lw_all RX0) (hK : KK X s) {w : CW} (hG : GG X (CP X ca fa w ++ (LC X pr :: rest)) s.heap H locs) {x2 : Int32} {x3 : Int32} {r : Int32} {f1 : CW} {w' : CW} (hf : fC_fits pr w x2 x3 = some (r, f1)) (hw : some (f1) = some w') (hR : 7 + 1 ≤ R.frames ∧ 174 ≤ R.locals) (hcs : cells ≤ R.cells ∧ slots ≤ R.slots) (hl : ls.size = nL) (hcat : (st.map fun v => v.category).sum ≤ 8) (hdg : decode cc pc = .ok (.invokevirtual 268, 3)) (kk : ∀ (H1 : Heap) (locs1 : List Loc), GG X (CP X ca fa (w') ++ (LC X pr :: rest)) s.heap H1 locs1 → W p l e R s m args below meth c H1 locs1 cells slots Q (F0 m (pc + 3) ls (.int r :: st))) : W p l e R s m args below meth c H locs cells slots Q (F0 m pc ls (.int x3 :: .int x2 :: .ref pr.1 :: .ref (ca 0) :: st)) := by
  cases hw
  exact w_afterW (w_rV_RW (ws := CP X ca fa w ++ (LC X pr :: rest)) (As := [.ref pr.1, .int x2, .int x3]) B hK hG (tC_fits l X ca fa pr rest w f1 x2 x3 r hf) (lw_V q1164 q1166 qs18 q87 q1167) 8 rfl rfl (n := 3) (by decide +kernel) hR hcs rfl hl rfl hcat hdg) hG.2.2 kk
end K_cC_fits

section S_C_many
variable {p : Program} {l : Launch} {e : Env} {R : Room} {s : State} {m : MethodId} {args : Array Value} {below : List Frame} {meth : Method} {c : Code} {H : Heap} {locs : List Loc} {cells slots : Nat} {Q : State → Prop} {cc : ByteArray} {nL pc : Nat} {ls : Array Slot} {st : List Value} {X : CX} {rest : va_W} {ca fa : Nat → Nat} {pr : Nat × Nat × (Nat → Int64)}
noncomputable def fC_many_J35_L12 (pr : Nat × Nat × (Nat → Int64)) (w : CW) (x2 : Int32) (x4 : Int32) (t0 : Int32) (t1 : Int32) : Option ((Int32 × Int32 × CW) ⊕ (Int32 × CW)) :=
  (some (t0 + t1)).bind fun x_1 =>
  (fF_next (cfe w) x4).bind fun r_3 =>
  some (.inl (x_1, r_3, w))

set_option maxHeartbeats 4000000 in
theorem wC_many_J35_L12 (B : CallFix p m c cX0_many 5 s args lw_all RX0) (hK : KK X s) {w : CW} {x2 : Int32} {x4 : Int32} {t0 : Int32} {t1 : Int32} {res : (Int32 × Int32 × CW) ⊕ (Int32 × CW)} (hf : fC_many_J35_L12 pr w x2 x4 t0 t1 = some res) (kc : ∀ (y3 : Int32) (y4 : Int32) (w1 : CW), res = .inl (y3, y4, w1) → ∀ (H : Heap) (locs : List Loc), GG X (CP X ca fa w1 ++ (LC X pr :: rest)) s.heap H locs → ∀ (ls : Array Slot), lv_has ls 5 [(0, .ref (ca 0)), (1, .ref pr.1), (2, .int x2), (3, .int y3), (4, .int y4)] → W p l e (RMw 8 0 0 174) s m args below meth c H locs 0 0 Q (F0 m 12 ls [])) (ke51 : ∀ (y3 : Int32) (w1 : CW), res = .inr (y3, w1) → ∀ (H : Heap) (locs : List Loc), GG X (CP X ca fa w1 ++ (LC X pr :: rest)) s.heap H locs → ∀ (ls : Array Slot), lv_has ls 5 [(3, .int y3)] → W p l e (RMw 8 0 0 174) s m args below meth c H locs 0 0 Q (F0 m 51 ls [])) {H : Heap} {locs : List Loc} (hG : GG X (CP X ca fa w ++ (LC X pr :: rest)) s.heap H locs) {ls : Array Slot} (hl : lv_has ls 5 [(0, .ref (ca 0)), (1, .ref pr.1), (2, .int x2), (4, .int x4)]) : W p l e (RMw 8 0 0 174) s m args below meth c H locs 0 0 Q (F0 m 35 ls [.int t1, .int t0]) := by
  have hx := B.1
  have hb := B.2.1
  unfold fC_many_J35_L12 at hf
  refine lv_iadd hx hb dX0_many_35 ?_
  obtain ⟨x_1, e_2, hf⟩ := bo hf
  refine w_istore_n (lv' := [(3, .int x_1), (0, .ref (ca 0)), (1, .ref pr.1), (2, .int x2), (4, .int x4)]) e_2 hx hb dX0_many_36 rfl hl (by decide) rfl (fun ls hl => ?_)
  refine lv_aload_n hx hb dX0_many_37 rfl (lv_at hl 1 rfl) ?_
  refine co_this_g0 B hK hG.1 dX0_many_38 ?_
  refine lv_iload hx hb dX0_many_41 (lv_at hl 4 rfl) ?_
  obtain ⟨r_3, e_4, hf⟩ := bo hf
  refine cCF_next B hK hG.2.2 hG.1 e_4 ⟨Nat.le_of_ble_eq_true rfl, Nat.le_of_ble_eq_true rfl⟩ ⟨Nat.zero_le _, Nat.zero_le _⟩ hl.1 (Nat.le_of_ble_eq_true rfl) dX0_many_43 ?_
  refine lv_istore (lv' := [(4, .int r_3), (3, .int x_1), (0, .ref (ca 0)), (1, .ref pr.1), (2, .int x2)]) hx hb dX0_many_46 hl (by decide) rfl (fun ls hl => ?_)
  refine lv_goto (tgt := 12) hx hb dX0_many_48 (by decide) ?_
  exact kc _ _ _ (Option.some.inj hf).symm _ _ hG _ (lv_sub hl [2, 3, 4, 1, 0] rfl)

noncomputable def fC_many_L12 (pr : Nat × Nat × (Nat → Int64)) (w : CW) (x2 : Int32) (x3 : Int32) (x4 : Int32) : Option ((Int32 × Int32 × CW) ⊕ (Int32 × CW)) :=
  if x4 = (-1) then
    some (.inr (x3, w))
  else
    b2 (fC_fits pr w x4 x2) fun r_6 f_3 =>
    (some (f_3)).bind fun w_4 =>
    if r_6 = 0 then
      fC_many_J35_L12 pr w_4 x2 x4 x3 0
    else
      fC_many_J35_L12 pr w_4 x2 x4 x3 1

set_option maxHeartbeats 4000000 in
theorem wC_many_L12 (B : CallFix p m c cX0_many 5 s args lw_all RX0) (hK : KK X s) {w : CW} {x2 : Int32} {x3 : Int32} {x4 : Int32} {res : (Int32 × Int32 × CW) ⊕ (Int32 × CW)} (hf : fC_many_L12 pr w x2 x3 x4 = some res) (kc : ∀ (y3 : Int32) (y4 : Int32) (w1 : CW), res = .inl (y3, y4, w1) → ∀ (H : Heap) (locs : List Loc), GG X (CP X ca fa w1 ++ (LC X pr :: rest)) s.heap H locs → ∀ (ls : Array Slot), lv_has ls 5 [(0, .ref (ca 0)), (1, .ref pr.1), (2, .int x2), (3, .int y3), (4, .int y4)] → W p l e (RMw 8 0 0 174) s m args below meth c H locs 0 0 Q (F0 m 12 ls [])) (ke51 : ∀ (y3 : Int32) (w1 : CW), res = .inr (y3, w1) → ∀ (H : Heap) (locs : List Loc), GG X (CP X ca fa w1 ++ (LC X pr :: rest)) s.heap H locs → ∀ (ls : Array Slot), lv_has ls 5 [(3, .int y3)] → W p l e (RMw 8 0 0 174) s m args below meth c H locs 0 0 Q (F0 m 51 ls [])) {H : Heap} {locs : List Loc} (hG : GG X (CP X ca fa w ++ (LC X pr :: rest)) s.heap H locs) {ls : Array Slot} (hl : lv_has ls 5 [(0, .ref (ca 0)), (1, .ref pr.1), (2, .int x2), (3, .int x3), (4, .int x4)]) : W p l e (RMw 8 0 0 174) s m args below meth c H locs 0 0 Q (F0 m 12 ls []) := by
  have hx := B.1
  have hb := B.2.1
  unfold fC_many_L12 at hf
  refine lv_iload hx hb dX0_many_12 (lv_at hl 4 rfl) ?_
  refine lv_iconst (v := (-1)) hx hb dX0_many_14 (by decide) ?_
  refine lv_icmp_eq (tgt := 51) hx hb dX0_many_15 (by decide) (fun c_1 => ?_) (fun c_1 => ?_)
  · have hf := ifp c_1 hf
    exact ke51 _ _ (Option.some.inj hf).symm _ _ hG _ (lv_sub hl [3] rfl)
  · have hf := ifn c_1 hf
    refine lv_iload_n hx hb dX0_many_18 rfl (lv_at hl 3 rfl) ?_
    refine lv_aload_n hx hb dX0_many_19 rfl (lv_at hl 0 rfl) ?_
    refine lv_aload_n hx hb dX0_many_20 rfl (lv_at hl 1 rfl) ?_
    refine lv_iload hx hb dX0_many_21 (lv_at hl 4 rfl) ?_
    refine lv_iload_n hx hb dX0_many_23 rfl (lv_at hl 2 rfl) ?_
    obtain ⟨r_6, f_3, e_2, hf⟩ := b2s hf
    obtain ⟨w_4, e_5, hf⟩ := bo hf
    refine cC_fits B hK hG e_2 e_5 ⟨Nat.le_of_ble_eq_true rfl, Nat.le_of_ble_eq_true rfl⟩ ⟨Nat.zero_le _, Nat.zero_le _⟩ hl.1 (Nat.le_of_ble_eq_true rfl) dX0_many_24 (fun H locs hG => ?_)
    refine lv_if_eq (tgt := 34) hx hb dX0_many_27 (by decide) (fun c_7 => ?_) (fun c_7 => ?_)
    · have hf := ifp c_7 hf
      refine lv_iconst (v := 0) hx hb dX0_many_34 (by decide) ?_
      exact wC_many_J35_L12 B hK hf kc ke51 hG (lv_sub hl [0, 1, 2, 4] rfl)
    · have hf := ifn c_7 hf
      refine lv_iconst (v := 1) hx hb dX0_many_30 (by decide) ?_
      refine lv_goto (tgt := 35) hx hb dX0_many_31 (by decide) ?_
      exact wC_many_J35_L12 B hK hf kc ke51 hG (lv_sub hl [0, 1, 2, 4] rfl)

set_option maxHeartbeats 4000000 in
theorem vC_many_L12 (B : CallFix p m c cX0_many 5 s args lw_all RX0) (hK : KK X s) {w : CW} {x2 : Int32} {x3 : Int32} {x4 : Int32} {res : Int32 × CW} (hf : lp (fun q : Int32 × Int32 × CW => fC_many_L12 pr q.2.2 x2 q.1 q.2.1) (x3, x4, w) = some res) (ke51 : ∀ (y3 : Int32) (w1 : CW), res = (y3, w1) → ∀ (H : Heap) (locs : List Loc), GG X (CP X ca fa w1 ++ (LC X pr :: rest)) s.heap H locs → ∀ (ls : Array Slot), lv_has ls 5 [(3, .int y3)] → W p l e (RMw 8 0 0 174) s m args below meth c H locs 0 0 Q (F0 m 51 ls [])) {H : Heap} {locs : List Loc} (hG : GG X (CP X ca fa w ++ (LC X pr :: rest)) s.heap H locs) {ls : Array Slot} (hl : lv_has ls 5 [(0, .ref (ca 0)), (1, .ref pr.1), (2, .int x2), (3, .int x3), (4, .int x4)]) : W p l e (RMw 8 0 0 174) s m args below meth c H locs 0 0 Q (F0 m 12 ls []) := by
  refine lp_ind (r := res) (P := fun q : Int32 × Int32 × CW => ∀ (H : Heap) (locs : List Loc) (ls : Array Slot), GG X (CP X ca fa q.2.2 ++ (LC X pr :: rest)) s.heap H locs → lv_has ls 5 [(0, .ref (ca 0)), (1, .ref pr.1), (2, .int x2), (3, .int q.1), (4, .int q.2.1)] → W p l e (RMw 8 0 0 174) s m args below meth c H locs 0 0 Q (F0 m 12 ls [])) ?_ ?_ _ hf _ _ _ hG hl
  · intro q hb H locs ls hG hl
    exact wC_many_L12 B hK hb (fun _ _ _ h => by cases h) (fun z0 z1 h => ke51 z0 z1 (Sum.inr.inj h)) hG hl
  · intro q q2 hb ih H locs ls hG hl
    exact wC_many_L12 B hK hb (fun z0 z1 z2 h => by cases h; exact fun H locs hG ls hl => ih H locs ls hG hl) (fun _ _ h => by cases h) hG hl

noncomputable def fC_many (pr : Nat × Nat × (Nat → Int64)) (w : CW) (x2 : Int32) : Option (Int32 × CW) :=
  (fF_next (cfe w) (-1)).bind fun r_1 =>
  (lp (fun q : Int32 × Int32 × CW => fC_many_L12 pr q.2.2 x2 q.1 q.2.1) (0, r_1, w)).bind (
    fun q_5 => (fun (y_3 : Int32) (w_4 : CW) =>
      some (y_3, w_4)
    ) q_5.1 q_5.2
  )

set_option maxHeartbeats 4000000 in
theorem wC_many (B : CallFix p m c cX0_many 5 s args lw_all RX0) (hK : KK X s) {w : CW} {x2 : Int32} {res : Int32 × CW} (hf : fC_many pr w x2 = some res) (kr : ∀ (r : Int32) (w1 : CW), res = (r, w1) → ∀ (H : Heap) (locs : List Loc), GG X (CP X ca fa w1 ++ (LC X pr :: rest)) s.heap H locs → ∀ (pc : Nat) (ls : Array Slot), decode cX0_many pc = .ok (.ireturn, 1) → W p l e (RMw 8 0 0 174) s m args below meth c H locs 0 0 Q (F0 m pc ls [.int r])) {H : Heap} {locs : List Loc} (hG : GG X (CP X ca fa w ++ (LC X pr :: rest)) s.heap H locs) {ls : Array Slot} (hl : lv_has ls 5 [(0, .ref (ca 0)), (1, .ref pr.1), (2, .int x2)]) : W p l e (RMw 8 0 0 174) s m args below meth c H locs 0 0 Q (F0 m 0 ls []) := by
  have hx := B.1
  have hb := B.2.1
  unfold fC_many at hf
  refine lv_iconst (v := 0) hx hb dX0_many_0 (by decide) ?_
  refine lv_istore_n (lv' := [(3, .int 0), (0, .ref (ca 0)), (1, .ref pr.1), (2, .int x2)]) hx hb dX0_many_1 rfl hl (by decide) rfl (fun ls hl => ?_)
  refine lv_aload_n hx hb dX0_many_2 rfl (lv_at hl 1 rfl) ?_
  refine co_this_g0 B hK hG.1 dX0_many_3 ?_
  refine lv_iconst (v := (-1)) hx hb dX0_many_6 (by decide) ?_
  obtain ⟨r_1, e_2, hf⟩ := bo hf
  refine cCF_next B hK hG.2.2 hG.1 e_2 ⟨Nat.le_of_ble_eq_true rfl, Nat.le_of_ble_eq_true rfl⟩ ⟨Nat.zero_le _, Nat.zero_le _⟩ hl.1 (Nat.le_of_ble_eq_true rfl) dX0_many_7 ?_
  refine lv_istore (lv' := [(4, .int r_1), (3, .int 0), (0, .ref (ca 0)), (1, .ref pr.1), (2, .int x2)]) hx hb dX0_many_10 hl (by decide) rfl (fun ls hl => ?_)
  obtain ⟨⟨y_3, w_4⟩, e_6, hf⟩ := bo hf
  try dsimp only at hf
  refine vC_many_L12 B hK e_6 ?_ hG (lv_sub hl [2, 3, 4, 1, 0] rfl)
  intro z0 z1 hz
  cases hz
  intro H locs hG ls hl
  refine lv_iload_n hx hb dX0_many_51 rfl (lv_at hl 0 rfl) ?_
  exact kr _ _ (Option.some.inj hf).symm _ _ hG _ _ dX0_many_52

theorem tC_many (l : Launch) (X : CX) (ca fa : Nat → Nat) (pr : Nat × Nat × (Nat → Int64)) (rest : va_W) (w w' : CW) (x2 : Int32) (r : Int32) (hf : fC_many pr w x2 = some (r, w')) : RW l yX0_many cX0_many 5 (some .int) 8 0 0 174 [.ref (ca 0), .ref pr.1, .int x2] X (CP X ca fa w ++ (LC X pr :: rest)) (CP X ca fa (w') ++ (LC X pr :: rest)) (some (.int r)) := by
  refine RW.mk (by decide) (Nat.le_of_ble_eq_true rfl) ?_
  intro p e s m below meth c B hr hlk hK hG ls hl
  exact wC_many B hK hf (fun r w h H locs hG pc ls hd => by cases h; exact w_iretW B hr hlk hG hd) hG hl
end S_C_many

section S_C_worstOf
variable {p : Program} {l : Launch} {e : Env} {R : Room} {s : State} {m : MethodId} {args : Array Value} {below : List Frame} {meth : Method} {c : Code} {H : Heap} {locs : List Loc} {cells slots : Nat} {Q : State → Prop} {cc : ByteArray} {nL pc : Nat} {ls : Array Slot} {st : List Value} {X : CX} {rest : va_W} {ca fa : Nat → Nat} {pr : Nat × Nat × (Nat → Int64)}
noncomputable def fC_worstOf_J69_L25 (pr : Nat × Nat × (Nat → Int64)) (w : CW) (x2 : Int32) (x3 : Int32) (x4 : Int32) (x6 : Int32) (t0 : Int32) (t1 : Int32) : Option ((Int32 × Int32 × CW) ⊕ (Int32 × CW)) :=
  (some (t0 + t1)).bind fun x_1 =>
  (fF_next (cfe w) x6).bind fun r_3 =>
  some (.inl (x_1, r_3, w))

set_option maxHeartbeats 4000000 in
theorem wC_worstOf_J69_L25 (B : CallFix p m c cX0_worstOf 7 s args lw_all RX0) (hK : KK X s) {w : CW} {x2 : Int32} {x3 : Int32} {x4 : Int32} {x6 : Int32} {t0 : Int32} {t1 : Int32} {res : (Int32 × Int32 × CW) ⊕ (Int32 × CW)} (hf : fC_worstOf_J69_L25 pr w x2 x3 x4 x6 t0 t1 = some res) (kc : ∀ (y5 : Int32) (y6 : Int32) (w1 : CW), res = .inl (y5, y6, w1) → ∀ (H : Heap) (locs : List Loc), GG X (CP X ca fa w1 ++ (LC X pr :: rest)) s.heap H locs → ∀ (ls : Array Slot), lv_has ls 7 [(0, .ref (ca 0)), (1, .ref pr.1), (2, .int x2), (3, .int x3), (4, .int x4), (5, .int y5), (6, .int y6)] → W p l e (RMw 8 0 0 174) s m args below meth c H locs 0 0 Q (F0 m 25 ls [])) (ke86 : ∀ (y5 : Int32) (w1 : CW), res = .inr (y5, w1) → ∀ (H : Heap) (locs : List Loc), GG X (CP X ca fa w1 ++ (LC X pr :: rest)) s.heap H locs → ∀ (ls : Array Slot), lv_has ls 7 [(0, .ref (ca 0)), (1, .ref pr.1), (2, .int x2), (3, .int x3), (4, .int x4), (5, .int y5)] → W p l e (RMw 8 0 0 174) s m args below meth c H locs 0 0 Q (F0 m 86 ls [])) {H : Heap} {locs : List Loc} (hG : GG X (CP X ca fa w ++ (LC X pr :: rest)) s.heap H locs) {ls : Array Slot} (hl : lv_has ls 7 [(0, .ref (ca 0)), (1, .ref pr.1), (2, .int x2), (3, .int x3), (4, .int x4), (6, .int x6)]) : W p l e (RMw 8 0 0 174) s m args below meth c H locs 0 0 Q (F0 m 69 ls [.int t1, .int t0]) := by
  have hx := B.1
  have hb := B.2.1
  unfold fC_worstOf_J69_L25 at hf
  refine lv_iadd hx hb dX0_worstOf_69 ?_
  obtain ⟨x_1, e_2, hf⟩ := bo hf
  refine w_istore (lv' := [(5, .int x_1), (0, .ref (ca 0)), (1, .ref pr.1), (2, .int x2), (3, .int x3), (4, .int x4), (6, .int x6)]) e_2 hx hb dX0_worstOf_70 hl (by decide) rfl (fun ls hl => ?_)
  refine lv_aload_n hx hb dX0_worstOf_72 rfl (lv_at hl 1 rfl) ?_
  refine co_this_g0 B hK hG.1 dX0_worstOf_73 ?_
  refine lv_iload hx hb dX0_worstOf_76 (lv_at hl 6 rfl) ?_
  obtain ⟨r_3, e_4, hf⟩ := bo hf
  refine cCF_next B hK hG.2.2 hG.1 e_4 ⟨Nat.le_of_ble_eq_true rfl, Nat.le_of_ble_eq_true rfl⟩ ⟨Nat.zero_le _, Nat.zero_le _⟩ hl.1 (Nat.le_of_ble_eq_true rfl) dX0_worstOf_78 ?_
  refine lv_istore (lv' := [(6, .int r_3), (5, .int x_1), (0, .ref (ca 0)), (1, .ref pr.1), (2, .int x2), (3, .int x3), (4, .int x4)]) hx hb dX0_worstOf_81 hl (by decide) rfl (fun ls hl => ?_)
  refine lv_goto (tgt := 25) hx hb dX0_worstOf_83 (by decide) ?_
  exact kc _ _ _ (Option.some.inj hf).symm _ _ hG _ (lv_sub hl [2, 3, 4, 5, 6, 1, 0] rfl)

noncomputable def fC_worstOf_J68_L25 (pr : Nat × Nat × (Nat → Int64)) (w : CW) (x2 : Int32) (x3 : Int32) (x4 : Int32) (x6 : Int32) (t0 : Int32) : Option ((Int32 × Int32 × CW) ⊕ (Int32 × CW)) :=
  fC_worstOf_J69_L25 pr w x2 x3 x4 x6 t0 0

set_option maxHeartbeats 4000000 in
theorem wC_worstOf_J68_L25 (B : CallFix p m c cX0_worstOf 7 s args lw_all RX0) (hK : KK X s) {w : CW} {x2 : Int32} {x3 : Int32} {x4 : Int32} {x6 : Int32} {t0 : Int32} {res : (Int32 × Int32 × CW) ⊕ (Int32 × CW)} (hf : fC_worstOf_J68_L25 pr w x2 x3 x4 x6 t0 = some res) (kc : ∀ (y5 : Int32) (y6 : Int32) (w1 : CW), res = .inl (y5, y6, w1) → ∀ (H : Heap) (locs : List Loc), GG X (CP X ca fa w1 ++ (LC X pr :: rest)) s.heap H locs → ∀ (ls : Array Slot), lv_has ls 7 [(0, .ref (ca 0)), (1, .ref pr.1), (2, .int x2), (3, .int x3), (4, .int x4), (5, .int y5), (6, .int y6)] → W p l e (RMw 8 0 0 174) s m args below meth c H locs 0 0 Q (F0 m 25 ls [])) (ke86 : ∀ (y5 : Int32) (w1 : CW), res = .inr (y5, w1) → ∀ (H : Heap) (locs : List Loc), GG X (CP X ca fa w1 ++ (LC X pr :: rest)) s.heap H locs → ∀ (ls : Array Slot), lv_has ls 7 [(0, .ref (ca 0)), (1, .ref pr.1), (2, .int x2), (3, .int x3), (4, .int x4), (5, .int y5)] → W p l e (RMw 8 0 0 174) s m args below meth c H locs 0 0 Q (F0 m 86 ls [])) {H : Heap} {locs : List Loc} (hG : GG X (CP X ca fa w ++ (LC X pr :: rest)) s.heap H locs) {ls : Array Slot} (hl : lv_has ls 7 [(0, .ref (ca 0)), (1, .ref pr.1), (2, .int x2), (3, .int x3), (4, .int x4), (6, .int x6)]) : W p l e (RMw 8 0 0 174) s m args below meth c H locs 0 0 Q (F0 m 68 ls [.int t0]) := by
  have hx := B.1
  have hb := B.2.1
  unfold fC_worstOf_J68_L25 at hf
  refine lv_iconst (v := 0) hx hb dX0_worstOf_68 (by decide) ?_
  exact wC_worstOf_J69_L25 B hK hf kc ke86 hG hl

noncomputable def fC_worstOf_L25 (pr : Nat × Nat × (Nat → Int64)) (w : CW) (x2 : Int32) (x3 : Int32) (x4 : Int32) (x5 : Int32) (x6 : Int32) : Option ((Int32 × Int32 × CW) ⊕ (Int32 × CW)) :=
  if x6 = (-1) then
    some (.inr (x5, w))
  else
    b2 (fC_fits pr w x6 (-1)) fun r_6 f_3 =>
    (some (f_3)).bind fun w_4 =>
    if r_6 = 0 then
      fC_worstOf_J68_L25 pr w_4 x2 x3 x4 x6 x5
    else
      (rdP (cfe w_4).2.2 8 x2).bind fun p_8 =>
      b2 (fC_armAt w_4 p_8 x6) fun r_14 f_11 =>
      (some (f_11)).bind fun w_12 =>
      if r_14 = x4 then
        fC_worstOf_J69_L25 pr w_12 x2 x3 x4 x6 x5 1
      else
        fC_worstOf_J68_L25 pr w_12 x2 x3 x4 x6 x5

set_option maxHeartbeats 4000000 in
theorem wC_worstOf_L25 (B : CallFix p m c cX0_worstOf 7 s args lw_all RX0) (hK : KK X s) {w : CW} {x2 : Int32} {x3 : Int32} {x4 : Int32} {x5 : Int32} {x6 : Int32} {res : (Int32 × Int32 × CW) ⊕ (Int32 × CW)} (hf : fC_worstOf_L25 pr w x2 x3 x4 x5 x6 = some res) (kc : ∀ (y5 : Int32) (y6 : Int32) (w1 : CW), res = .inl (y5, y6, w1) → ∀ (H : Heap) (locs : List Loc), GG X (CP X ca fa w1 ++ (LC X pr :: rest)) s.heap H locs → ∀ (ls : Array Slot), lv_has ls 7 [(0, .ref (ca 0)), (1, .ref pr.1), (2, .int x2), (3, .int x3), (4, .int x4), (5, .int y5), (6, .int y6)] → W p l e (RMw 8 0 0 174) s m args below meth c H locs 0 0 Q (F0 m 25 ls [])) (ke86 : ∀ (y5 : Int32) (w1 : CW), res = .inr (y5, w1) → ∀ (H : Heap) (locs : List Loc), GG X (CP X ca fa w1 ++ (LC X pr :: rest)) s.heap H locs → ∀ (ls : Array Slot), lv_has ls 7 [(0, .ref (ca 0)), (1, .ref pr.1), (2, .int x2), (3, .int x3), (4, .int x4), (5, .int y5)] → W p l e (RMw 8 0 0 174) s m args below meth c H locs 0 0 Q (F0 m 86 ls [])) {H : Heap} {locs : List Loc} (hG : GG X (CP X ca fa w ++ (LC X pr :: rest)) s.heap H locs) {ls : Array Slot} (hl : lv_has ls 7 [(0, .ref (ca 0)), (1, .ref pr.1), (2, .int x2), (3, .int x3), (4, .int x4), (5, .int x5), (6, .int x6)]) : W p l e (RMw 8 0 0 174) s m args below meth c H locs 0 0 Q (F0 m 25 ls []) := by
  have hx := B.1
  have hb := B.2.1
  unfold fC_worstOf_L25 at hf
  refine lv_iload hx hb dX0_worstOf_25 (lv_at hl 6 rfl) ?_
  refine lv_iconst (v := (-1)) hx hb dX0_worstOf_27 (by decide) ?_
  refine lv_icmp_eq (tgt := 86) hx hb dX0_worstOf_28 (by decide) (fun c_1 => ?_) (fun c_1 => ?_)
  · have hf := ifp c_1 hf
    exact ke86 _ _ (Option.some.inj hf).symm _ _ hG _ (lv_sub hl [0, 1, 2, 3, 4, 5] rfl)
  · have hf := ifn c_1 hf
    refine lv_iload hx hb dX0_worstOf_31 (lv_at hl 5 rfl) ?_
    refine lv_aload_n hx hb dX0_worstOf_33 rfl (lv_at hl 0 rfl) ?_
    refine lv_aload_n hx hb dX0_worstOf_34 rfl (lv_at hl 1 rfl) ?_
    refine lv_iload hx hb dX0_worstOf_35 (lv_at hl 6 rfl) ?_
    refine lv_iconst (v := (-1)) hx hb dX0_worstOf_37 (by decide) ?_
    obtain ⟨r_6, f_3, e_2, hf⟩ := b2s hf
    obtain ⟨w_4, e_5, hf⟩ := bo hf
    refine cC_fits B hK hG e_2 e_5 ⟨Nat.le_of_ble_eq_true rfl, Nat.le_of_ble_eq_true rfl⟩ ⟨Nat.zero_le _, Nat.zero_le _⟩ hl.1 (Nat.le_of_ble_eq_true rfl) dX0_worstOf_38 (fun H locs hG => ?_)
    refine lv_if_eq (tgt := 68) hx hb dX0_worstOf_41 (by decide) (fun c_7 => ?_) (fun c_7 => ?_)
    · have hf := ifp c_7 hf
      exact wC_worstOf_J68_L25 B hK hf kc ke86 hG (lv_sub hl [0, 1, 2, 3, 4, 6] rfl)
    · have hf := ifn c_7 hf
      refine lv_aload_n hx hb dX0_worstOf_44 rfl (lv_at hl 0 rfl) ?_
      refine lv_aload_n hx hb dX0_worstOf_45 rfl (lv_at hl 0 rfl) ?_
      refine co_this_g0 B hK hG.1 dX0_worstOf_46 ?_
      refine co_fen_g1 B hK hG.1 dX0_worstOf_49 ?_
      refine lv_iload_n hx hb dX0_worstOf_52 rfl (lv_at hl 2 rfl) ?_
      obtain ⟨p_8, e_9, hf⟩ := bo hf
      refine co_post_l B hK hG.1 e_9 dX0_worstOf_53 ?_
      refine lv_iload hx hb dX0_worstOf_54 (lv_at hl 6 rfl) ?_
      obtain ⟨r_14, f_11, e_10, hf⟩ := b2s hf
      obtain ⟨w_12, e_13, hf⟩ := bo hf
      refine cC_armAt B hK hG e_10 e_13 ⟨Nat.le_of_ble_eq_true rfl, Nat.le_of_ble_eq_true rfl⟩ ⟨Nat.zero_le _, Nat.zero_le _⟩ hl.1 (Nat.le_of_ble_eq_true rfl) dX0_worstOf_56 (fun H locs hG => ?_)
      refine lv_iload hx hb dX0_worstOf_59 (lv_at hl 4 rfl) ?_
      refine lv_icmp_ne (tgt := 68) hx hb dX0_worstOf_61 (by decide) (fun c_15 => ?_) (fun c_15 => ?_)
      · have hf := ifn c_15 hf
        exact wC_worstOf_J68_L25 B hK hf kc ke86 hG (lv_sub hl [0, 1, 2, 3, 4, 6] rfl)
      · have hf := ifp c_15 hf
        refine lv_iconst (v := 1) hx hb dX0_worstOf_64 (by decide) ?_
        refine lv_goto (tgt := 69) hx hb dX0_worstOf_65 (by decide) ?_
        exact wC_worstOf_J69_L25 B hK hf kc ke86 hG (lv_sub hl [0, 1, 2, 3, 4, 6] rfl)

set_option maxHeartbeats 4000000 in
theorem vC_worstOf_L25 (B : CallFix p m c cX0_worstOf 7 s args lw_all RX0) (hK : KK X s) {w : CW} {x2 : Int32} {x3 : Int32} {x4 : Int32} {x5 : Int32} {x6 : Int32} {res : Int32 × CW} (hf : lp (fun q : Int32 × Int32 × CW => fC_worstOf_L25 pr q.2.2 x2 x3 x4 q.1 q.2.1) (x5, x6, w) = some res) (ke86 : ∀ (y5 : Int32) (w1 : CW), res = (y5, w1) → ∀ (H : Heap) (locs : List Loc), GG X (CP X ca fa w1 ++ (LC X pr :: rest)) s.heap H locs → ∀ (ls : Array Slot), lv_has ls 7 [(0, .ref (ca 0)), (1, .ref pr.1), (2, .int x2), (3, .int x3), (4, .int x4), (5, .int y5)] → W p l e (RMw 8 0 0 174) s m args below meth c H locs 0 0 Q (F0 m 86 ls [])) {H : Heap} {locs : List Loc} (hG : GG X (CP X ca fa w ++ (LC X pr :: rest)) s.heap H locs) {ls : Array Slot} (hl : lv_has ls 7 [(0, .ref (ca 0)), (1, .ref pr.1), (2, .int x2), (3, .int x3), (4, .int x4), (5, .int x5), (6, .int x6)]) : W p l e (RMw 8 0 0 174) s m args below meth c H locs 0 0 Q (F0 m 25 ls []) := by
  refine lp_ind (r := res) (P := fun q : Int32 × Int32 × CW => ∀ (H : Heap) (locs : List Loc) (ls : Array Slot), GG X (CP X ca fa q.2.2 ++ (LC X pr :: rest)) s.heap H locs → lv_has ls 7 [(0, .ref (ca 0)), (1, .ref pr.1), (2, .int x2), (3, .int x3), (4, .int x4), (5, .int q.1), (6, .int q.2.1)] → W p l e (RMw 8 0 0 174) s m args below meth c H locs 0 0 Q (F0 m 25 ls [])) ?_ ?_ _ hf _ _ _ hG hl
  · intro q hb H locs ls hG hl
    exact wC_worstOf_L25 B hK hb (fun _ _ _ h => by cases h) (fun z0 z1 h => ke86 z0 z1 (Sum.inr.inj h)) hG hl
  · intro q q2 hb ih H locs ls hG hl
    exact wC_worstOf_L25 B hK hb (fun z0 z1 z2 h => by cases h; exact fun H locs hG ls hl => ih H locs ls hG hl) (fun _ _ h => by cases h) hG hl

noncomputable def fC_worstOf_L5 (pr : Nat × Nat × (Nat → Int64)) (w : CW) (x2 : Int32) (x3 : Int32) (x4 : Int32) : Option ((Int32 × Int32 × CW) ⊕ (Int32 × CW)) :=
  if 8 < x4 then
    some (.inr (x3, w))
  else
    (fF_next (cfe w) (-1)).bind fun r_2 =>
    (lp (fun q : Int32 × Int32 × CW => fC_worstOf_L25 pr q.2.2 x2 x3 x4 q.1 q.2.1) (0, r_2, w)).bind (
      fun q_10 => (fun (y_4 : Int32) (w_5 : CW) =>
        (some (imax x3 y_4)).bind fun x_6 =>
        (some (x4 + 1)).bind fun x_8 =>
        some (.inl (x_6, x_8, w_5))
      ) q_10.1 q_10.2
    )

set_option maxHeartbeats 4000000 in
theorem wC_worstOf_L5 (B : CallFix p m c cX0_worstOf 7 s args lw_all RX0) (hK : KK X s) {w : CW} {x2 : Int32} {x3 : Int32} {x4 : Int32} {res : (Int32 × Int32 × CW) ⊕ (Int32 × CW)} (hf : fC_worstOf_L5 pr w x2 x3 x4 = some res) (kc : ∀ (y3 : Int32) (y4 : Int32) (w1 : CW), res = .inl (y3, y4, w1) → ∀ (H : Heap) (locs : List Loc), GG X (CP X ca fa w1 ++ (LC X pr :: rest)) s.heap H locs → ∀ (ls : Array Slot), lv_has ls 7 [(0, .ref (ca 0)), (1, .ref pr.1), (2, .int x2), (3, .int y3), (4, .int y4)] → W p l e (RMw 8 0 0 174) s m args below meth c H locs 0 0 Q (F0 m 5 ls [])) (ke99 : ∀ (y3 : Int32) (w1 : CW), res = .inr (y3, w1) → ∀ (H : Heap) (locs : List Loc), GG X (CP X ca fa w1 ++ (LC X pr :: rest)) s.heap H locs → ∀ (ls : Array Slot), lv_has ls 7 [(3, .int y3)] → W p l e (RMw 8 0 0 174) s m args below meth c H locs 0 0 Q (F0 m 99 ls [])) {H : Heap} {locs : List Loc} (hG : GG X (CP X ca fa w ++ (LC X pr :: rest)) s.heap H locs) {ls : Array Slot} (hl : lv_has ls 7 [(0, .ref (ca 0)), (1, .ref pr.1), (2, .int x2), (3, .int x3), (4, .int x4)]) : W p l e (RMw 8 0 0 174) s m args below meth c H locs 0 0 Q (F0 m 5 ls []) := by
  have hx := B.1
  have hb := B.2.1
  unfold fC_worstOf_L5 at hf
  refine lv_iload hx hb dX0_worstOf_5 (lv_at hl 4 rfl) ?_
  refine lv_bipush (v := 8) hx hb dX0_worstOf_7 (by decide) ?_
  refine lv_icmp_gt (tgt := 99) hx hb dX0_worstOf_9 (by decide) (fun c_1 => ?_) (fun c_1 => ?_)
  · have hf := ifp c_1 hf
    exact ke99 _ _ (Option.some.inj hf).symm _ _ hG _ (lv_sub hl [3] rfl)
  · have hf := ifn c_1 hf
    refine lv_iconst (v := 0) hx hb dX0_worstOf_12 (by decide) ?_
    refine lv_istore (lv' := [(5, .int 0), (0, .ref (ca 0)), (1, .ref pr.1), (2, .int x2), (3, .int x3), (4, .int x4)]) hx hb dX0_worstOf_13 hl (by decide) rfl (fun ls hl => ?_)
    refine lv_aload_n hx hb dX0_worstOf_15 rfl (lv_at hl 1 rfl) ?_
    refine co_this_g0 B hK hG.1 dX0_worstOf_16 ?_
    refine lv_iconst (v := (-1)) hx hb dX0_worstOf_19 (by decide) ?_
    obtain ⟨r_2, e_3, hf⟩ := bo hf
    refine cCF_next B hK hG.2.2 hG.1 e_3 ⟨Nat.le_of_ble_eq_true rfl, Nat.le_of_ble_eq_true rfl⟩ ⟨Nat.zero_le _, Nat.zero_le _⟩ hl.1 (Nat.le_of_ble_eq_true rfl) dX0_worstOf_20 ?_
    refine lv_istore (lv' := [(6, .int r_2), (5, .int 0), (0, .ref (ca 0)), (1, .ref pr.1), (2, .int x2), (3, .int x3), (4, .int x4)]) hx hb dX0_worstOf_23 hl (by decide) rfl (fun ls hl => ?_)
    obtain ⟨⟨y_4, w_5⟩, e_11, hf⟩ := bo hf
    try dsimp only at hf
    refine vC_worstOf_L25 B hK e_11 ?_ hG (lv_sub hl [2, 3, 4, 5, 6, 1, 0] rfl)
    intro z0 z1 hz
    cases hz
    intro H locs hG ls hl
    refine lv_iload_n hx hb dX0_worstOf_86 rfl (lv_at hl 3 rfl) ?_
    refine lv_iload hx hb dX0_worstOf_87 (lv_at hl 5 rfl) ?_
    refine w_max B hl.1 q1181 q813 q104 q814 (Nat.le_of_ble_eq_true rfl) (Nat.le_of_ble_eq_true rfl) (Nat.le_of_ble_eq_true rfl) (Nat.zero_le _) (Nat.zero_le _) dX0_worstOf_89 ?_
    obtain ⟨x_6, e_7, hf⟩ := bo hf
    refine w_istore_n (lv' := [(3, .int x_6), (0, .ref (ca 0)), (1, .ref pr.1), (2, .int x2), (4, .int x4), (5, .int y_4)]) e_7 hx hb dX0_worstOf_92 rfl hl (by decide) rfl (fun ls hl => ?_)
    obtain ⟨x_8, e_9, hf⟩ := bo hf
    refine w_iinc (k := 4) (lv' := [(4, .int x_8), (3, .int x_6), (0, .ref (ca 0)), (1, .ref pr.1), (2, .int x2), (5, .int y_4)]) e_9 hx hb dX0_worstOf_93 hl rfl (by decide) rfl (fun ls hl => ?_)
    refine lv_goto (tgt := 5) hx hb dX0_worstOf_96 (by decide) ?_
    exact kc _ _ _ (Option.some.inj hf).symm _ _ hG _ (lv_sub hl [2, 3, 4, 1, 0] rfl)

set_option maxHeartbeats 4000000 in
theorem vC_worstOf_L5 (B : CallFix p m c cX0_worstOf 7 s args lw_all RX0) (hK : KK X s) {w : CW} {x2 : Int32} {x3 : Int32} {x4 : Int32} {res : Int32 × CW} (hf : lp (fun q : Int32 × Int32 × CW => fC_worstOf_L5 pr q.2.2 x2 q.1 q.2.1) (x3, x4, w) = some res) (ke99 : ∀ (y3 : Int32) (w1 : CW), res = (y3, w1) → ∀ (H : Heap) (locs : List Loc), GG X (CP X ca fa w1 ++ (LC X pr :: rest)) s.heap H locs → ∀ (ls : Array Slot), lv_has ls 7 [(3, .int y3)] → W p l e (RMw 8 0 0 174) s m args below meth c H locs 0 0 Q (F0 m 99 ls [])) {H : Heap} {locs : List Loc} (hG : GG X (CP X ca fa w ++ (LC X pr :: rest)) s.heap H locs) {ls : Array Slot} (hl : lv_has ls 7 [(0, .ref (ca 0)), (1, .ref pr.1), (2, .int x2), (3, .int x3), (4, .int x4)]) : W p l e (RMw 8 0 0 174) s m args below meth c H locs 0 0 Q (F0 m 5 ls []) := by
  refine lp_ind (r := res) (P := fun q : Int32 × Int32 × CW => ∀ (H : Heap) (locs : List Loc) (ls : Array Slot), GG X (CP X ca fa q.2.2 ++ (LC X pr :: rest)) s.heap H locs → lv_has ls 7 [(0, .ref (ca 0)), (1, .ref pr.1), (2, .int x2), (3, .int q.1), (4, .int q.2.1)] → W p l e (RMw 8 0 0 174) s m args below meth c H locs 0 0 Q (F0 m 5 ls [])) ?_ ?_ _ hf _ _ _ hG hl
  · intro q hb H locs ls hG hl
    exact wC_worstOf_L5 B hK hb (fun _ _ _ h => by cases h) (fun z0 z1 h => ke99 z0 z1 (Sum.inr.inj h)) hG hl
  · intro q q2 hb ih H locs ls hG hl
    exact wC_worstOf_L5 B hK hb (fun z0 z1 z2 h => by cases h; exact fun H locs hG ls hl => ih H locs ls hG hl) (fun _ _ h => by cases h) hG hl

noncomputable def fC_worstOf (pr : Nat × Nat × (Nat → Int64)) (w : CW) (x2 : Int32) : Option (Int32 × CW) :=
  (lp (fun q : Int32 × Int32 × CW => fC_worstOf_L5 pr q.2.2 x2 q.1 q.2.1) (0, (-1), w)).bind (
    fun q_3 => (fun (y_1 : Int32) (w_2 : CW) =>
      some (y_1, w_2)
    ) q_3.1 q_3.2
  )

set_option maxHeartbeats 4000000 in
theorem wC_worstOf (B : CallFix p m c cX0_worstOf 7 s args lw_all RX0) (hK : KK X s) {w : CW} {x2 : Int32} {res : Int32 × CW} (hf : fC_worstOf pr w x2 = some res) (kr : ∀ (r : Int32) (w1 : CW), res = (r, w1) → ∀ (H : Heap) (locs : List Loc), GG X (CP X ca fa w1 ++ (LC X pr :: rest)) s.heap H locs → ∀ (pc : Nat) (ls : Array Slot), decode cX0_worstOf pc = .ok (.ireturn, 1) → W p l e (RMw 8 0 0 174) s m args below meth c H locs 0 0 Q (F0 m pc ls [.int r])) {H : Heap} {locs : List Loc} (hG : GG X (CP X ca fa w ++ (LC X pr :: rest)) s.heap H locs) {ls : Array Slot} (hl : lv_has ls 7 [(0, .ref (ca 0)), (1, .ref pr.1), (2, .int x2)]) : W p l e (RMw 8 0 0 174) s m args below meth c H locs 0 0 Q (F0 m 0 ls []) := by
  have hx := B.1
  have hb := B.2.1
  unfold fC_worstOf at hf
  refine lv_iconst (v := 0) hx hb dX0_worstOf_0 (by decide) ?_
  refine lv_istore_n (lv' := [(3, .int 0), (0, .ref (ca 0)), (1, .ref pr.1), (2, .int x2)]) hx hb dX0_worstOf_1 rfl hl (by decide) rfl (fun ls hl => ?_)
  refine lv_iconst (v := (-1)) hx hb dX0_worstOf_2 (by decide) ?_
  refine lv_istore (lv' := [(4, .int (-1)), (3, .int 0), (0, .ref (ca 0)), (1, .ref pr.1), (2, .int x2)]) hx hb dX0_worstOf_3 hl (by decide) rfl (fun ls hl => ?_)
  obtain ⟨⟨y_1, w_2⟩, e_4, hf⟩ := bo hf
  try dsimp only at hf
  refine vC_worstOf_L5 B hK e_4 ?_ hG (lv_sub hl [2, 3, 4, 1, 0] rfl)
  intro z0 z1 hz
  cases hz
  intro H locs hG ls hl
  refine lv_iload_n hx hb dX0_worstOf_99 rfl (lv_at hl 0 rfl) ?_
  exact kr _ _ (Option.some.inj hf).symm _ _ hG _ _ dX0_worstOf_100

theorem tC_worstOf (l : Launch) (X : CX) (ca fa : Nat → Nat) (pr : Nat × Nat × (Nat → Int64)) (rest : va_W) (w w' : CW) (x2 : Int32) (r : Int32) (hf : fC_worstOf pr w x2 = some (r, w')) : RW l yX0_worstOf cX0_worstOf 7 (some .int) 8 0 0 174 [.ref (ca 0), .ref pr.1, .int x2] X (CP X ca fa w ++ (LC X pr :: rest)) (CP X ca fa (w') ++ (LC X pr :: rest)) (some (.int r)) := by
  refine RW.mk (by decide) (Nat.le_of_ble_eq_true rfl) ?_
  intro p e s m below meth c B hr hlk hK hG ls hl
  exact wC_worstOf B hK hf (fun r w h H locs hG pc ls hd => by cases h; exact w_iretW B hr hlk hG hd) hG hl
end S_C_worstOf

section K_cC_many
variable {p : Program} {l : Launch} {e : Env} {R : Room} {s : State} {m : MethodId} {args : Array Value} {below : List Frame} {meth : Method} {c : Code} {H : Heap} {locs : List Loc} {cells slots : Nat} {Q : State → Prop} {cc : ByteArray} {nL pc : Nat} {ls : Array Slot} {st : List Value} {X : CX} {rest : va_W} {ca fa : Nat → Nat} {pr : Nat × Nat × (Nat → Int64)}
theorem cC_many (B : CallFix p m c cc nL s args lw_all RX0) (hK : KK X s) {w : CW} (hG : GG X (CP X ca fa w ++ (LC X pr :: rest)) s.heap H locs) {x2 : Int32} {r : Int32} {f1 : CW} {w' : CW} (hf : fC_many pr w x2 = some (r, f1)) (hw : some (f1) = some w') (hR : 8 + 1 ≤ R.frames ∧ 198 ≤ R.locals) (hcs : cells ≤ R.cells ∧ slots ≤ R.slots) (hl : ls.size = nL) (hcat : (st.map fun v => v.category).sum ≤ 8) (hdg : decode cc pc = .ok (.invokevirtual 276, 3)) (kk : ∀ (H1 : Heap) (locs1 : List Loc), GG X (CP X ca fa (w') ++ (LC X pr :: rest)) s.heap H1 locs1 → W p l e R s m args below meth c H1 locs1 cells slots Q (F0 m (pc + 3) ls (.int r :: st))) : W p l e R s m args below meth c H locs cells slots Q (F0 m pc ls (.int x2 :: .ref pr.1 :: .ref (ca 0) :: st)) := by
  cases hw
  exact w_afterW (w_rV_RW (ws := CP X ca fa w ++ (LC X pr :: rest)) (As := [.ref pr.1, .int x2]) B hK hG (tC_many l X ca fa pr rest w f1 x2 r hf) (lw_V q1151 q1153 qs17 q87 q1154) 8 rfl rfl (n := 2) (by decide +kernel) hR hcs rfl hl rfl hcat hdg) hG.2.2 kk
end K_cC_many

section K_cC_worstOf
variable {p : Program} {l : Launch} {e : Env} {R : Room} {s : State} {m : MethodId} {args : Array Value} {below : List Frame} {meth : Method} {c : Code} {H : Heap} {locs : List Loc} {cells slots : Nat} {Q : State → Prop} {cc : ByteArray} {nL pc : Nat} {ls : Array Slot} {st : List Value} {X : CX} {rest : va_W} {ca fa : Nat → Nat} {pr : Nat × Nat × (Nat → Int64)}
theorem cC_worstOf (B : CallFix p m c cc nL s args lw_all RX0) (hK : KK X s) {w : CW} (hG : GG X (CP X ca fa w ++ (LC X pr :: rest)) s.heap H locs) {x2 : Int32} {r : Int32} {f1 : CW} {w' : CW} (hf : fC_worstOf pr w x2 = some (r, f1)) (hw : some (f1) = some w') (hR : 8 + 1 ≤ R.frames ∧ 200 ≤ R.locals) (hcs : cells ≤ R.cells ∧ slots ≤ R.slots) (hl : ls.size = nL) (hcat : (st.map fun v => v.category).sum ≤ 8) (hdg : decode cc pc = .ok (.invokevirtual 284, 3)) (kk : ∀ (H1 : Heap) (locs1 : List Loc), GG X (CP X ca fa (w') ++ (LC X pr :: rest)) s.heap H1 locs1 → W p l e R s m args below meth c H1 locs1 cells slots Q (F0 m (pc + 3) ls (.int r :: st))) : W p l e R s m args below meth c H locs cells slots Q (F0 m pc ls (.int x2 :: .ref pr.1 :: .ref (ca 0) :: st)) := by
  cases hw
  exact w_afterW (w_rV_RW (ws := CP X ca fa w ++ (LC X pr :: rest)) (As := [.ref pr.1, .int x2]) B hK hG (tC_worstOf l X ca fa pr rest w f1 x2 r hf) (lw_V q1177 q1179 qs20 q87 q1180) 8 rfl rfl (n := 2) (by decide +kernel) hR hcs rfl hl rfl hcat hdg) hG.2.2 kk
end K_cC_worstOf

section S_C_nextOf
variable {p : Program} {l : Launch} {e : Env} {R : Room} {s : State} {m : MethodId} {args : Array Value} {below : List Frame} {meth : Method} {c : Code} {H : Heap} {locs : List Loc} {cells slots : Nat} {Q : State → Prop} {cc : ByteArray} {nL pc : Nat} {ls : Array Slot} {st : List Value} {X : CX} {rest : va_W} {ca fa : Nat → Nat} {pr : Nat × Nat × (Nat → Int64)}
noncomputable def fC_nextOf_J52_L9 (pr : Nat × Nat × (Nat → Int64)) (w : CW) (x3 : Int32) (x4 : Int32) (x5 : Int32) (t0 : Int32) : Option ((Int32 × Int32 × Int32 × CW) ⊕ (Int32 × CW)) :=
  (some (if x5 < x3 then x5 else x3)).bind fun x_1 =>
  (some (x4 + 1)).bind fun x_3 =>
  some (.inl (t0, x_1, x_3, w))

set_option maxHeartbeats 4000000 in
theorem wC_nextOf_J52_L9 (B : CallFix p m c cX0_nextOf 6 s args lw_all RX0) (hK : KK X s) {w : CW} {x3 : Int32} {x4 : Int32} {x5 : Int32} {t0 : Int32} {res : (Int32 × Int32 × Int32 × CW) ⊕ (Int32 × CW)} (hf : fC_nextOf_J52_L9 pr w x3 x4 x5 t0 = some res) (kc : ∀ (y2 : Int32) (y3 : Int32) (y4 : Int32) (w1 : CW), res = .inl (y2, y3, y4, w1) → ∀ (H : Heap) (locs : List Loc), GG X (CP X ca fa w1 ++ (LC X pr :: rest)) s.heap H locs → ∀ (ls : Array Slot), lv_has ls 6 [(0, .ref (ca 0)), (1, .ref pr.1), (2, .int y2), (3, .int y3), (4, .int y4)] → W p l e (RMw 9 0 0 200) s m args below meth c H locs 0 0 Q (F0 m 9 ls [])) (ke66 : ∀ (y2 : Int32) (w1 : CW), res = .inr (y2, w1) → ∀ (H : Heap) (locs : List Loc), GG X (CP X ca fa w1 ++ (LC X pr :: rest)) s.heap H locs → ∀ (ls : Array Slot), lv_has ls 6 [(2, .int y2)] → W p l e (RMw 9 0 0 200) s m args below meth c H locs 0 0 Q (F0 m 66 ls [])) {H : Heap} {locs : List Loc} (hG : GG X (CP X ca fa w ++ (LC X pr :: rest)) s.heap H locs) {ls : Array Slot} (hl : lv_has ls 6 [(0, .ref (ca 0)), (1, .ref pr.1), (3, .int x3), (4, .int x4), (5, .int x5)]) : W p l e (RMw 9 0 0 200) s m args below meth c H locs 0 0 Q (F0 m 52 ls [.int t0]) := by
  have hx := B.1
  have hb := B.2.1
  unfold fC_nextOf_J52_L9 at hf
  refine lv_istore_n (lv' := [(2, .int t0), (0, .ref (ca 0)), (1, .ref pr.1), (3, .int x3), (4, .int x4), (5, .int x5)]) hx hb dX0_nextOf_52 rfl hl (by decide) rfl (fun ls hl => ?_)
  refine lv_iload_n hx hb dX0_nextOf_53 rfl (lv_at hl 3 rfl) ?_
  refine lv_iload hx hb dX0_nextOf_54 (lv_at hl 5 rfl) ?_
  refine w_min B hl.1 q1182 q831 q104 q832 (Nat.le_of_ble_eq_true rfl) (Nat.le_of_ble_eq_true rfl) (Nat.le_of_ble_eq_true rfl) (Nat.zero_le _) (Nat.zero_le _) dX0_nextOf_56 ?_
  obtain ⟨x_1, e_2, hf⟩ := bo hf
  refine w_istore_n (lv' := [(3, .int x_1), (2, .int t0), (0, .ref (ca 0)), (1, .ref pr.1), (4, .int x4), (5, .int x5)]) e_2 hx hb dX0_nextOf_59 rfl hl (by decide) rfl (fun ls hl => ?_)
  obtain ⟨x_3, e_4, hf⟩ := bo hf
  refine w_iinc (k := 4) (lv' := [(4, .int x_3), (3, .int x_1), (2, .int t0), (0, .ref (ca 0)), (1, .ref pr.1), (5, .int x5)]) e_4 hx hb dX0_nextOf_60 hl rfl (by decide) rfl (fun ls hl => ?_)
  refine lv_goto (tgt := 9) hx hb dX0_nextOf_63 (by decide) ?_
  exact kc _ _ _ _ (Option.some.inj hf).symm _ _ hG _ (lv_sub hl [3, 4, 2, 1, 0] rfl)

noncomputable def fC_nextOf_L9 (pr : Nat × Nat × (Nat → Int64)) (w : CW) (x2 : Int32) (x3 : Int32) (x4 : Int32) : Option ((Int32 × Int32 × Int32 × CW) ⊕ (Int32 × CW)) :=
  if ((cfe w).1 8) ≤ x4 then
    some (.inr (x2, w))
  else
    b2 (fC_many pr w (-1)) fun r_6 f_3 =>
    (some (f_3)).bind fun w_4 =>
    if r_6 ≤ 1 then
      some (.inr (x2, w_4))
    else
      b2 (fC_worstOf pr w_4 x4) fun r_12 f_9 =>
      (some (f_9)).bind fun w_10 =>
      if x3 ≤ r_12 then
        fC_nextOf_J52_L9 pr w_10 x3 x4 r_12 x2
      else
        fC_nextOf_J52_L9 pr w_10 x3 x4 r_12 x4

set_option maxHeartbeats 4000000 in
theorem wC_nextOf_L9 (B : CallFix p m c cX0_nextOf 6 s args lw_all RX0) (hK : KK X s) {w : CW} {x2 : Int32} {x3 : Int32} {x4 : Int32} {res : (Int32 × Int32 × Int32 × CW) ⊕ (Int32 × CW)} (hf : fC_nextOf_L9 pr w x2 x3 x4 = some res) (kc : ∀ (y2 : Int32) (y3 : Int32) (y4 : Int32) (w1 : CW), res = .inl (y2, y3, y4, w1) → ∀ (H : Heap) (locs : List Loc), GG X (CP X ca fa w1 ++ (LC X pr :: rest)) s.heap H locs → ∀ (ls : Array Slot), lv_has ls 6 [(0, .ref (ca 0)), (1, .ref pr.1), (2, .int y2), (3, .int y3), (4, .int y4)] → W p l e (RMw 9 0 0 200) s m args below meth c H locs 0 0 Q (F0 m 9 ls [])) (ke66 : ∀ (y2 : Int32) (w1 : CW), res = .inr (y2, w1) → ∀ (H : Heap) (locs : List Loc), GG X (CP X ca fa w1 ++ (LC X pr :: rest)) s.heap H locs → ∀ (ls : Array Slot), lv_has ls 6 [(2, .int y2)] → W p l e (RMw 9 0 0 200) s m args below meth c H locs 0 0 Q (F0 m 66 ls [])) {H : Heap} {locs : List Loc} (hG : GG X (CP X ca fa w ++ (LC X pr :: rest)) s.heap H locs) {ls : Array Slot} (hl : lv_has ls 6 [(0, .ref (ca 0)), (1, .ref pr.1), (2, .int x2), (3, .int x3), (4, .int x4)]) : W p l e (RMw 9 0 0 200) s m args below meth c H locs 0 0 Q (F0 m 9 ls []) := by
  have hx := B.1
  have hb := B.2.1
  unfold fC_nextOf_L9 at hf
  refine lv_iload hx hb dX0_nextOf_9 (lv_at hl 4 rfl) ?_
  refine lv_aload_n hx hb dX0_nextOf_11 rfl (lv_at hl 0 rfl) ?_
  refine co_this_g0 B hK hG.1 dX0_nextOf_12 ?_
  refine co_fen_g8 B hK hG.1 dX0_nextOf_15 ?_
  refine lv_icmp_ge (tgt := 66) hx hb dX0_nextOf_18 (by decide) (fun c_1 => ?_) (fun c_1 => ?_)
  · have hf := ifp c_1 hf
    exact ke66 _ _ (Option.some.inj hf).symm _ _ hG _ (lv_sub hl [2] rfl)
  · have hf := ifn c_1 hf
    refine lv_aload_n hx hb dX0_nextOf_21 rfl (lv_at hl 0 rfl) ?_
    refine lv_aload_n hx hb dX0_nextOf_22 rfl (lv_at hl 1 rfl) ?_
    refine lv_iconst (v := (-1)) hx hb dX0_nextOf_23 (by decide) ?_
    obtain ⟨r_6, f_3, e_2, hf⟩ := b2s hf
    obtain ⟨w_4, e_5, hf⟩ := bo hf
    refine cC_many B hK hG e_2 e_5 ⟨Nat.le_of_ble_eq_true rfl, Nat.le_of_ble_eq_true rfl⟩ ⟨Nat.zero_le _, Nat.zero_le _⟩ hl.1 (Nat.le_of_ble_eq_true rfl) dX0_nextOf_24 (fun H locs hG => ?_)
    refine lv_iconst (v := 1) hx hb dX0_nextOf_27 (by decide) ?_
    refine lv_icmp_le (tgt := 66) hx hb dX0_nextOf_28 (by decide) (fun c_7 => ?_) (fun c_7 => ?_)
    · have hf := ifp c_7 hf
      exact ke66 _ _ (Option.some.inj hf).symm _ _ hG _ (lv_sub hl [2] rfl)
    · have hf := ifn c_7 hf
      refine lv_aload_n hx hb dX0_nextOf_31 rfl (lv_at hl 0 rfl) ?_
      refine lv_aload_n hx hb dX0_nextOf_32 rfl (lv_at hl 1 rfl) ?_
      refine lv_iload hx hb dX0_nextOf_33 (lv_at hl 4 rfl) ?_
      obtain ⟨r_12, f_9, e_8, hf⟩ := b2s hf
      obtain ⟨w_10, e_11, hf⟩ := bo hf
      refine cC_worstOf B hK hG e_8 e_11 ⟨Nat.le_of_ble_eq_true rfl, Nat.le_of_ble_eq_true rfl⟩ ⟨Nat.zero_le _, Nat.zero_le _⟩ hl.1 (Nat.le_of_ble_eq_true rfl) dX0_nextOf_35 (fun H locs hG => ?_)
      refine lv_istore (lv' := [(5, .int r_12), (0, .ref (ca 0)), (1, .ref pr.1), (2, .int x2), (3, .int x3), (4, .int x4)]) hx hb dX0_nextOf_38 hl (by decide) rfl (fun ls hl => ?_)
      refine lv_iload hx hb dX0_nextOf_40 (lv_at hl 0 rfl) ?_
      refine lv_iload_n hx hb dX0_nextOf_42 rfl (lv_at hl 4 rfl) ?_
      refine lv_icmp_ge (tgt := 51) hx hb dX0_nextOf_43 (by decide) (fun c_13 => ?_) (fun c_13 => ?_)
      · have hf := ifp c_13 hf
        refine lv_iload_n hx hb dX0_nextOf_51 rfl (lv_at hl 3 rfl) ?_
        exact wC_nextOf_J52_L9 B hK hf kc ke66 hG (lv_sub hl [1, 2, 4, 5, 0] rfl)
      · have hf := ifn c_13 hf
        refine lv_iload hx hb dX0_nextOf_46 (lv_at hl 5 rfl) ?_
        refine lv_goto (tgt := 52) hx hb dX0_nextOf_48 (by decide) ?_
        exact wC_nextOf_J52_L9 B hK hf kc ke66 hG (lv_sub hl [1, 2, 4, 5, 0] rfl)

set_option maxHeartbeats 4000000 in
theorem vC_nextOf_L9 (B : CallFix p m c cX0_nextOf 6 s args lw_all RX0) (hK : KK X s) {w : CW} {x2 : Int32} {x3 : Int32} {x4 : Int32} {res : Int32 × CW} (hf : lp (fun q : Int32 × Int32 × Int32 × CW => fC_nextOf_L9 pr q.2.2.2 q.1 q.2.1 q.2.2.1) (x2, x3, x4, w) = some res) (ke66 : ∀ (y2 : Int32) (w1 : CW), res = (y2, w1) → ∀ (H : Heap) (locs : List Loc), GG X (CP X ca fa w1 ++ (LC X pr :: rest)) s.heap H locs → ∀ (ls : Array Slot), lv_has ls 6 [(2, .int y2)] → W p l e (RMw 9 0 0 200) s m args below meth c H locs 0 0 Q (F0 m 66 ls [])) {H : Heap} {locs : List Loc} (hG : GG X (CP X ca fa w ++ (LC X pr :: rest)) s.heap H locs) {ls : Array Slot} (hl : lv_has ls 6 [(0, .ref (ca 0)), (1, .ref pr.1), (2, .int x2), (3, .int x3), (4, .int x4)]) : W p l e (RMw 9 0 0 200) s m args below meth c H locs 0 0 Q (F0 m 9 ls []) := by
  refine lp_ind (r := res) (P := fun q : Int32 × Int32 × Int32 × CW => ∀ (H : Heap) (locs : List Loc) (ls : Array Slot), GG X (CP X ca fa q.2.2.2 ++ (LC X pr :: rest)) s.heap H locs → lv_has ls 6 [(0, .ref (ca 0)), (1, .ref pr.1), (2, .int q.1), (3, .int q.2.1), (4, .int q.2.2.1)] → W p l e (RMw 9 0 0 200) s m args below meth c H locs 0 0 Q (F0 m 9 ls [])) ?_ ?_ _ hf _ _ _ hG hl
  · intro q hb H locs ls hG hl
    exact wC_nextOf_L9 B hK hb (fun _ _ _ _ h => by cases h) (fun z0 z1 h => ke66 z0 z1 (Sum.inr.inj h)) hG hl
  · intro q q2 hb ih H locs ls hG hl
    exact wC_nextOf_L9 B hK hb (fun z0 z1 z2 z3 h => by cases h; exact fun H locs hG ls hl => ih H locs ls hG hl) (fun _ _ h => by cases h) hG hl

noncomputable def fC_nextOf (pr : Nat × Nat × (Nat → Int64)) (w : CW)  : Option (Int32 × CW) :=
  (lp (fun q : Int32 × Int32 × Int32 × CW => fC_nextOf_L9 pr q.2.2.2 q.1 q.2.1 q.2.2.1) ((-1), 100000, 0, w)).bind (
    fun q_3 => (fun (y_1 : Int32) (w_2 : CW) =>
      some (y_1, w_2)
    ) q_3.1 q_3.2
  )

set_option maxHeartbeats 4000000 in
theorem wC_nextOf (B : CallFix p m c cX0_nextOf 6 s args lw_all RX0) (hK : KK X s) {w : CW}  {res : Int32 × CW} (hf : fC_nextOf pr w  = some res) (kr : ∀ (r : Int32) (w1 : CW), res = (r, w1) → ∀ (H : Heap) (locs : List Loc), GG X (CP X ca fa w1 ++ (LC X pr :: rest)) s.heap H locs → ∀ (pc : Nat) (ls : Array Slot), decode cX0_nextOf pc = .ok (.ireturn, 1) → W p l e (RMw 9 0 0 200) s m args below meth c H locs 0 0 Q (F0 m pc ls [.int r])) {H : Heap} {locs : List Loc} (hG : GG X (CP X ca fa w ++ (LC X pr :: rest)) s.heap H locs) {ls : Array Slot} (hl : lv_has ls 6 [(0, .ref (ca 0)), (1, .ref pr.1)]) : W p l e (RMw 9 0 0 200) s m args below meth c H locs 0 0 Q (F0 m 0 ls []) := by
  have hx := B.1
  have hb := B.2.1
  unfold fC_nextOf at hf
  refine lv_iconst (v := (-1)) hx hb dX0_nextOf_0 (by decide) ?_
  refine lv_istore_n (lv' := [(2, .int (-1)), (0, .ref (ca 0)), (1, .ref pr.1)]) hx hb dX0_nextOf_1 rfl hl (by decide) rfl (fun ls hl => ?_)
  refine lv_ldcw (v := 100000) hx hb B.2.2.2.1 (B.2.2.2.2 _ q1176) dX0_nextOf_2 ?_
  refine lv_istore_n (lv' := [(3, .int 100000), (2, .int (-1)), (0, .ref (ca 0)), (1, .ref pr.1)]) hx hb dX0_nextOf_5 rfl hl (by decide) rfl (fun ls hl => ?_)
  refine lv_iconst (v := 0) hx hb dX0_nextOf_6 (by decide) ?_
  refine lv_istore (lv' := [(4, .int 0), (3, .int 100000), (2, .int (-1)), (0, .ref (ca 0)), (1, .ref pr.1)]) hx hb dX0_nextOf_7 hl (by decide) rfl (fun ls hl => ?_)
  obtain ⟨⟨y_1, w_2⟩, e_4, hf⟩ := bo hf
  try dsimp only at hf
  refine vC_nextOf_L9 B hK e_4 ?_ hG (lv_sub hl [3, 4, 2, 1, 0] rfl)
  intro z0 z1 hz
  cases hz
  intro H locs hG ls hl
  refine lv_iload_n hx hb dX0_nextOf_66 rfl (lv_at hl 0 rfl) ?_
  exact kr _ _ (Option.some.inj hf).symm _ _ hG _ _ dX0_nextOf_67

theorem tC_nextOf (l : Launch) (X : CX) (ca fa : Nat → Nat) (pr : Nat × Nat × (Nat → Int64)) (rest : va_W) (w w' : CW)  (r : Int32) (hf : fC_nextOf pr w  = some (r, w')) : RW l yX0_nextOf cX0_nextOf 6 (some .int) 9 0 0 200 [.ref (ca 0), .ref pr.1] X (CP X ca fa w ++ (LC X pr :: rest)) (CP X ca fa (w') ++ (LC X pr :: rest)) (some (.int r)) := by
  refine RW.mk (by decide) (Nat.le_of_ble_eq_true rfl) ?_
  intro p e s m below meth c B hr hlk hK hG ls hl
  exact wC_nextOf B hK hf (fun r w h H locs hG pc ls hd => by cases h; exact w_iretW B hr hlk hG hd) hG hl
end S_C_nextOf

section S_C_falseOf
variable {p : Program} {l : Launch} {e : Env} {R : Room} {s : State} {m : MethodId} {args : Array Value} {below : List Frame} {meth : Method} {c : Code} {H : Heap} {locs : List Loc} {cells slots : Nat} {Q : State → Prop} {cc : ByteArray} {nL pc : Nat} {ls : Array Slot} {st : List Value} {X : CX} {rest : va_W} {ca fa : Nat → Nat} {pr : Nat × Nat × (Nat → Int64)}
noncomputable def fC_falseOf_L15 (pr : Nat × Nat × (Nat → Int64)) (w : CW) (x2 : Int32) (x3 : Int32) : Option ((Int32 × Int32 × CW) ⊕ (Int32 × CW)) :=
  if ((nI pr.2.1) / 2) ≤ x3 then
    some (.inr (x2, w))
  else
    b2 (fC_many pr w x3) fun r_6 f_3 =>
    (some (f_3)).bind fun w_4 =>
    b2 (fC_many pr w_4 x2) fun r_11 f_8 =>
    (some (f_8)).bind fun w_9 =>
    if r_6 ≤ r_11 then
      (some (x3 + 1)).bind fun x_13 =>
      some (.inl (x2, x_13, w_9))
    else
      (some (x3 + 1)).bind fun x_15 =>
      some (.inl (x3, x_15, w_9))

set_option maxHeartbeats 4000000 in
theorem wC_falseOf_L15 (B : CallFix p m c cX0_falseOf 4 s args lw_all RX0) (hK : KK X s) {w : CW} {x2 : Int32} {x3 : Int32} {res : (Int32 × Int32 × CW) ⊕ (Int32 × CW)} (hf : fC_falseOf_L15 pr w x2 x3 = some res) (kc : ∀ (y2 : Int32) (y3 : Int32) (w1 : CW), res = .inl (y2, y3, w1) → ∀ (H : Heap) (locs : List Loc), GG X (CP X ca fa w1 ++ (LC X pr :: rest)) s.heap H locs → ∀ (ls : Array Slot), lv_has ls 4 [(0, .ref (ca 0)), (1, .ref pr.1), (2, .int y2), (3, .int y3)] → W p l e (RMw 9 0 0 198) s m args below meth c H locs 0 0 Q (F0 m 15 ls [])) (ke50 : ∀ (y2 : Int32) (w1 : CW), res = .inr (y2, w1) → ∀ (H : Heap) (locs : List Loc), GG X (CP X ca fa w1 ++ (LC X pr :: rest)) s.heap H locs → ∀ (ls : Array Slot), lv_has ls 4 [(2, .int y2)] → W p l e (RMw 9 0 0 198) s m args below meth c H locs 0 0 Q (F0 m 50 ls [])) {H : Heap} {locs : List Loc} (hG : GG X (CP X ca fa w ++ (LC X pr :: rest)) s.heap H locs) {ls : Array Slot} (hl : lv_has ls 4 [(0, .ref (ca 0)), (1, .ref pr.1), (2, .int x2), (3, .int x3)]) : W p l e (RMw 9 0 0 198) s m args below meth c H locs 0 0 Q (F0 m 15 ls []) := by
  have hx := B.1
  have hb := B.2.1
  unfold fC_falseOf_L15 at hf
  refine lv_iload_n hx hb dX0_falseOf_15 rfl (lv_at hl 3 rfl) ?_
  refine lv_aload_n hx hb dX0_falseOf_16 rfl (lv_at hl 1 rfl) ?_
  refine co_pr_n B hK hG.1 dX0_falseOf_17 ?_
  refine lv_iconst (v := 2) hx hb dX0_falseOf_18 (by decide) ?_
  refine lv_idiv hx hb dX0_falseOf_19 (by decide) ?_
  refine lv_icmp_ge (tgt := 50) hx hb dX0_falseOf_20 (by decide) (fun c_1 => ?_) (fun c_1 => ?_)
  · have hf := ifp c_1 hf
    exact ke50 _ _ (Option.some.inj hf).symm _ _ hG _ (lv_sub hl [2] rfl)
  · have hf := ifn c_1 hf
    refine lv_aload_n hx hb dX0_falseOf_23 rfl (lv_at hl 0 rfl) ?_
    refine lv_aload_n hx hb dX0_falseOf_24 rfl (lv_at hl 1 rfl) ?_
    refine lv_iload_n hx hb dX0_falseOf_25 rfl (lv_at hl 3 rfl) ?_
    obtain ⟨r_6, f_3, e_2, hf⟩ := b2s hf
    obtain ⟨w_4, e_5, hf⟩ := bo hf
    refine cC_many B hK hG e_2 e_5 ⟨Nat.le_of_ble_eq_true rfl, Nat.le_of_ble_eq_true rfl⟩ ⟨Nat.zero_le _, Nat.zero_le _⟩ hl.1 (Nat.le_of_ble_eq_true rfl) dX0_falseOf_26 (fun H locs hG => ?_)
    refine lv_aload_n hx hb dX0_falseOf_29 rfl (lv_at hl 0 rfl) ?_
    refine lv_aload_n hx hb dX0_falseOf_30 rfl (lv_at hl 1 rfl) ?_
    refine lv_iload_n hx hb dX0_falseOf_31 rfl (lv_at hl 2 rfl) ?_
    obtain ⟨r_11, f_8, e_7, hf⟩ := b2s hf
    obtain ⟨w_9, e_10, hf⟩ := bo hf
    refine cC_many B hK hG e_7 e_10 ⟨Nat.le_of_ble_eq_true rfl, Nat.le_of_ble_eq_true rfl⟩ ⟨Nat.zero_le _, Nat.zero_le _⟩ hl.1 (Nat.le_of_ble_eq_true rfl) dX0_falseOf_32 (fun H locs hG => ?_)
    refine lv_icmp_le (tgt := 42) hx hb dX0_falseOf_35 (by decide) (fun c_12 => ?_) (fun c_12 => ?_)
    · have hf := ifp c_12 hf
      refine lv_iload_n hx hb dX0_falseOf_42 rfl (lv_at hl 2 rfl) ?_
      refine lv_istore_n (lv' := [(2, .int x2), (0, .ref (ca 0)), (1, .ref pr.1), (3, .int x3)]) hx hb dX0_falseOf_43 rfl hl (by decide) rfl (fun ls hl => ?_)
      obtain ⟨x_13, e_14, hf⟩ := bo hf
      refine w_iinc (k := 3) (lv' := [(3, .int x_13), (2, .int x2), (0, .ref (ca 0)), (1, .ref pr.1)]) e_14 hx hb dX0_falseOf_44 hl rfl (by decide) rfl (fun ls hl => ?_)
      refine lv_goto (tgt := 15) hx hb dX0_falseOf_47 (by decide) ?_
      exact kc _ _ _ (Option.some.inj hf).symm _ _ hG _ (lv_sub hl [2, 3, 1, 0] rfl)
    · have hf := ifn c_12 hf
      refine lv_iload_n hx hb dX0_falseOf_38 rfl (lv_at hl 3 rfl) ?_
      refine lv_goto (tgt := 43) hx hb dX0_falseOf_39 (by decide) ?_
      refine lv_istore_n (lv' := [(2, .int x3), (0, .ref (ca 0)), (1, .ref pr.1), (3, .int x3)]) hx hb dX0_falseOf_43 rfl hl (by decide) rfl (fun ls hl => ?_)
      obtain ⟨x_15, e_16, hf⟩ := bo hf
      refine w_iinc (k := 3) (lv' := [(3, .int x_15), (2, .int x3), (0, .ref (ca 0)), (1, .ref pr.1)]) e_16 hx hb dX0_falseOf_44 hl rfl (by decide) rfl (fun ls hl => ?_)
      refine lv_goto (tgt := 15) hx hb dX0_falseOf_47 (by decide) ?_
      exact kc _ _ _ (Option.some.inj hf).symm _ _ hG _ (lv_sub hl [2, 3, 1, 0] rfl)

set_option maxHeartbeats 4000000 in
theorem vC_falseOf_L15 (B : CallFix p m c cX0_falseOf 4 s args lw_all RX0) (hK : KK X s) {w : CW} {x2 : Int32} {x3 : Int32} {res : Int32 × CW} (hf : lp (fun q : Int32 × Int32 × CW => fC_falseOf_L15 pr q.2.2 q.1 q.2.1) (x2, x3, w) = some res) (ke50 : ∀ (y2 : Int32) (w1 : CW), res = (y2, w1) → ∀ (H : Heap) (locs : List Loc), GG X (CP X ca fa w1 ++ (LC X pr :: rest)) s.heap H locs → ∀ (ls : Array Slot), lv_has ls 4 [(2, .int y2)] → W p l e (RMw 9 0 0 198) s m args below meth c H locs 0 0 Q (F0 m 50 ls [])) {H : Heap} {locs : List Loc} (hG : GG X (CP X ca fa w ++ (LC X pr :: rest)) s.heap H locs) {ls : Array Slot} (hl : lv_has ls 4 [(0, .ref (ca 0)), (1, .ref pr.1), (2, .int x2), (3, .int x3)]) : W p l e (RMw 9 0 0 198) s m args below meth c H locs 0 0 Q (F0 m 15 ls []) := by
  refine lp_ind (r := res) (P := fun q : Int32 × Int32 × CW => ∀ (H : Heap) (locs : List Loc) (ls : Array Slot), GG X (CP X ca fa q.2.2 ++ (LC X pr :: rest)) s.heap H locs → lv_has ls 4 [(0, .ref (ca 0)), (1, .ref pr.1), (2, .int q.1), (3, .int q.2.1)] → W p l e (RMw 9 0 0 198) s m args below meth c H locs 0 0 Q (F0 m 15 ls [])) ?_ ?_ _ hf _ _ _ hG hl
  · intro q hb H locs ls hG hl
    exact wC_falseOf_L15 B hK hb (fun _ _ _ h => by cases h) (fun z0 z1 h => ke50 z0 z1 (Sum.inr.inj h)) hG hl
  · intro q q2 hb ih H locs ls hG hl
    exact wC_falseOf_L15 B hK hb (fun z0 z1 z2 h => by cases h; exact fun H locs hG ls hl => ih H locs ls hG hl) (fun _ _ h => by cases h) hG hl

noncomputable def fC_falseOf (pr : Nat × Nat × (Nat → Int64)) (w : CW)  : Option (Int32 × CW) :=
  b2 (fC_many pr w (-1)) fun r_5 f_2 =>
  (some (f_2)).bind fun w_3 =>
  if r_5 ≤ 0 then
    (lp (fun q : Int32 × Int32 × CW => fC_falseOf_L15 pr q.2.2 q.1 q.2.1) (0, 1, w_3)).bind (
      fun q_9 => (fun (y_7 : Int32) (w_8 : CW) =>
        some (y_7, w_8)
      ) q_9.1 q_9.2
    )
  else
    some ((-1), w_3)

set_option maxHeartbeats 4000000 in
theorem wC_falseOf (B : CallFix p m c cX0_falseOf 4 s args lw_all RX0) (hK : KK X s) {w : CW}  {res : Int32 × CW} (hf : fC_falseOf pr w  = some res) (kr : ∀ (r : Int32) (w1 : CW), res = (r, w1) → ∀ (H : Heap) (locs : List Loc), GG X (CP X ca fa w1 ++ (LC X pr :: rest)) s.heap H locs → ∀ (pc : Nat) (ls : Array Slot), decode cX0_falseOf pc = .ok (.ireturn, 1) → W p l e (RMw 9 0 0 198) s m args below meth c H locs 0 0 Q (F0 m pc ls [.int r])) {H : Heap} {locs : List Loc} (hG : GG X (CP X ca fa w ++ (LC X pr :: rest)) s.heap H locs) {ls : Array Slot} (hl : lv_has ls 4 [(0, .ref (ca 0)), (1, .ref pr.1)]) : W p l e (RMw 9 0 0 198) s m args below meth c H locs 0 0 Q (F0 m 0 ls []) := by
  have hx := B.1
  have hb := B.2.1
  unfold fC_falseOf at hf
  refine lv_aload_n hx hb dX0_falseOf_0 rfl (lv_at hl 0 rfl) ?_
  refine lv_aload_n hx hb dX0_falseOf_1 rfl (lv_at hl 1 rfl) ?_
  refine lv_iconst (v := (-1)) hx hb dX0_falseOf_2 (by decide) ?_
  obtain ⟨r_5, f_2, e_1, hf⟩ := b2s hf
  obtain ⟨w_3, e_4, hf⟩ := bo hf
  refine cC_many B hK hG e_1 e_4 ⟨Nat.le_of_ble_eq_true rfl, Nat.le_of_ble_eq_true rfl⟩ ⟨Nat.zero_le _, Nat.zero_le _⟩ hl.1 (Nat.le_of_ble_eq_true rfl) dX0_falseOf_3 (fun H locs hG => ?_)
  refine lv_if_le (tgt := 11) hx hb dX0_falseOf_6 (by decide) (fun c_6 => ?_) (fun c_6 => ?_)
  · have hf := ifp c_6 hf
    refine lv_iconst (v := 0) hx hb dX0_falseOf_11 (by decide) ?_
    refine lv_istore_n (lv' := [(2, .int 0), (0, .ref (ca 0)), (1, .ref pr.1)]) hx hb dX0_falseOf_12 rfl hl (by decide) rfl (fun ls hl => ?_)
    refine lv_iconst (v := 1) hx hb dX0_falseOf_13 (by decide) ?_
    refine lv_istore_n (lv' := [(3, .int 1), (2, .int 0), (0, .ref (ca 0)), (1, .ref pr.1)]) hx hb dX0_falseOf_14 rfl hl (by decide) rfl (fun ls hl => ?_)
    obtain ⟨⟨y_7, w_8⟩, e_10, hf⟩ := bo hf
    try dsimp only at hf
    refine vC_falseOf_L15 B hK e_10 ?_ hG (lv_sub hl [2, 3, 1, 0] rfl)
    intro z0 z1 hz
    cases hz
    intro H locs hG ls hl
    refine lv_iload_n hx hb dX0_falseOf_50 rfl (lv_at hl 0 rfl) ?_
    exact kr _ _ (Option.some.inj hf).symm _ _ hG _ _ dX0_falseOf_51
  · have hf := ifn c_6 hf
    refine lv_iconst (v := (-1)) hx hb dX0_falseOf_9 (by decide) ?_
    exact kr _ _ (Option.some.inj hf).symm _ _ hG _ _ dX0_falseOf_10

theorem tC_falseOf (l : Launch) (X : CX) (ca fa : Nat → Nat) (pr : Nat × Nat × (Nat → Int64)) (rest : va_W) (w w' : CW)  (r : Int32) (hf : fC_falseOf pr w  = some (r, w')) : RW l yX0_falseOf cX0_falseOf 4 (some .int) 9 0 0 198 [.ref (ca 0), .ref pr.1] X (CP X ca fa w ++ (LC X pr :: rest)) (CP X ca fa (w') ++ (LC X pr :: rest)) (some (.int r)) := by
  refine RW.mk (by decide) (Nat.le_of_ble_eq_true rfl) ?_
  intro p e s m below meth c B hr hlk hK hG ls hl
  exact wC_falseOf B hK hf (fun r w h H locs hG pc ls hd => by cases h; exact w_iretW B hr hlk hG hd) hG hl
end S_C_falseOf

section K_cC_far
variable {p : Program} {l : Launch} {e : Env} {R : Room} {s : State} {m : MethodId} {args : Array Value} {below : List Frame} {meth : Method} {c : Code} {H : Heap} {locs : List Loc} {cells slots : Nat} {Q : State → Prop} {cc : ByteArray} {nL pc : Nat} {ls : Array Slot} {st : List Value} {X : CX} {rest : va_W}
theorem cC_far (B : CallFix p m c cc nL s args lw_all RX0) {x0 : Int32} {x1 : Int32} {r : Int32} (hf : fC_far x0 x1 = some r) (hR : 1 + 1 ≤ R.frames ∧ 42 ≤ R.locals) (hcs : cells ≤ R.cells ∧ slots ≤ R.slots) (hl : ls.size = nL) (hcat : (st.map fun v => v.category).sum ≤ 8) (hdg : decode cc pc = .ok (.invokestatic 351, 3)) (kk : W p l e R s m args below meth c H locs cells slots Q (F0 m (pc + 3) ls (.int r :: st))) : W p l e R s m args below meth c H locs cells slots Q (F0 m pc ls (.int x1 :: .int x0 :: st)) :=
  w_afterR (w_rS_ST (As := [.int x0, .int x1]) B (tC_far l x0 x1 r hf) (lw_S q1315 q528 q87 q529) (n := 2) (by decide +kernel) hR hcs rfl hl rfl hcat hdg) kk
end K_cC_far

section S_C_wrongIn
variable {p : Program} {l : Launch} {e : Env} {R : Room} {s : State} {m : MethodId} {args : Array Value} {below : List Frame} {meth : Method} {c : Code} {H : Heap} {locs : List Loc} {cells slots : Nat} {Q : State → Prop} {cc : ByteArray} {nL pc : Nat} {ls : Array Slot} {st : List Value} {X : CX} {rest : va_W} {ca fa : Nat → Nat} {pr : Nat × Nat × (Nat → Int64)}
noncomputable def fC_wrongIn_L13 (pr : Nat × Nat × (Nat → Int64)) (w : CW) (x3 : Int32) (x4 : Int32) : Option ((Int32 × Int32) ⊕ (((Unit) ⊕ Int32))) :=
  if (nI pr.2.1) ≤ x4 then
    some (.inr (.inl ()))
  else
    (rd pr.2.2 pr.2.1 x4).bind fun v_2 =>
    (fF_isDry (cfe w) v_2).bind fun r_4 =>
    if r_4 = 0 then
      some (.inr (.inr x4))
    else
      (rd pr.2.2 pr.2.1 x4).bind fun v_7 =>
      (fC_far (v_7.toInt32) x3).bind fun r_9 =>
      if r_9 = 1 then
        (rd pr.2.2 pr.2.1 x4).bind fun v_12 =>
        (some (v_12.toInt32)).bind fun x_14 =>
        (some (x4 + 1)).bind fun x_16 =>
        some (.inl (x_14, x_16))
      else
        some (.inr (.inr x4))

set_option maxHeartbeats 4000000 in
theorem wC_wrongIn_L13 (B : CallFix p m c cX0_wrongIn 5 s args lw_all RX0) (hK : KK X s) {w : CW} (hP : va_P X.2.2.1 vwCl (CP X ca fa w ++ (LC X pr :: rest)) s.heap) {x3 : Int32} {x4 : Int32} {res : (Int32 × Int32) ⊕ (((Unit) ⊕ Int32))} (hf : fC_wrongIn_L13 pr w x3 x4 = some res) (kc : ∀ (y3 : Int32) (y4 : Int32), res = .inl (y3, y4) → ∀ (ls : Array Slot), lv_has ls 5 [(0, .ref (ca 0)), (1, .ref pr.1), (3, .int y3), (4, .int y4)] → W p l e (RM 3 64) s m args below meth c s.heap [] 0 0 Q (F0 m 13 ls [])) (ke62 : res = .inr (.inl ()) → ∀ (ls : Array Slot), lv_has ls 5 [] → W p l e (RM 3 64) s m args below meth c s.heap [] 0 0 Q (F0 m 62 ls [])) (ke47 : ∀ (y4 : Int32), res = .inr (.inr y4) → ∀ (ls : Array Slot), lv_has ls 5 [(4, .int y4)] → W p l e (RM 3 64) s m args below meth c s.heap [] 0 0 Q (F0 m 47 ls [])) {ls : Array Slot} (hl : lv_has ls 5 [(0, .ref (ca 0)), (1, .ref pr.1), (3, .int x3), (4, .int x4)]) : W p l e (RM 3 64) s m args below meth c s.heap [] 0 0 Q (F0 m 13 ls []) := by
  have hx := B.1
  have hb := B.2.1
  unfold fC_wrongIn_L13 at hf
  refine lv_iload hx hb dX0_wrongIn_13 (lv_at hl 3 rfl) ?_
  refine lv_aload_n hx hb dX0_wrongIn_15 rfl (lv_at hl 1 rfl) ?_
  refine co_pr_n B hK hP dX0_wrongIn_16 ?_
  refine lv_icmp_ge (tgt := 62) hx hb dX0_wrongIn_17 (by decide) (fun c_1 => ?_) (fun c_1 => ?_)
  · have hf := ifp c_1 hf
    exact ke62 (Option.some.inj hf).symm _ (lv_sub hl [] rfl)
  · have hf := ifn c_1 hf
    refine lv_aload_n hx hb dX0_wrongIn_20 rfl (lv_at hl 0 rfl) ?_
    refine co_this_g0 B hK hP dX0_wrongIn_21 ?_
    refine lv_aload_n hx hb dX0_wrongIn_24 rfl (lv_at hl 1 rfl) ?_
    refine lv_iload hx hb dX0_wrongIn_25 (lv_at hl 3 rfl) ?_
    obtain ⟨v_2, e_3, hf⟩ := bo hf
    refine co_pr_l B hK hP e_3 dX0_wrongIn_27 ?_
    obtain ⟨r_4, e_5, hf⟩ := bo hf
    refine cCF_isDry B hK va_S.rf hP e_5 ⟨Nat.le_of_ble_eq_true rfl, Nat.le_of_ble_eq_true rfl⟩ ⟨Nat.zero_le _, Nat.zero_le _⟩ hl.1 (Nat.le_of_ble_eq_true rfl) dX0_wrongIn_28 ?_
    refine lv_if_eq (tgt := 47) hx hb dX0_wrongIn_31 (by decide) (fun c_6 => ?_) (fun c_6 => ?_)
    · have hf := ifp c_6 hf
      exact ke47 _ (Option.some.inj hf).symm _ (lv_sub hl [3] rfl)
    · have hf := ifn c_6 hf
      refine lv_aload_n hx hb dX0_wrongIn_34 rfl (lv_at hl 1 rfl) ?_
      refine lv_iload hx hb dX0_wrongIn_35 (lv_at hl 3 rfl) ?_
      obtain ⟨v_7, e_8, hf⟩ := bo hf
      refine co_pr_l B hK hP e_8 dX0_wrongIn_37 ?_
      refine lv_l2i hx hb dX0_wrongIn_38 rfl ?_
      refine lv_iload_n hx hb dX0_wrongIn_39 rfl (lv_at hl 2 rfl) ?_
      obtain ⟨r_9, e_10, hf⟩ := bo hf
      refine cC_far B e_10 ⟨Nat.le_of_ble_eq_true rfl, Nat.le_of_ble_eq_true rfl⟩ ⟨Nat.zero_le _, Nat.zero_le _⟩ hl.1 (Nat.le_of_ble_eq_true rfl) dX0_wrongIn_40 ?_
      refine lv_iconst (v := 1) hx hb dX0_wrongIn_43 (by decide) ?_
      refine lv_icmp_eq (tgt := 50) hx hb dX0_wrongIn_44 (by decide) (fun c_11 => ?_) (fun c_11 => ?_)
      · have hf := ifp c_11 hf
        refine lv_aload_n hx hb dX0_wrongIn_50 rfl (lv_at hl 1 rfl) ?_
        refine lv_iload hx hb dX0_wrongIn_51 (lv_at hl 3 rfl) ?_
        obtain ⟨v_12, e_13, hf⟩ := bo hf
        refine co_pr_l B hK hP e_13 dX0_wrongIn_53 ?_
        refine lv_l2i hx hb dX0_wrongIn_54 rfl ?_
        obtain ⟨x_14, e_15, hf⟩ := bo hf
        refine w_istore_n (lv' := [(3, .int x_14), (0, .ref (ca 0)), (1, .ref pr.1), (4, .int x4)]) e_15 hx hb dX0_wrongIn_55 rfl hl (by decide) rfl (fun ls hl => ?_)
        obtain ⟨x_16, e_17, hf⟩ := bo hf
        refine w_iinc (k := 3) (lv' := [(4, .int x_16), (3, .int x_14), (0, .ref (ca 0)), (1, .ref pr.1)]) e_17 hx hb dX0_wrongIn_56 hl rfl (by decide) rfl (fun ls hl => ?_)
        refine lv_goto (tgt := 13) hx hb dX0_wrongIn_59 (by decide) ?_
        exact kc _ _ (Option.some.inj hf).symm _ (lv_sub hl [2, 3, 1, 0] rfl)
      · have hf := ifn c_11 hf
        exact ke47 _ (Option.some.inj hf).symm _ (lv_sub hl [3] rfl)

set_option maxHeartbeats 4000000 in
theorem vC_wrongIn_L13 (B : CallFix p m c cX0_wrongIn 5 s args lw_all RX0) (hK : KK X s) {w : CW} (hP : va_P X.2.2.1 vwCl (CP X ca fa w ++ (LC X pr :: rest)) s.heap) {x3 : Int32} {x4 : Int32} {res : ((Unit) ⊕ Int32)} (hf : lp (fun q : Int32 × Int32 => fC_wrongIn_L13 pr w q.1 q.2) (x3, x4) = some res) (ke62 : res = (.inl ()) → ∀ (ls : Array Slot), lv_has ls 5 [] → W p l e (RM 3 64) s m args below meth c s.heap [] 0 0 Q (F0 m 62 ls [])) (ke47 : ∀ (y4 : Int32), res = (.inr y4) → ∀ (ls : Array Slot), lv_has ls 5 [(4, .int y4)] → W p l e (RM 3 64) s m args below meth c s.heap [] 0 0 Q (F0 m 47 ls [])) {ls : Array Slot} (hl : lv_has ls 5 [(0, .ref (ca 0)), (1, .ref pr.1), (3, .int x3), (4, .int x4)]) : W p l e (RM 3 64) s m args below meth c s.heap [] 0 0 Q (F0 m 13 ls []) := by
  refine lp_ind (r := res) (P := fun q : Int32 × Int32 => ∀ (ls : Array Slot), lv_has ls 5 [(0, .ref (ca 0)), (1, .ref pr.1), (3, .int q.1), (4, .int q.2)] → W p l e (RM 3 64) s m args below meth c s.heap [] 0 0 Q (F0 m 13 ls [])) ?_ ?_ _ hf _ hl
  · intro q hb ls hl
    exact wC_wrongIn_L13 B hK hP hb (fun _ _ h => by cases h) (fun h => ke62 (Sum.inr.inj h)) (fun z0 h => ke47 z0 (Sum.inr.inj h)) hl
  · intro q q2 hb ih ls hl
    exact wC_wrongIn_L13 B hK hP hb (fun z0 z1 h => by cases h; exact fun ls hl => ih ls hl) (fun h => by cases h) (fun _ h => by cases h) hl

noncomputable def fC_wrongIn (pr : Nat × Nat × (Nat → Int64)) (w : CW) (x2 : Int32) : Option (Int32) :=
  (rd ((cfe w).2.1 2) 4 x2).bind fun v_1 =>
  (lp (fun q : Int32 × Int32 => fC_wrongIn_L13 pr w q.1 q.2) (v_1, 0)).bind
    (Sum.elim (
      fun _ =>
        some (-1)
    )
      (
        fun q_5 => (fun (y_3 : Int32) =>
          some y_3
        ) q_5
      )
    )

set_option maxHeartbeats 4000000 in
theorem wC_wrongIn (B : CallFix p m c cX0_wrongIn 5 s args lw_all RX0) (hK : KK X s) {w : CW} (hP : va_P X.2.2.1 vwCl (CP X ca fa w ++ (LC X pr :: rest)) s.heap) {x2 : Int32} {res : Int32} (hf : fC_wrongIn pr w x2 = some res) (kr : ∀ (r : Int32), res = r → ∀ (pc : Nat) (ls : Array Slot), decode cX0_wrongIn pc = .ok (.ireturn, 1) → W p l e (RM 3 64) s m args below meth c s.heap [] 0 0 Q (F0 m pc ls [.int r])) {ls : Array Slot} (hl : lv_has ls 5 [(0, .ref (ca 0)), (1, .ref pr.1), (2, .int x2)]) : W p l e (RM 3 64) s m args below meth c s.heap [] 0 0 Q (F0 m 0 ls []) := by
  have hx := B.1
  have hb := B.2.1
  unfold fC_wrongIn at hf
  refine lv_aload_n hx hb dX0_wrongIn_0 rfl (lv_at hl 0 rfl) ?_
  refine co_this_g0 B hK hP dX0_wrongIn_1 ?_
  refine co_fen_g2 B hK hP dX0_wrongIn_4 ?_
  refine lv_iload_n hx hb dX0_wrongIn_7 rfl (lv_at hl 2 rfl) ?_
  obtain ⟨v_1, e_2, hf⟩ := bo hf
  refine co_cell_l B hK hP e_2 dX0_wrongIn_8 ?_
  refine lv_istore_n (lv' := [(3, .int v_1), (0, .ref (ca 0)), (1, .ref pr.1), (2, .int x2)]) hx hb dX0_wrongIn_9 rfl hl (by decide) rfl (fun ls hl => ?_)
  refine lv_iconst (v := 0) hx hb dX0_wrongIn_10 (by decide) ?_
  refine lv_istore (lv' := [(4, .int 0), (3, .int v_1), (0, .ref (ca 0)), (1, .ref pr.1), (2, .int x2)]) hx hb dX0_wrongIn_11 hl (by decide) rfl (fun ls hl => ?_)
  rcases bs hf with ⟨⟨⟩, e_6, hf⟩ | ⟨y_3, e_6, hf⟩
  · refine vC_wrongIn_L13 B hK hP e_6 ?_ (fun _ h => by cases h) (lv_sub hl [2, 3, 1, 0] rfl)
    intro hz
    intro ls hl
    refine lv_iconst (v := (-1)) hx hb dX0_wrongIn_62 (by decide) ?_
    exact kr _ (Option.some.inj hf).symm _ _ dX0_wrongIn_63
  · try dsimp only at hf
    refine vC_wrongIn_L13 B hK hP e_6 (fun h => by cases h) ?_ (lv_sub hl [2, 3, 1, 0] rfl)
    intro z0 hz
    cases hz
    intro ls hl
    refine lv_iload hx hb dX0_wrongIn_47 (lv_at hl 0 rfl) ?_
    exact kr _ (Option.some.inj hf).symm _ _ dX0_wrongIn_49

theorem tC_wrongIn (l : Launch) (X : CX) (ca fa : Nat → Nat) (pr : Nat × Nat × (Nat → Int64)) (rest : va_W) (w : CW) (x2 : Int32) (r : Int32) (hf : fC_wrongIn pr w x2 = some r) : RO l yX0_wrongIn cX0_wrongIn 5 (some .int) 3 64 [.ref (ca 0), .ref pr.1, .int x2] X (CP X ca fa w ++ (LC X pr :: rest)) (some (.int r)) := by
  refine RO.mk (by decide) (Nat.le_of_ble_eq_true rfl) ?_
  intro p e s m below meth c B hr hlk hK hP ls hl
  exact wC_wrongIn B hK hP hf (fun r h pc ls hd => by cases h; exact w_iretR B hr hlk rfl hd) hl
end S_C_wrongIn
