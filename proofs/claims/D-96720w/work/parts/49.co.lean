set_option maxRecDepth 100000
section S_becomes
variable {p : Program} {l : Launch} {e : Env} {R : Room} {s : State} {m : MethodId} {args : Array Value} {below : List Frame} {meth : Method} {c : Code} {H : Heap} {locs : List Loc} {cells slots : Nat} {Q : State → Prop} {cc : ByteArray} {nL pc : Nat} {ls : Array Slot} {st : List Value} {X : CX} {rest : va_W} {ca fa : Nat → Nat}
noncomputable def fC_becomes_J75_L7_NS (w : CW) (x2 : Int32) (t0 : Int32) : Option ((Int32 × CW) ⊕ (CW)) :=
  (inb 8 t0).bind fun u_1 =>
  (some (chs w t0.toNatClampNeg none)).bind fun w_3 =>
  (some (x2 + 1)).bind fun x_5 =>
  some (.inl (x_5, w_3))

set_option maxHeartbeats 4000000 in
theorem wC_becomes_J75_L7_NS (B : CallFix p m c cX0_becomes 4 s args lw_all RX0) (hK : KK X s) {w : CW} {x2 : Int32} {t0 : Int32} {res : (Int32 × CW) ⊕ (CW)} (hf : fC_becomes_J75_L7_NS w x2 t0 = some res) (kc : ∀ (y2 : Int32) (w1 : CW), res = .inl (y2, w1) → ∀ (H : Heap) (locs : List Loc), GG X (CP X ca fa w1 ++ rest) s.heap H locs → ∀ (ls : Array Slot), lv_has ls 4 [(0, .ref (ca 0)), (2, .int y2)] → W p l e (RMw 1 0 0 22) s m args below meth c H locs 0 0 Q (F0 m 7 ls [])) (ke84 : ∀ (w1 : CW), res = .inr w1 → ∀ (H : Heap) (locs : List Loc), GG X (CP X ca fa w1 ++ rest) s.heap H locs → ∀ (ls : Array Slot), lv_has ls 4 [] → W p l e (RMw 1 0 0 22) s m args below meth c H locs 0 0 Q (F0 m 84 ls [])) {H : Heap} {locs : List Loc} (hG : GG X (CP X ca fa w ++ rest) s.heap H locs) {ls : Array Slot} (hl : lv_has ls 4 [(0, .ref (ca 0)), (2, .int x2)]) : W p l e (RMw 1 0 0 22) s m args below meth c H locs 0 0 Q (F0 m 75 ls [.null, .ref (ca (10 + t0.toNatClampNeg))]) := by
  have hx := B.1
  have hb := B.2.1
  unfold fC_becomes_J75_L7_NS at hf
  obtain ⟨u_1, e_2, hf⟩ := bo hf
  obtain ⟨w_3, e_4, hf⟩ := bo hf
  refine co_hput (h := none) B hK hG e_2 (fun _ q => by cases q) e_4 dX0_becomes_75 (fun H locs hG => ?_)
  obtain ⟨x_5, e_6, hf⟩ := bo hf
  refine w_iinc (k := 1) (lv' := [(2, .int x_5), (0, .ref (ca 0))]) e_6 hx hb dX0_becomes_78 hl rfl (by decide) rfl (fun ls hl => ?_)
  refine lv_goto (tgt := 7) hx hb dX0_becomes_81 (by decide) ?_
  exact kc _ _ (Option.some.inj hf).symm _ _ hG _ (lv_sub hl [1, 0] rfl)

noncomputable def fC_becomes_J75_L7_PS (w : CW) (x2 : Int32) (t0 : Int32) (t1 : PV) : Option ((Int32 × CW) ⊕ (CW)) :=
  (inb 8 t0).bind fun u_1 =>
  (some (chs w t0.toNatClampNeg (some (.inl t1)))).bind fun w_3 =>
  (some (x2 + 1)).bind fun x_5 =>
  some (.inl (x_5, w_3))

set_option maxHeartbeats 4000000 in
theorem wC_becomes_J75_L7_PS (B : CallFix p m c cX0_becomes 4 s args lw_all RX0) (hK : KK X s) {w : CW} {x2 : Int32} {t0 : Int32} {t1 : PV} {res : (Int32 × CW) ⊕ (CW)} (hf : fC_becomes_J75_L7_PS w x2 t0 t1 = some res) (kc : ∀ (y2 : Int32) (w1 : CW), res = .inl (y2, w1) → ∀ (H : Heap) (locs : List Loc), GG X (CP X ca fa w1 ++ rest) s.heap H locs → ∀ (ls : Array Slot), lv_has ls 4 [(0, .ref (ca 0)), (2, .int y2)] → W p l e (RMw 1 0 0 22) s m args below meth c H locs 0 0 Q (F0 m 7 ls [])) (ke84 : ∀ (w1 : CW), res = .inr w1 → ∀ (H : Heap) (locs : List Loc), GG X (CP X ca fa w1 ++ rest) s.heap H locs → ∀ (ls : Array Slot), lv_has ls 4 [] → W p l e (RMw 1 0 0 22) s m args below meth c H locs 0 0 Q (F0 m 84 ls [])) {H : Heap} {locs : List Loc} (hG : GG X (CP X ca fa w ++ rest) s.heap H locs) {ls : Array Slot} (hl : lv_has ls 4 [(0, .ref (ca 0)), (2, .int x2)]) : W p l e (RMw 1 0 0 22) s m args below meth c H locs 0 0 Q (F0 m 75 ls [.ref t1.1, .ref (ca (10 + t0.toNatClampNeg))]) := by
  have hx := B.1
  have hb := B.2.1
  unfold fC_becomes_J75_L7_PS at hf
  obtain ⟨u_1, e_2, hf⟩ := bo hf
  obtain ⟨w_3, e_4, hf⟩ := bo hf
  refine co_hput (h := (some (.inl t1))) B hK hG e_2 (fun _ q => by cases q) e_4 dX0_becomes_75 (fun H locs hG => ?_)
  obtain ⟨x_5, e_6, hf⟩ := bo hf
  refine w_iinc (k := 1) (lv' := [(2, .int x_5), (0, .ref (ca 0))]) e_6 hx hb dX0_becomes_78 hl rfl (by decide) rfl (fun ls hl => ?_)
  refine lv_goto (tgt := 7) hx hb dX0_becomes_81 (by decide) ?_
  exact kc _ _ (Option.some.inj hf).symm _ _ hG _ (lv_sub hl [1, 0] rfl)

noncomputable def fC_becomes_L7 (w : CW) (x2 : Int32) : Option ((Int32 × CW) ⊕ (CW)) :=
  if 8 ≤ x2 then
    some (.inr w)
  else
    (inb 8 x2).bind fun u_2 =>
    (inb 8 x2).bind fun u_4 =>
    hc3 (chd w x2.toNatClampNeg) (
      (some (x2 + 1)).bind fun x_9 =>
      some (.inl (x_9, w))
    ) (fun p_7 =>
      (inL (cpl w) p_7).bind fun u_11 =>
      (inb 8 x2).bind fun u_13 =>
      (inb 8 x2).bind fun u_15 =>
      (inL (cpl w) p_7).bind fun u_17 =>
      (inL (cpl w) p_7).bind fun u_19 =>
      (inb 8 x2).bind fun u_21 =>
      (fF_isPost (cfe w) (p_7.2.2.1.toInt64)).bind fun r_23 =>
      if r_23 = 0 then
        fC_becomes_J75_L7_NS w x2 x2
      else
        (rdP (cfe w).2.2 8 p_7.2.2.1).bind fun p_26 =>
        fC_becomes_J75_L7_PS w x2 x2 p_26
    ) (fun k_8 =>
      (some (x2 + 1)).bind fun x_28 =>
      some (.inl (x_28, w))
    )

set_option maxHeartbeats 4000000 in
theorem wC_becomes_L7 (B : CallFix p m c cX0_becomes 4 s args lw_all RX0) (hK : KK X s) {w : CW} {x2 : Int32} {res : (Int32 × CW) ⊕ (CW)} (hf : fC_becomes_L7 w x2 = some res) (kc : ∀ (y2 : Int32) (w1 : CW), res = .inl (y2, w1) → ∀ (H : Heap) (locs : List Loc), GG X (CP X ca fa w1 ++ rest) s.heap H locs → ∀ (ls : Array Slot), lv_has ls 4 [(0, .ref (ca 0)), (2, .int y2)] → W p l e (RMw 1 0 0 22) s m args below meth c H locs 0 0 Q (F0 m 7 ls [])) (ke84 : ∀ (w1 : CW), res = .inr w1 → ∀ (H : Heap) (locs : List Loc), GG X (CP X ca fa w1 ++ rest) s.heap H locs → ∀ (ls : Array Slot), lv_has ls 4 [] → W p l e (RMw 1 0 0 22) s m args below meth c H locs 0 0 Q (F0 m 84 ls [])) {H : Heap} {locs : List Loc} (hG : GG X (CP X ca fa w ++ rest) s.heap H locs) {ls : Array Slot} (hl : lv_has ls 4 [(0, .ref (ca 0)), (2, .int x2)]) : W p l e (RMw 1 0 0 22) s m args below meth c H locs 0 0 Q (F0 m 7 ls []) := by
  have hx := B.1
  have hb := B.2.1
  unfold fC_becomes_L7 at hf
  refine lv_iload_n hx hb dX0_becomes_7 rfl (lv_at hl 1 rfl) ?_
  refine lv_bipush (v := 8) hx hb dX0_becomes_8 (by decide) ?_
  refine lv_icmp_ge (tgt := 84) hx hb dX0_becomes_10 (by decide) (fun c_1 => ?_) (fun c_1 => ?_)
  · have hf := ifp c_1 hf
    exact ke84 _ (Option.some.inj hf).symm _ _ hG _ (lv_sub hl [] rfl)
  · have hf := ifn c_1 hf
    refine lv_aload_n hx hb dX0_becomes_13 rfl (lv_at hl 0 rfl) ?_
    refine co_this_g4 B hK hG.1 dX0_becomes_14 ?_
    refine lv_iload_n hx hb dX0_becomes_17 rfl (lv_at hl 1 rfl) ?_
    obtain ⟨u_2, e_3, hf⟩ := bo hf
    refine co_sh_l B hK hG.1 e_3 dX0_becomes_18 ?_
    obtain ⟨u_4, e_5, hf⟩ := bo hf
    rcases h_6 : chd w x2.toNatClampNeg with _ | p_7 | k_8
    · rw [h_6] at hf
      have hf := hc3_0 hf
      refine co_held B hK hG.1 e_5 h_6 dX0_becomes_19 ?_
      refine lv_instN hx hb dX0_becomes_22 ?_
      refine lv_if_eq (tgt := 78) hx hb dX0_becomes_25 (by decide) (fun _ => ?_) (fun h => absurd (by decide) h)
      obtain ⟨x_9, e_10, hf⟩ := bo hf
      refine w_iinc (k := 1) (lv' := [(2, .int x_9), (0, .ref (ca 0))]) e_10 hx hb dX0_becomes_78 hl rfl (by decide) rfl (fun ls hl => ?_)
      refine lv_goto (tgt := 7) hx hb dX0_becomes_81 (by decide) ?_
      exact kc _ _ (Option.some.inj hf).symm _ _ hG _ (lv_sub hl [1, 0] rfl)
    · rw [h_6] at hf
      have hf := hc3_1 hf
      refine co_held B hK hG.1 e_5 h_6 dX0_becomes_19 ?_
      obtain ⟨u_11, e_12, hf⟩ := bo hf
      refine w_instP B hK (cp_P (inL_in e_12) hG.1) dX0_becomes_22 ?_
      refine lv_if_eq (tgt := 78) hx hb dX0_becomes_25 (by decide) (fun h => absurd h (by decide)) (fun _ => ?_)
      refine lv_aload_n hx hb dX0_becomes_28 rfl (lv_at hl 0 rfl) ?_
      refine co_this_g4 B hK hG.1 dX0_becomes_29 ?_
      refine lv_iload_n hx hb dX0_becomes_32 rfl (lv_at hl 1 rfl) ?_
      obtain ⟨u_13, e_14, hf⟩ := bo hf
      refine co_sh_l B hK hG.1 e_14 dX0_becomes_33 ?_
      obtain ⟨u_15, e_16, hf⟩ := bo hf
      refine co_held B hK hG.1 e_16 h_6 dX0_becomes_34 ?_
      obtain ⟨u_17, e_18, hf⟩ := bo hf
      refine w_castP B hK (cp_P (inL_in e_18) hG.1) dX0_becomes_37 ?_
      obtain ⟨u_19, e_20, hf⟩ := bo hf
      refine po_C0 B hK (cp_P (inL_in e_20) hG.1) dX0_becomes_40 ?_
      refine lv_istore_n (lv' := [(3, .int p_7.2.2.1), (0, .ref (ca 0)), (2, .int x2)]) hx hb dX0_becomes_43 rfl hl (by decide) rfl (fun ls hl => ?_)
      refine lv_aload_n hx hb dX0_becomes_44 rfl (lv_at hl 1 rfl) ?_
      refine co_this_g4 B hK hG.1 dX0_becomes_45 ?_
      refine lv_iload_n hx hb dX0_becomes_48 rfl (lv_at hl 2 rfl) ?_
      obtain ⟨u_21, e_22, hf⟩ := bo hf
      refine co_sh_l B hK hG.1 e_22 dX0_becomes_49 ?_
      refine lv_aload_n hx hb dX0_becomes_50 rfl (lv_at hl 1 rfl) ?_
      refine co_this_g0 B hK hG.1 dX0_becomes_51 ?_
      refine lv_iload_n hx hb dX0_becomes_54 rfl (lv_at hl 0 rfl) ?_
      refine lv_i2l hx hb dX0_becomes_55 rfl ?_
      obtain ⟨r_23, e_24, hf⟩ := bo hf
      refine cCF_isPost B hK hG.2.2 hG.1 e_24 ⟨Nat.le_of_ble_eq_true rfl, Nat.le_of_ble_eq_true rfl⟩ ⟨Nat.zero_le _, Nat.zero_le _⟩ hl.1 (Nat.le_of_ble_eq_true rfl) dX0_becomes_56 ?_
      refine lv_if_eq (tgt := 74) hx hb dX0_becomes_59 (by decide) (fun c_25 => ?_) (fun c_25 => ?_)
      · have hf := ifp c_25 hf
        refine lv_null hx hb dX0_becomes_74 ?_
        exact wC_becomes_J75_L7_NS B hK hf kc ke84 hG (lv_sub hl [1, 2] rfl)
      · have hf := ifn c_25 hf
        refine lv_aload_n hx hb dX0_becomes_62 rfl (lv_at hl 1 rfl) ?_
        refine co_this_g0 B hK hG.1 dX0_becomes_63 ?_
        refine co_fen_g1 B hK hG.1 dX0_becomes_66 ?_
        refine lv_iload_n hx hb dX0_becomes_69 rfl (lv_at hl 0 rfl) ?_
        obtain ⟨p_26, e_27, hf⟩ := bo hf
        refine co_post_l B hK hG.1 e_27 dX0_becomes_70 ?_
        refine lv_goto (tgt := 75) hx hb dX0_becomes_71 (by decide) ?_
        exact wC_becomes_J75_L7_PS B hK hf kc ke84 hG (lv_sub hl [1, 2] rfl)
    · rw [h_6] at hf
      have hf := hc3_2 hf
      refine co_held B hK hG.1 e_5 h_6 dX0_becomes_19 ?_
      refine w_instRow B hK hG.1 (cp_row (vp_lt (inb_in e_5)) h_6) dX0_becomes_22 ?_
      refine lv_if_eq (tgt := 78) hx hb dX0_becomes_25 (by decide) (fun _ => ?_) (fun h => absurd (by decide) h)
      obtain ⟨x_28, e_29, hf⟩ := bo hf
      refine w_iinc (k := 1) (lv' := [(2, .int x_28), (0, .ref (ca 0))]) e_29 hx hb dX0_becomes_78 hl rfl (by decide) rfl (fun ls hl => ?_)
      refine lv_goto (tgt := 7) hx hb dX0_becomes_81 (by decide) ?_
      exact kc _ _ (Option.some.inj hf).symm _ _ hG _ (lv_sub hl [1, 0] rfl)

set_option maxHeartbeats 4000000 in
theorem vC_becomes_L7 (B : CallFix p m c cX0_becomes 4 s args lw_all RX0) (hK : KK X s) {w : CW} {x2 : Int32} {res : CW} (hf : lp (fun q : Int32 × CW => fC_becomes_L7 q.2 q.1) (x2, w) = some res) (ke84 : ∀ (w1 : CW), res = w1 → ∀ (H : Heap) (locs : List Loc), GG X (CP X ca fa w1 ++ rest) s.heap H locs → ∀ (ls : Array Slot), lv_has ls 4 [] → W p l e (RMw 1 0 0 22) s m args below meth c H locs 0 0 Q (F0 m 84 ls [])) {H : Heap} {locs : List Loc} (hG : GG X (CP X ca fa w ++ rest) s.heap H locs) {ls : Array Slot} (hl : lv_has ls 4 [(0, .ref (ca 0)), (2, .int x2)]) : W p l e (RMw 1 0 0 22) s m args below meth c H locs 0 0 Q (F0 m 7 ls []) := by
  refine lp_ind (r := res) (P := fun q : Int32 × CW => ∀ (H : Heap) (locs : List Loc) (ls : Array Slot), GG X (CP X ca fa q.2 ++ rest) s.heap H locs → lv_has ls 4 [(0, .ref (ca 0)), (2, .int q.1)] → W p l e (RMw 1 0 0 22) s m args below meth c H locs 0 0 Q (F0 m 7 ls [])) ?_ ?_ _ hf _ _ _ hG hl
  · intro q hb H locs ls hG hl
    exact wC_becomes_L7 B hK hb (fun _ _ h => by cases h) (fun z0 h => ke84 z0 (Sum.inr.inj h)) hG hl
  · intro q q2 hb ih H locs ls hG hl
    exact wC_becomes_L7 B hK hb (fun z0 z1 h => by cases h; exact fun H locs hG ls hl => ih H locs ls hG hl) (fun _ h => by cases h) hG hl

noncomputable def fC_becomes_J5 (w : CW)  : Option (CW) :=
  (lp (fun q : Int32 × CW => fC_becomes_L7 q.2 q.1) (0, w)).bind (
    fun q_2 => (fun (w_1 : CW) =>
      some w_1
    ) q_2
  )

set_option maxHeartbeats 4000000 in
theorem wC_becomes_J5 (B : CallFix p m c cX0_becomes 4 s args lw_all RX0) (hK : KK X s) {w : CW}  {res : CW} (hf : fC_becomes_J5 w  = some res) (kr : ∀ (w1 : CW), res = w1 → ∀ (H : Heap) (locs : List Loc), GG X (CP X ca fa w1 ++ rest) s.heap H locs → ∀ (pc : Nat) (ls : Array Slot), decode cX0_becomes pc = .ok (.return_, 1) → W p l e (RMw 1 0 0 22) s m args below meth c H locs 0 0 Q (F0 m pc ls [])) {H : Heap} {locs : List Loc} (hG : GG X (CP X ca fa w ++ rest) s.heap H locs) {ls : Array Slot} (hl : lv_has ls 4 [(0, .ref (ca 0))]) : W p l e (RMw 1 0 0 22) s m args below meth c H locs 0 0 Q (F0 m 5 ls []) := by
  have hx := B.1
  have hb := B.2.1
  unfold fC_becomes_J5 at hf
  refine lv_iconst (v := 0) hx hb dX0_becomes_5 (by decide) ?_
  refine lv_istore_n (lv' := [(2, .int 0), (0, .ref (ca 0))]) hx hb dX0_becomes_6 rfl hl (by decide) rfl (fun ls hl => ?_)
  obtain ⟨w_1, e_3, hf⟩ := bo hf
  try dsimp only at hf
  refine vC_becomes_L7 B hK e_3 ?_ hG (lv_sub hl [1, 0] rfl)
  intro z0 hz
  cases hz
  intro H locs hG ls hl
  exact kr _ (Option.some.inj hf).symm _ _ hG _ _ dX0_becomes_84

end S_becomes
