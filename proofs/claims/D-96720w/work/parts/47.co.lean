set_option maxRecDepth 100000
section K_cC_isShelf
variable {p : Program} {l : Launch} {e : Env} {R : Room} {s : State} {m : MethodId} {args : Array Value} {below : List Frame} {meth : Method} {c : Code} {H : Heap} {locs : List Loc} {cells slots : Nat} {Q : State → Prop} {cc : ByteArray} {nL pc : Nat} {ls : Array Slot} {st : List Value} {X : CX} {rest : va_W}
theorem cC_isShelf (B : CallFix p m c cc nL s args lw_all RX0) {x0 : Int32} {r : Int32} (hf : fC_isShelf x0 = some r) (hR : 1 + 1 ≤ R.frames ∧ 42 ≤ R.locals) (hcs : cells ≤ R.cells ∧ slots ≤ R.slots) (hl : ls.size = nL) (hcat : (st.map fun v => v.category).sum ≤ 8) (hdg : decode cc pc = .ok (.invokestatic 87, 3)) (kk : W p l e R s m args below meth c H locs cells slots Q (F0 m (pc + 3) ls (.int r :: st))) : W p l e R s m args below meth c H locs cells slots Q (F0 m pc ls (.int x0 :: st)) :=
  w_afterR (w_rS_ST (As := [.int x0]) B (tC_isShelf l x0 r hf) (lw_S q338 q339 q87 q340) (n := 1) (by decide +kernel) hR hcs rfl hl rfl hcat hdg) kk
end K_cC_isShelf

section S_C_holds
variable {p : Program} {l : Launch} {e : Env} {R : Room} {s : State} {m : MethodId} {args : Array Value} {below : List Frame} {meth : Method} {c : Code} {H : Heap} {locs : List Loc} {cells slots : Nat} {Q : State → Prop} {cc : ByteArray} {nL pc : Nat} {ls : Array Slot} {st : List Value} {X : CX} {rest : va_W} {ca fa : Nat → Nat}
noncomputable def fC_holds (w : CW) (x1 : Int32) : Option (Int32) :=
  (fC_isShelf x1).bind fun r_1 =>
  if r_1 = 0 then
    some (-1)
  else
    (inb 8 x1).bind fun u_4 =>
    (inb 8 x1).bind fun u_6 =>
    hc3 (chd w x1.toNatClampNeg) (
      some (-1)
    ) (fun p_9 =>
      (inb 8 x1).bind fun u_11 =>
      (inb 8 x1).bind fun u_13 =>
      (inL (cpl w) p_9).bind fun u_15 =>
      (inL (cpl w) p_9).bind fun u_17 =>
      (inL (cpl w) p_9).bind fun u_19 =>
      some (10 + p_9.2.2.1)
    ) (fun k_10 =>
      (inb 8 x1).bind fun u_21 =>
      (inb 8 x1).bind fun u_23 =>
      (some (nI k_10.2.1.val)).bind fun r_25 =>
      some r_25
    )

set_option maxHeartbeats 4000000 in
theorem wC_holds (B : CallFix p m c cX0_holds 3 s args lw_all RX0) (hK : KK X s) {w : CW} (hP : va_P X.2.2.1 vwCl (CP X ca fa w ++ rest) s.heap) {x1 : Int32} {res : Int32} (hf : fC_holds w x1 = some res) (kr : ∀ (r : Int32), res = r → ∀ (pc : Nat) (ls : Array Slot), decode cX0_holds pc = .ok (.ireturn, 1) → W p l e (RM 2 42) s m args below meth c s.heap [] 0 0 Q (F0 m pc ls [.int r])) {ls : Array Slot} (hl : lv_has ls 3 [(0, .ref (ca 0)), (1, .int x1)]) : W p l e (RM 2 42) s m args below meth c s.heap [] 0 0 Q (F0 m 0 ls []) := by
  have hx := B.1
  have hb := B.2.1
  unfold fC_holds at hf
  refine lv_iload_n hx hb dX0_holds_0 rfl (lv_at hl 1 rfl) ?_
  obtain ⟨r_1, e_2, hf⟩ := bo hf
  refine cC_isShelf B e_2 ⟨Nat.le_of_ble_eq_true rfl, Nat.le_of_ble_eq_true rfl⟩ ⟨Nat.zero_le _, Nat.zero_le _⟩ hl.1 (Nat.le_of_ble_eq_true rfl) dX0_holds_1 ?_
  refine lv_if_eq (tgt := 19) hx hb dX0_holds_4 (by decide) (fun c_3 => ?_) (fun c_3 => ?_)
  · have hf := ifp c_3 hf
    refine lv_iconst (v := (-1)) hx hb dX0_holds_19 (by decide) ?_
    exact kr _ (Option.some.inj hf).symm _ _ dX0_holds_20
  · have hf := ifn c_3 hf
    refine lv_aload_n hx hb dX0_holds_7 rfl (lv_at hl 0 rfl) ?_
    refine co_this_g4 B hK hP dX0_holds_8 ?_
    refine lv_iload_n hx hb dX0_holds_11 rfl (lv_at hl 1 rfl) ?_
    obtain ⟨u_4, e_5, hf⟩ := bo hf
    refine co_sh_l B hK hP e_5 dX0_holds_12 ?_
    obtain ⟨u_6, e_7, hf⟩ := bo hf
    rcases h_8 : chd w x1.toNatClampNeg with _ | p_9 | k_10
    · rw [h_8] at hf
      have hf := hc3_0 hf
      refine co_held B hK hP e_7 h_8 dX0_holds_13 ?_
      refine lv_ifnonnullN hx hb dX0_holds_16 ?_
      refine lv_iconst (v := (-1)) hx hb dX0_holds_19 (by decide) ?_
      exact kr _ (Option.some.inj hf).symm _ _ dX0_holds_20
    · rw [h_8] at hf
      have hf := hc3_1 hf
      refine co_held B hK hP e_7 h_8 dX0_holds_13 ?_
      refine lv_ifnonnull (tgt := 21) hx hb dX0_holds_16 (by decide) ?_
      refine lv_aload_n hx hb dX0_holds_21 rfl (lv_at hl 0 rfl) ?_
      refine co_this_g4 B hK hP dX0_holds_22 ?_
      refine lv_iload_n hx hb dX0_holds_25 rfl (lv_at hl 1 rfl) ?_
      obtain ⟨u_11, e_12, hf⟩ := bo hf
      refine co_sh_l B hK hP e_12 dX0_holds_26 ?_
      obtain ⟨u_13, e_14, hf⟩ := bo hf
      refine co_held B hK hP e_14 h_8 dX0_holds_27 ?_
      refine lv_astore_n (lv' := [(2, .ref p_9.1), (0, .ref (ca 0)), (1, .int x1)]) hx hb dX0_holds_30 rfl hl (by decide) rfl (fun ls hl => ?_)
      refine lv_aload_n hx hb dX0_holds_31 rfl (lv_at hl 0 rfl) ?_
      obtain ⟨u_15, e_16, hf⟩ := bo hf
      refine w_instP B hK (cp_P (inL_in e_16) hP) dX0_holds_32 ?_
      refine lv_if_eq (tgt := 51) hx hb dX0_holds_35 (by decide) (fun h => absurd h (by decide)) (fun _ => ?_)
      refine lv_bipush (v := 10) hx hb dX0_holds_38 (by decide) ?_
      refine lv_aload_n hx hb dX0_holds_40 rfl (lv_at hl 0 rfl) ?_
      obtain ⟨u_17, e_18, hf⟩ := bo hf
      refine w_castP B hK (cp_P (inL_in e_18) hP) dX0_holds_41 ?_
      obtain ⟨u_19, e_20, hf⟩ := bo hf
      refine po_C0 B hK (cp_P (inL_in e_20) hP) dX0_holds_44 ?_
      refine lv_iadd hx hb dX0_holds_47 ?_
      refine lv_goto (tgt := 55) hx hb dX0_holds_48 (by decide) ?_
      exact kr _ (Option.some.inj hf).symm _ _ dX0_holds_55
    · rw [h_8] at hf
      have hf := hc3_2 hf
      refine co_held B hK hP e_7 h_8 dX0_holds_13 ?_
      refine lv_ifnonnull (tgt := 21) hx hb dX0_holds_16 (by decide) ?_
      refine lv_aload_n hx hb dX0_holds_21 rfl (lv_at hl 0 rfl) ?_
      refine co_this_g4 B hK hP dX0_holds_22 ?_
      refine lv_iload_n hx hb dX0_holds_25 rfl (lv_at hl 1 rfl) ?_
      obtain ⟨u_21, e_22, hf⟩ := bo hf
      refine co_sh_l B hK hP e_22 dX0_holds_26 ?_
      obtain ⟨u_23, e_24, hf⟩ := bo hf
      refine co_held B hK hP e_24 h_8 dX0_holds_27 ?_
      refine lv_astore_n (lv' := [(2, .ref k_10.1), (0, .ref (ca 0)), (1, .int x1)]) hx hb dX0_holds_30 rfl hl (by decide) rfl (fun ls hl => ?_)
      refine lv_aload_n hx hb dX0_holds_31 rfl (lv_at hl 0 rfl) ?_
      refine w_instRow B hK hP (cp_row (vp_lt (inb_in e_7)) h_8) dX0_holds_32 ?_
      refine lv_if_eq (tgt := 51) hx hb dX0_holds_35 (by decide) (fun _ => ?_) (fun h => absurd (by decide) h)
      refine lv_aload_n hx hb dX0_holds_51 rfl (lv_at hl 0 rfl) ?_
      obtain ⟨r_25, e_26, hf⟩ := bo hf
      refine w_sortOf B hK va_S.rf hP (cp_row (vp_lt (inb_in e_7)) h_8) e_26 ⟨Nat.le_of_ble_eq_true rfl, Nat.le_of_ble_eq_true rfl⟩ ⟨Nat.zero_le _, Nat.zero_le _⟩ hl.1 (Nat.le_of_ble_eq_true rfl) dX0_holds_52 ?_
      exact kr _ (Option.some.inj hf).symm _ _ dX0_holds_55

theorem tC_holds (l : Launch) (X : CX) (ca fa : Nat → Nat) (rest : va_W) (w : CW) (x1 : Int32) (r : Int32) (hf : fC_holds w x1 = some r) : RO l yX0_holds cX0_holds 3 (some .int) 2 42 [.ref (ca 0), .int x1] X (CP X ca fa w ++ rest) (some (.int r)) := by
  refine RO.mk (by decide) (Nat.le_of_ble_eq_true rfl) ?_
  intro p e s m below meth c B hr hlk hK hP ls hl
  exact wC_holds B hK hP hf (fun r h pc ls hd => by cases h; exact w_iretR B hr hlk rfl hd) hl
end S_C_holds

section S_C_shelved
variable {p : Program} {l : Launch} {e : Env} {R : Room} {s : State} {m : MethodId} {args : Array Value} {below : List Frame} {meth : Method} {c : Code} {H : Heap} {locs : List Loc} {cells slots : Nat} {Q : State → Prop} {cc : ByteArray} {nL pc : Nat} {ls : Array Slot} {st : List Value} {X : CX} {rest : va_W} {ca fa : Nat → Nat}
noncomputable def fC_shelved_J28_L4 (w : CW) (x2 : Int32) (t0 : Int32) (t1 : Int32) : Option ((Int32 × Int32) ⊕ (Int32)) :=
  (some (t0 + t1)).bind fun x_1 =>
  (some (x2 + 1)).bind fun x_3 =>
  some (.inl (x_1, x_3))

set_option maxHeartbeats 4000000 in
theorem wC_shelved_J28_L4 (B : CallFix p m c cX0_shelved 3 s args lw_all RX0) (hK : KK X s) {w : CW} (hP : va_P X.2.2.1 vwCl (CP X ca fa w ++ rest) s.heap) {x2 : Int32} {t0 : Int32} {t1 : Int32} {res : (Int32 × Int32) ⊕ (Int32)} (hf : fC_shelved_J28_L4 w x2 t0 t1 = some res) (kc : ∀ (y1 : Int32) (y2 : Int32), res = .inl (y1, y2) → ∀ (ls : Array Slot), lv_has ls 3 [(0, .ref (ca 0)), (1, .int y1), (2, .int y2)] → W p l e (RM 0 0) s m args below meth c s.heap [] 0 0 Q (F0 m 4 ls [])) (ke36 : ∀ (y1 : Int32), res = .inr y1 → ∀ (ls : Array Slot), lv_has ls 3 [(1, .int y1)] → W p l e (RM 0 0) s m args below meth c s.heap [] 0 0 Q (F0 m 36 ls [])) {ls : Array Slot} (hl : lv_has ls 3 [(0, .ref (ca 0)), (2, .int x2)]) : W p l e (RM 0 0) s m args below meth c s.heap [] 0 0 Q (F0 m 28 ls [.int t1, .int t0]) := by
  have hx := B.1
  have hb := B.2.1
  unfold fC_shelved_J28_L4 at hf
  refine lv_iadd hx hb dX0_shelved_28 ?_
  obtain ⟨x_1, e_2, hf⟩ := bo hf
  refine w_istore_n (lv' := [(1, .int x_1), (0, .ref (ca 0)), (2, .int x2)]) e_2 hx hb dX0_shelved_29 rfl hl (by decide) rfl (fun ls hl => ?_)
  obtain ⟨x_3, e_4, hf⟩ := bo hf
  refine w_iinc (k := 2) (lv' := [(2, .int x_3), (1, .int x_1), (0, .ref (ca 0))]) e_4 hx hb dX0_shelved_30 hl rfl (by decide) rfl (fun ls hl => ?_)
  refine lv_goto (tgt := 4) hx hb dX0_shelved_33 (by decide) ?_
  exact kc _ _ (Option.some.inj hf).symm _ (lv_sub hl [2, 1, 0] rfl)

noncomputable def fC_shelved_L4 (w : CW) (x1 : Int32) (x2 : Int32) : Option ((Int32 × Int32) ⊕ (Int32)) :=
  if 8 ≤ x2 then
    some (.inr x1)
  else
    (inb 8 x2).bind fun u_2 =>
    (inb 8 x2).bind fun u_4 =>
    hc3 (chd w x2.toNatClampNeg) (
      fC_shelved_J28_L4 w x2 x1 0
    ) (fun p_7 =>
      fC_shelved_J28_L4 w x2 x1 1
    ) (fun k_8 =>
      fC_shelved_J28_L4 w x2 x1 1
    )

set_option maxHeartbeats 4000000 in
theorem wC_shelved_L4 (B : CallFix p m c cX0_shelved 3 s args lw_all RX0) (hK : KK X s) {w : CW} (hP : va_P X.2.2.1 vwCl (CP X ca fa w ++ rest) s.heap) {x1 : Int32} {x2 : Int32} {res : (Int32 × Int32) ⊕ (Int32)} (hf : fC_shelved_L4 w x1 x2 = some res) (kc : ∀ (y1 : Int32) (y2 : Int32), res = .inl (y1, y2) → ∀ (ls : Array Slot), lv_has ls 3 [(0, .ref (ca 0)), (1, .int y1), (2, .int y2)] → W p l e (RM 0 0) s m args below meth c s.heap [] 0 0 Q (F0 m 4 ls [])) (ke36 : ∀ (y1 : Int32), res = .inr y1 → ∀ (ls : Array Slot), lv_has ls 3 [(1, .int y1)] → W p l e (RM 0 0) s m args below meth c s.heap [] 0 0 Q (F0 m 36 ls [])) {ls : Array Slot} (hl : lv_has ls 3 [(0, .ref (ca 0)), (1, .int x1), (2, .int x2)]) : W p l e (RM 0 0) s m args below meth c s.heap [] 0 0 Q (F0 m 4 ls []) := by
  have hx := B.1
  have hb := B.2.1
  unfold fC_shelved_L4 at hf
  refine lv_iload_n hx hb dX0_shelved_4 rfl (lv_at hl 2 rfl) ?_
  refine lv_bipush (v := 8) hx hb dX0_shelved_5 (by decide) ?_
  refine lv_icmp_ge (tgt := 36) hx hb dX0_shelved_7 (by decide) (fun c_1 => ?_) (fun c_1 => ?_)
  · have hf := ifp c_1 hf
    exact ke36 _ (Option.some.inj hf).symm _ (lv_sub hl [1] rfl)
  · have hf := ifn c_1 hf
    refine lv_iload_n hx hb dX0_shelved_10 rfl (lv_at hl 1 rfl) ?_
    refine lv_aload_n hx hb dX0_shelved_11 rfl (lv_at hl 0 rfl) ?_
    refine co_this_g4 B hK hP dX0_shelved_12 ?_
    refine lv_iload_n hx hb dX0_shelved_15 rfl (lv_at hl 2 rfl) ?_
    obtain ⟨u_2, e_3, hf⟩ := bo hf
    refine co_sh_l B hK hP e_3 dX0_shelved_16 ?_
    obtain ⟨u_4, e_5, hf⟩ := bo hf
    rcases h_6 : chd w x2.toNatClampNeg with _ | p_7 | k_8
    · rw [h_6] at hf
      have hf := hc3_0 hf
      refine co_held B hK hP e_5 h_6 dX0_shelved_17 ?_
      refine lv_ifnullN (tgt := 27) hx hb dX0_shelved_20 (by decide) ?_
      refine lv_iconst (v := 0) hx hb dX0_shelved_27 (by decide) ?_
      exact wC_shelved_J28_L4 B hK hP hf kc ke36 (lv_sub hl [0, 2] rfl)
    · rw [h_6] at hf
      have hf := hc3_1 hf
      refine co_held B hK hP e_5 h_6 dX0_shelved_17 ?_
      refine lv_ifnull hx hb dX0_shelved_20 ?_
      refine lv_iconst (v := 1) hx hb dX0_shelved_23 (by decide) ?_
      refine lv_goto (tgt := 28) hx hb dX0_shelved_24 (by decide) ?_
      exact wC_shelved_J28_L4 B hK hP hf kc ke36 (lv_sub hl [0, 2] rfl)
    · rw [h_6] at hf
      have hf := hc3_2 hf
      refine co_held B hK hP e_5 h_6 dX0_shelved_17 ?_
      refine lv_ifnull hx hb dX0_shelved_20 ?_
      refine lv_iconst (v := 1) hx hb dX0_shelved_23 (by decide) ?_
      refine lv_goto (tgt := 28) hx hb dX0_shelved_24 (by decide) ?_
      exact wC_shelved_J28_L4 B hK hP hf kc ke36 (lv_sub hl [0, 2] rfl)

set_option maxHeartbeats 4000000 in
theorem vC_shelved_L4 (B : CallFix p m c cX0_shelved 3 s args lw_all RX0) (hK : KK X s) {w : CW} (hP : va_P X.2.2.1 vwCl (CP X ca fa w ++ rest) s.heap) {x1 : Int32} {x2 : Int32} {res : Int32} (hf : lp (fun q : Int32 × Int32 => fC_shelved_L4 w q.1 q.2) (x1, x2) = some res) (ke36 : ∀ (y1 : Int32), res = y1 → ∀ (ls : Array Slot), lv_has ls 3 [(1, .int y1)] → W p l e (RM 0 0) s m args below meth c s.heap [] 0 0 Q (F0 m 36 ls [])) {ls : Array Slot} (hl : lv_has ls 3 [(0, .ref (ca 0)), (1, .int x1), (2, .int x2)]) : W p l e (RM 0 0) s m args below meth c s.heap [] 0 0 Q (F0 m 4 ls []) := by
  refine lp_ind (r := res) (P := fun q : Int32 × Int32 => ∀ (ls : Array Slot), lv_has ls 3 [(0, .ref (ca 0)), (1, .int q.1), (2, .int q.2)] → W p l e (RM 0 0) s m args below meth c s.heap [] 0 0 Q (F0 m 4 ls [])) ?_ ?_ _ hf _ hl
  · intro q hb ls hl
    exact wC_shelved_L4 B hK hP hb (fun _ _ h => by cases h) (fun z0 h => ke36 z0 (Sum.inr.inj h)) hl
  · intro q q2 hb ih ls hl
    exact wC_shelved_L4 B hK hP hb (fun z0 z1 h => by cases h; exact fun ls hl => ih ls hl) (fun _ h => by cases h) hl

noncomputable def fC_shelved (w : CW)  : Option (Int32) :=
  (lp (fun q : Int32 × Int32 => fC_shelved_L4 w q.1 q.2) (0, 0)).bind (
    fun q_2 => (fun (y_1 : Int32) =>
      some y_1
    ) q_2
  )

set_option maxHeartbeats 4000000 in
theorem wC_shelved (B : CallFix p m c cX0_shelved 3 s args lw_all RX0) (hK : KK X s) {w : CW} (hP : va_P X.2.2.1 vwCl (CP X ca fa w ++ rest) s.heap)  {res : Int32} (hf : fC_shelved w  = some res) (kr : ∀ (r : Int32), res = r → ∀ (pc : Nat) (ls : Array Slot), decode cX0_shelved pc = .ok (.ireturn, 1) → W p l e (RM 0 0) s m args below meth c s.heap [] 0 0 Q (F0 m pc ls [.int r])) {ls : Array Slot} (hl : lv_has ls 3 [(0, .ref (ca 0))]) : W p l e (RM 0 0) s m args below meth c s.heap [] 0 0 Q (F0 m 0 ls []) := by
  have hx := B.1
  have hb := B.2.1
  unfold fC_shelved at hf
  refine lv_iconst (v := 0) hx hb dX0_shelved_0 (by decide) ?_
  refine lv_istore_n (lv' := [(1, .int 0), (0, .ref (ca 0))]) hx hb dX0_shelved_1 rfl hl (by decide) rfl (fun ls hl => ?_)
  refine lv_iconst (v := 0) hx hb dX0_shelved_2 (by decide) ?_
  refine lv_istore_n (lv' := [(2, .int 0), (1, .int 0), (0, .ref (ca 0))]) hx hb dX0_shelved_3 rfl hl (by decide) rfl (fun ls hl => ?_)
  obtain ⟨y_1, e_3, hf⟩ := bo hf
  try dsimp only at hf
  refine vC_shelved_L4 B hK hP e_3 ?_ (lv_sub hl [2, 1, 0] rfl)
  intro z0 hz
  cases hz
  intro ls hl
  refine lv_iload_n hx hb dX0_shelved_36 rfl (lv_at hl 0 rfl) ?_
  exact kr _ (Option.some.inj hf).symm _ _ dX0_shelved_37

theorem tC_shelved (l : Launch) (X : CX) (ca fa : Nat → Nat) (rest : va_W) (w : CW)  (r : Int32) (hf : fC_shelved w  = some r) : RO l yX0_shelved cX0_shelved 3 (some .int) 0 0 [.ref (ca 0)] X (CP X ca fa w ++ rest) (some (.int r)) := by
  refine RO.mk (by decide) (Nat.le_of_ble_eq_true rfl) ?_
  intro p e s m below meth c B hr hlk hK hP ls hl
  exact wC_shelved B hK hP hf (fun r h pc ls hd => by cases h; exact w_iretR B hr hlk rfl hd) hl
end S_C_shelved

section S_C_show
variable {p : Program} {l : Launch} {e : Env} {R : Room} {s : State} {m : MethodId} {args : Array Value} {below : List Frame} {meth : Method} {c : Code} {H : Heap} {locs : List Loc} {cells slots : Nat} {Q : State → Prop} {cc : ByteArray} {nL pc : Nat} {ls : Array Slot} {st : List Value} {X : CX} {rest : va_W} {ca fa : Nat → Nat}
noncomputable def fC_show_J24 (w : CW)  : Option (Int32 × CW) :=
  b2 (fC_no w (-2)) fun r_5 f_2 =>
  (some (f_2)).bind fun w_3 =>
  some (r_5, w_3)

set_option maxHeartbeats 4000000 in
theorem wC_show_J24 (B : CallFix p m c cX0_show 3 s args lw_all RX0) (hK : KK X s) {w : CW}  {res : Int32 × CW} (hf : fC_show_J24 w  = some res) (kr : ∀ (r : Int32) (w1 : CW), res = (r, w1) → ∀ (H : Heap) (locs : List Loc), GG X (CP X ca fa w1 ++ rest) s.heap H locs → ∀ (pc : Nat) (ls : Array Slot), decode cX0_show pc = .ok (.ireturn, 1) → W p l e (RMw 2 0 0 42) s m args below meth c H locs 0 0 Q (F0 m pc ls [.int r])) {H : Heap} {locs : List Loc} (hG : GG X (CP X ca fa w ++ rest) s.heap H locs) {ls : Array Slot} (hl : lv_has ls 3 [(0, .ref (ca 0))]) : W p l e (RMw 2 0 0 42) s m args below meth c H locs 0 0 Q (F0 m 24 ls []) := by
  have hx := B.1
  have hb := B.2.1
  unfold fC_show_J24 at hf
  refine lv_aload_n hx hb dX0_show_24 rfl (lv_at hl 0 rfl) ?_
  refine lv_bipush (v := (-2)) hx hb dX0_show_25 (by decide) ?_
  obtain ⟨r_5, f_2, e_1, hf⟩ := b2s hf
  obtain ⟨w_3, e_4, hf⟩ := bo hf
  refine cC_no B hK hG e_1 e_4 ⟨Nat.le_of_ble_eq_true rfl, Nat.le_of_ble_eq_true rfl⟩ ⟨Nat.zero_le _, Nat.zero_le _⟩ hl.1 (Nat.le_of_ble_eq_true rfl) dX0_show_27 (fun H locs hG => ?_)
  exact kr _ _ (Option.some.inj hf).symm _ _ hG _ _ dX0_show_30

noncomputable def fC_show_J55_PS (w : CW) (t0 : Int32) (t1 : PV) : Option (Int32 × CW) :=
  (inb 8 t0).bind fun u_1 =>
  (some (chs w t0.toNatClampNeg (some (.inl t1)))).bind fun w_3 =>
  some (1, w_3)

set_option maxHeartbeats 4000000 in
theorem wC_show_J55_PS (B : CallFix p m c cX0_show 3 s args lw_all RX0) (hK : KK X s) {w : CW} {t0 : Int32} {t1 : PV} {res : Int32 × CW} (hf : fC_show_J55_PS w t0 t1 = some res) (kr : ∀ (r : Int32) (w1 : CW), res = (r, w1) → ∀ (H : Heap) (locs : List Loc), GG X (CP X ca fa w1 ++ rest) s.heap H locs → ∀ (pc : Nat) (ls : Array Slot), decode cX0_show pc = .ok (.ireturn, 1) → W p l e (RMw 2 0 0 42) s m args below meth c H locs 0 0 Q (F0 m pc ls [.int r])) {H : Heap} {locs : List Loc} (hG : GG X (CP X ca fa w ++ rest) s.heap H locs) {ls : Array Slot} (hl : lv_has ls 3 []) : W p l e (RMw 2 0 0 42) s m args below meth c H locs 0 0 Q (F0 m 55 ls [.ref t1.1, .ref (ca (10 + t0.toNatClampNeg))]) := by
  have hx := B.1
  have hb := B.2.1
  unfold fC_show_J55_PS at hf
  obtain ⟨u_1, e_2, hf⟩ := bo hf
  obtain ⟨w_3, e_4, hf⟩ := bo hf
  refine co_hput (h := (some (.inl t1))) B hK hG e_2 (fun _ q => by cases q) e_4 dX0_show_55 (fun H locs hG => ?_)
  refine lv_iconst (v := 1) hx hb dX0_show_58 (by decide) ?_
  exact kr _ _ (Option.some.inj hf).symm _ _ hG _ _ dX0_show_59

noncomputable def fC_show_J55_NS (w : CW) (t0 : Int32) : Option (Int32 × CW) :=
  (inb 8 t0).bind fun u_1 =>
  (some (chs w t0.toNatClampNeg none)).bind fun w_3 =>
  some (1, w_3)

set_option maxHeartbeats 4000000 in
theorem wC_show_J55_NS (B : CallFix p m c cX0_show 3 s args lw_all RX0) (hK : KK X s) {w : CW} {t0 : Int32} {res : Int32 × CW} (hf : fC_show_J55_NS w t0 = some res) (kr : ∀ (r : Int32) (w1 : CW), res = (r, w1) → ∀ (H : Heap) (locs : List Loc), GG X (CP X ca fa w1 ++ rest) s.heap H locs → ∀ (pc : Nat) (ls : Array Slot), decode cX0_show pc = .ok (.ireturn, 1) → W p l e (RMw 2 0 0 42) s m args below meth c H locs 0 0 Q (F0 m pc ls [.int r])) {H : Heap} {locs : List Loc} (hG : GG X (CP X ca fa w ++ rest) s.heap H locs) {ls : Array Slot} (hl : lv_has ls 3 []) : W p l e (RMw 2 0 0 42) s m args below meth c H locs 0 0 Q (F0 m 55 ls [.null, .ref (ca (10 + t0.toNatClampNeg))]) := by
  have hx := B.1
  have hb := B.2.1
  unfold fC_show_J55_NS at hf
  obtain ⟨u_1, e_2, hf⟩ := bo hf
  obtain ⟨w_3, e_4, hf⟩ := bo hf
  refine co_hput (h := none) B hK hG e_2 (fun _ q => by cases q) e_4 dX0_show_55 (fun H locs hG => ?_)
  refine lv_iconst (v := 1) hx hb dX0_show_58 (by decide) ?_
  exact kr _ _ (Option.some.inj hf).symm _ _ hG _ _ dX0_show_59

noncomputable def fC_show_J31 (w : CW) (x1 : Int32) (x2 : Int32) : Option (Int32 × CW) :=
  (inb 8 x1).bind fun u_1 =>
  if x2 = (-1) then
    fC_show_J55_NS w x1
  else
    (rdP (cfe w).2.2 8 x2).bind fun p_4 =>
    fC_show_J55_PS w x1 p_4

set_option maxHeartbeats 4000000 in
theorem wC_show_J31 (B : CallFix p m c cX0_show 3 s args lw_all RX0) (hK : KK X s) {w : CW} {x1 : Int32} {x2 : Int32} {res : Int32 × CW} (hf : fC_show_J31 w x1 x2 = some res) (kr : ∀ (r : Int32) (w1 : CW), res = (r, w1) → ∀ (H : Heap) (locs : List Loc), GG X (CP X ca fa w1 ++ rest) s.heap H locs → ∀ (pc : Nat) (ls : Array Slot), decode cX0_show pc = .ok (.ireturn, 1) → W p l e (RMw 2 0 0 42) s m args below meth c H locs 0 0 Q (F0 m pc ls [.int r])) {H : Heap} {locs : List Loc} (hG : GG X (CP X ca fa w ++ rest) s.heap H locs) {ls : Array Slot} (hl : lv_has ls 3 [(0, .ref (ca 0)), (1, .int x1), (2, .int x2)]) : W p l e (RMw 2 0 0 42) s m args below meth c H locs 0 0 Q (F0 m 31 ls []) := by
  have hx := B.1
  have hb := B.2.1
  unfold fC_show_J31 at hf
  refine lv_aload_n hx hb dX0_show_31 rfl (lv_at hl 0 rfl) ?_
  refine co_this_g4 B hK hG.1 dX0_show_32 ?_
  refine lv_iload_n hx hb dX0_show_35 rfl (lv_at hl 1 rfl) ?_
  obtain ⟨u_1, e_2, hf⟩ := bo hf
  refine co_sh_l B hK hG.1 e_2 dX0_show_36 ?_
  refine lv_iload_n hx hb dX0_show_37 rfl (lv_at hl 2 rfl) ?_
  refine lv_iconst (v := (-1)) hx hb dX0_show_38 (by decide) ?_
  refine lv_icmp_ne (tgt := 46) hx hb dX0_show_39 (by decide) (fun c_3 => ?_) (fun c_3 => ?_)
  · have hf := ifn c_3 hf
    refine lv_aload_n hx hb dX0_show_46 rfl (lv_at hl 0 rfl) ?_
    refine co_this_g0 B hK hG.1 dX0_show_47 ?_
    refine co_fen_g1 B hK hG.1 dX0_show_50 ?_
    refine lv_iload_n hx hb dX0_show_53 rfl (lv_at hl 2 rfl) ?_
    obtain ⟨p_4, e_5, hf⟩ := bo hf
    refine co_post_l B hK hG.1 e_5 dX0_show_54 ?_
    exact wC_show_J55_PS B hK hf kr hG (lv_sub hl [] rfl)
  · have hf := ifp c_3 hf
    refine lv_null hx hb dX0_show_42 ?_
    refine lv_goto (tgt := 55) hx hb dX0_show_43 (by decide) ?_
    exact wC_show_J55_NS B hK hf kr hG (lv_sub hl [] rfl)

noncomputable def fC_show (w : CW) (x1 : Int32) (x2 : Int32) : Option (Int32 × CW) :=
  (fC_isShelf x1).bind fun r_1 =>
  if r_1 = 0 then
    fC_show_J24 w 
  else
    if x2 = (-1) then
      fC_show_J31 w x1 x2
    else
      (fF_isPost (cfe w) (x2.toInt64)).bind fun r_5 =>
      if r_5 = 0 then
        fC_show_J24 w 
      else
        fC_show_J31 w x1 x2

set_option maxHeartbeats 4000000 in
theorem wC_show (B : CallFix p m c cX0_show 3 s args lw_all RX0) (hK : KK X s) {w : CW} {x1 : Int32} {x2 : Int32} {res : Int32 × CW} (hf : fC_show w x1 x2 = some res) (kr : ∀ (r : Int32) (w1 : CW), res = (r, w1) → ∀ (H : Heap) (locs : List Loc), GG X (CP X ca fa w1 ++ rest) s.heap H locs → ∀ (pc : Nat) (ls : Array Slot), decode cX0_show pc = .ok (.ireturn, 1) → W p l e (RMw 2 0 0 42) s m args below meth c H locs 0 0 Q (F0 m pc ls [.int r])) {H : Heap} {locs : List Loc} (hG : GG X (CP X ca fa w ++ rest) s.heap H locs) {ls : Array Slot} (hl : lv_has ls 3 [(0, .ref (ca 0)), (1, .int x1), (2, .int x2)]) : W p l e (RMw 2 0 0 42) s m args below meth c H locs 0 0 Q (F0 m 0 ls []) := by
  have hx := B.1
  have hb := B.2.1
  unfold fC_show at hf
  refine lv_iload_n hx hb dX0_show_0 rfl (lv_at hl 1 rfl) ?_
  obtain ⟨r_1, e_2, hf⟩ := bo hf
  refine cC_isShelf B e_2 ⟨Nat.le_of_ble_eq_true rfl, Nat.le_of_ble_eq_true rfl⟩ ⟨Nat.zero_le _, Nat.zero_le _⟩ hl.1 (Nat.le_of_ble_eq_true rfl) dX0_show_1 ?_
  refine lv_if_eq (tgt := 24) hx hb dX0_show_4 (by decide) (fun c_3 => ?_) (fun c_3 => ?_)
  · have hf := ifp c_3 hf
    exact wC_show_J24 B hK hf kr hG (lv_sub hl [0] rfl)
  · have hf := ifn c_3 hf
    refine lv_iload_n hx hb dX0_show_7 rfl (lv_at hl 2 rfl) ?_
    refine lv_iconst (v := (-1)) hx hb dX0_show_8 (by decide) ?_
    refine lv_icmp_eq (tgt := 31) hx hb dX0_show_9 (by decide) (fun c_4 => ?_) (fun c_4 => ?_)
    · have hf := ifp c_4 hf
      exact wC_show_J31 B hK hf kr hG hl
    · have hf := ifn c_4 hf
      refine lv_aload_n hx hb dX0_show_12 rfl (lv_at hl 0 rfl) ?_
      refine co_this_g0 B hK hG.1 dX0_show_13 ?_
      refine lv_iload_n hx hb dX0_show_16 rfl (lv_at hl 2 rfl) ?_
      refine lv_i2l hx hb dX0_show_17 rfl ?_
      obtain ⟨r_5, e_6, hf⟩ := bo hf
      refine cCF_isPost B hK hG.2.2 hG.1 e_6 ⟨Nat.le_of_ble_eq_true rfl, Nat.le_of_ble_eq_true rfl⟩ ⟨Nat.zero_le _, Nat.zero_le _⟩ hl.1 (Nat.le_of_ble_eq_true rfl) dX0_show_18 ?_
      refine lv_if_ne (tgt := 31) hx hb dX0_show_21 (by decide) (fun c_7 => ?_) (fun c_7 => ?_)
      · have hf := ifn c_7 hf
        exact wC_show_J31 B hK hf kr hG hl
      · have hf := ifp c_7 hf
        exact wC_show_J24 B hK hf kr hG (lv_sub hl [0] rfl)

theorem tC_show (l : Launch) (X : CX) (ca fa : Nat → Nat) (rest : va_W) (w w' : CW) (x1 : Int32) (x2 : Int32) (r : Int32) (hf : fC_show w x1 x2 = some (r, w')) : RW l yX0_show cX0_show 3 (some .int) 2 0 0 42 [.ref (ca 0), .int x1, .int x2] X (CP X ca fa w ++ rest) (CP X ca fa (w') ++ rest) (some (.int r)) := by
  refine RW.mk (by decide) (Nat.le_of_ble_eq_true rfl) ?_
  intro p e s m below meth c B hr hlk hK hG ls hl
  exact wC_show B hK hf (fun r w h H locs hG pc ls hd => by cases h; exact w_iretW B hr hlk hG hd) hG hl
end S_C_show

section K_cCF_manyBogs
variable {p : Program} {l : Launch} {e : Env} {R : Room} {s : State} {m : MethodId} {args : Array Value} {below : List Frame} {meth : Method} {c : Code} {H : Heap} {locs : List Loc} {cells slots : Nat} {Q : State → Prop} {cc : ByteArray} {nL pc : Nat} {ls : Array Slot} {st : List Value} {X : CX} {rest : va_W} {ca fa : Nat → Nat}
theorem cCF_manyBogs (B : CallFix p m c cc nL s args lw_all RX0) (hK : KK X s) (hS : va_S (Az X) s.heap H locs) {w : CW} (hP : va_P X.2.2.1 vwCl (CP X ca fa w ++ rest) H)  {r : Int32} (hf : fF_manyBogs (cfe w)  = some r) (hR : 1 + 1 ≤ R.frames ∧ 45 ≤ R.locals) (hcs : cells ≤ R.cells ∧ slots ≤ R.slots) (hl : ls.size = nL) (hcat : (st.map fun v => v.category).sum ≤ 8) (hdg : decode cc pc = .ok (.invokevirtual 379, 3)) (kk : W p l e R s m args below meth c H locs cells slots Q (F0 m (pc + 3) ls (.int r :: st))) : W p l e R s m args below meth c H locs cells slots Q (F0 m pc ls (.ref (fa 0) :: st)) :=
  w_afterR (w_rV_RO (ws := FP X fa (cfe w) ++ (CPr X ca fa w ++ rest)) (As := []) B hK hS hP (tF_manyBogs l X fa (CPr X ca fa w ++ rest) (cfe w)  r hf) (lw_V q1375 q1376 q1377 q88 q1378) 0 rfl rfl (n := 0) (by decide +kernel) hR hcs rfl hl rfl hcat hdg) kk
end K_cCF_manyBogs

section K_cC_shelved
variable {p : Program} {l : Launch} {e : Env} {R : Room} {s : State} {m : MethodId} {args : Array Value} {below : List Frame} {meth : Method} {c : Code} {H : Heap} {locs : List Loc} {cells slots : Nat} {Q : State → Prop} {cc : ByteArray} {nL pc : Nat} {ls : Array Slot} {st : List Value} {X : CX} {rest : va_W} {ca fa : Nat → Nat}
theorem cC_shelved (B : CallFix p m c cc nL s args lw_all RX0) (hK : KK X s) (hS : va_S (Az X) s.heap H locs) {w : CW} (hP : va_P X.2.2.1 vwCl (CP X ca fa w ++ rest) H)  {r : Int32} (hf : fC_shelved w  = some r) (hR : 0 + 1 ≤ R.frames ∧ 22 ≤ R.locals) (hcs : cells ≤ R.cells ∧ slots ≤ R.slots) (hl : ls.size = nL) (hcat : (st.map fun v => v.category).sum ≤ 8) (hdg : decode cc pc = .ok (.invokevirtual 382, 3)) (kk : W p l e R s m args below meth c H locs cells slots Q (F0 m (pc + 3) ls (.int r :: st))) : W p l e R s m args below meth c H locs cells slots Q (F0 m pc ls (.ref (ca 0) :: st)) :=
  w_afterR (w_rV_RO (ws := CP X ca fa w ++ rest) (As := []) B hK hS hP (tC_shelved l X ca fa rest w  r hf) (lw_V q1380 q1382 qs34 q87 q1383) 8 rfl rfl (n := 0) (by decide +kernel) hR hcs rfl hl rfl hcat hdg) kk
end K_cC_shelved

section S_C_status
variable {p : Program} {l : Launch} {e : Env} {R : Room} {s : State} {m : MethodId} {args : Array Value} {below : List Frame} {meth : Method} {c : Code} {H : Heap} {locs : List Loc} {cells slots : Nat} {Q : State → Prop} {cc : ByteArray} {nL pc : Nat} {ls : Array Slot} {st : List Value} {X : CX} {rest : va_W} {ca fa : Nat → Nat}
noncomputable def fC_status (w : CW) (x1 : Int32) : Option (Int32 × CW) :=
  (fC_isIn x1 12 16).bind fun r_1 =>
  if r_1 = 0 then
    if x1 = 0 then
      some (((cfe w).1 8), w)
    else
      if x1 = 1 then
        some (((cfe w).1 6), w)
      else
        if x1 = 2 then
          some (((cfe w).1 7), w)
        else
          if x1 = 3 then
            some (((cfe w).1 9), w)
          else
            if x1 = 4 then
              b2 (fC_manyLost w ) fun r_13 f_10 =>
              (some (f_10)).bind fun w_11 =>
              some (r_13, w_11)
            else
              if x1 = 5 then
                (fF_manyBogs (cfe w) ).bind fun r_15 =>
                some (r_15, w)
              else
                if x1 = 6 then
                  some ((w.1 6), w)
                else
                  if x1 = 7 then
                    some (((cfe w).1 10), w)
                  else
                    if x1 = 8 then
                      (fC_shelved w ).bind fun r_20 =>
                      some (r_20, w)
                    else
                      some ((-1), w)
  else
    (rd (w.2.1 7) 7 (x1 - 10)).bind fun v_22 =>
    some (v_22, w)

set_option maxHeartbeats 4000000 in
theorem wC_status (B : CallFix p m c cX0_status 2 s args lw_all RX0) (hK : KK X s) {w : CW} {x1 : Int32} {res : Int32 × CW} (hf : fC_status w x1 = some res) (kr : ∀ (r : Int32) (w1 : CW), res = (r, w1) → ∀ (H : Heap) (locs : List Loc), GG X (CP X ca fa w1 ++ rest) s.heap H locs → ∀ (pc : Nat) (ls : Array Slot), decode cX0_status pc = .ok (.ireturn, 1) → W p l e (RMw 3 0 0 62) s m args below meth c H locs 0 0 Q (F0 m pc ls [.int r])) {H : Heap} {locs : List Loc} (hG : GG X (CP X ca fa w ++ rest) s.heap H locs) {ls : Array Slot} (hl : lv_has ls 2 [(0, .ref (ca 0)), (1, .int x1)]) : W p l e (RMw 3 0 0 62) s m args below meth c H locs 0 0 Q (F0 m 0 ls []) := by
  have hx := B.1
  have hb := B.2.1
  unfold fC_status at hf
  refine lv_iload_n hx hb dX0_status_0 rfl (lv_at hl 1 rfl) ?_
  refine lv_bipush (v := 12) hx hb dX0_status_1 (by decide) ?_
  refine lv_bipush (v := 16) hx hb dX0_status_3 (by decide) ?_
  obtain ⟨r_1, e_2, hf⟩ := bo hf
  refine cC_isIn B e_2 ⟨Nat.le_of_ble_eq_true rfl, Nat.le_of_ble_eq_true rfl⟩ ⟨Nat.zero_le _, Nat.zero_le _⟩ hl.1 (Nat.le_of_ble_eq_true rfl) dX0_status_5 ?_
  refine lv_if_eq (tgt := 21) hx hb dX0_status_8 (by decide) (fun c_3 => ?_) (fun c_3 => ?_)
  · have hf := ifp c_3 hf
    refine lv_iload_n hx hb dX0_status_21 rfl (lv_at hl 1 rfl) ?_
    by_cases c_4 : x1 = 0
    · have hf := ifp c_4 hf
      refine w_tab (tgt := 72) 0 c_4 hx hb dX0_status_22 (by decide) (by decide) rfl (by decide) ?_
      refine lv_aload_n hx hb dX0_status_72 rfl (lv_at hl 0 rfl) ?_
      refine co_this_g0 B hK hG.1 dX0_status_73 ?_
      refine co_fen_g8 B hK hG.1 dX0_status_76 ?_
      exact kr _ _ (Option.some.inj hf).symm _ _ hG _ _ dX0_status_79
    · have hf := ifn c_4 hf
      by_cases c_5 : x1 = 1
      · have hf := ifp c_5 hf
        refine w_tab (tgt := 80) 1 c_5 hx hb dX0_status_22 (by decide) (by decide) rfl (by decide) ?_
        refine lv_aload_n hx hb dX0_status_80 rfl (lv_at hl 0 rfl) ?_
        refine co_this_g0 B hK hG.1 dX0_status_81 ?_
        refine co_fen_g6 B hK hG.1 dX0_status_84 ?_
        exact kr _ _ (Option.some.inj hf).symm _ _ hG _ _ dX0_status_87
      · have hf := ifn c_5 hf
        by_cases c_6 : x1 = 2
        · have hf := ifp c_6 hf
          refine w_tab (tgt := 88) 2 c_6 hx hb dX0_status_22 (by decide) (by decide) rfl (by decide) ?_
          refine lv_aload_n hx hb dX0_status_88 rfl (lv_at hl 0 rfl) ?_
          refine co_this_g0 B hK hG.1 dX0_status_89 ?_
          refine co_fen_g7 B hK hG.1 dX0_status_92 ?_
          exact kr _ _ (Option.some.inj hf).symm _ _ hG _ _ dX0_status_95
        · have hf := ifn c_6 hf
          by_cases c_7 : x1 = 3
          · have hf := ifp c_7 hf
            refine w_tab (tgt := 96) 3 c_7 hx hb dX0_status_22 (by decide) (by decide) rfl (by decide) ?_
            refine lv_aload_n hx hb dX0_status_96 rfl (lv_at hl 0 rfl) ?_
            refine co_this_g0 B hK hG.1 dX0_status_97 ?_
            refine co_fen_g9 B hK hG.1 dX0_status_100 ?_
            exact kr _ _ (Option.some.inj hf).symm _ _ hG _ _ dX0_status_103
          · have hf := ifn c_7 hf
            by_cases c_8 : x1 = 4
            · have hf := ifp c_8 hf
              refine w_tab (tgt := 104) 4 c_8 hx hb dX0_status_22 (by decide) (by decide) rfl (by decide) ?_
              refine lv_aload_n hx hb dX0_status_104 rfl (lv_at hl 0 rfl) ?_
              obtain ⟨r_13, f_10, e_9, hf⟩ := b2s hf
              obtain ⟨w_11, e_12, hf⟩ := bo hf
              refine cC_manyLost B hK hG e_9 e_12 ⟨Nat.le_of_ble_eq_true rfl, Nat.le_of_ble_eq_true rfl⟩ ⟨Nat.zero_le _, Nat.zero_le _⟩ hl.1 (Nat.le_of_ble_eq_true rfl) dX0_status_105 (fun H locs hG => ?_)
              exact kr _ _ (Option.some.inj hf).symm _ _ hG _ _ dX0_status_108
            · have hf := ifn c_8 hf
              by_cases c_14 : x1 = 5
              · have hf := ifp c_14 hf
                refine w_tab (tgt := 109) 5 c_14 hx hb dX0_status_22 (by decide) (by decide) rfl (by decide) ?_
                refine lv_aload_n hx hb dX0_status_109 rfl (lv_at hl 0 rfl) ?_
                refine co_this_g0 B hK hG.1 dX0_status_110 ?_
                obtain ⟨r_15, e_16, hf⟩ := bo hf
                refine cCF_manyBogs B hK hG.2.2 hG.1 e_16 ⟨Nat.le_of_ble_eq_true rfl, Nat.le_of_ble_eq_true rfl⟩ ⟨Nat.zero_le _, Nat.zero_le _⟩ hl.1 (Nat.le_of_ble_eq_true rfl) dX0_status_113 ?_
                exact kr _ _ (Option.some.inj hf).symm _ _ hG _ _ dX0_status_116
              · have hf := ifn c_14 hf
                by_cases c_17 : x1 = 6
                · have hf := ifp c_17 hf
                  refine w_tab (tgt := 117) 6 c_17 hx hb dX0_status_22 (by decide) (by decide) rfl (by decide) ?_
                  refine lv_aload_n hx hb dX0_status_117 rfl (lv_at hl 0 rfl) ?_
                  refine co_this_g6 B hK hG.1 dX0_status_118 ?_
                  exact kr _ _ (Option.some.inj hf).symm _ _ hG _ _ dX0_status_121
                · have hf := ifn c_17 hf
                  by_cases c_18 : x1 = 7
                  · have hf := ifp c_18 hf
                    refine w_tab (tgt := 122) 7 c_18 hx hb dX0_status_22 (by decide) (by decide) rfl (by decide) ?_
                    refine lv_aload_n hx hb dX0_status_122 rfl (lv_at hl 0 rfl) ?_
                    refine co_this_g0 B hK hG.1 dX0_status_123 ?_
                    refine co_fen_g10 B hK hG.1 dX0_status_126 ?_
                    exact kr _ _ (Option.some.inj hf).symm _ _ hG _ _ dX0_status_129
                  · have hf := ifn c_18 hf
                    by_cases c_19 : x1 = 8
                    · have hf := ifp c_19 hf
                      refine w_tab (tgt := 130) 8 c_19 hx hb dX0_status_22 (by decide) (by decide) rfl (by decide) ?_
                      refine lv_aload_n hx hb dX0_status_130 rfl (lv_at hl 0 rfl) ?_
                      obtain ⟨r_20, e_21, hf⟩ := bo hf
                      refine cC_shelved B hK hG.2.2 hG.1 e_21 ⟨Nat.le_of_ble_eq_true rfl, Nat.le_of_ble_eq_true rfl⟩ ⟨Nat.zero_le _, Nat.zero_le _⟩ hl.1 (Nat.le_of_ble_eq_true rfl) dX0_status_131 ?_
                      exact kr _ _ (Option.some.inj hf).symm _ _ hG _ _ dX0_status_134
                    · have hf := ifn c_19 hf
                      refine lv_tableOut (tgt := 135) hx hb dX0_status_22 (by have := lv_neT c_4 (a := 0) rfl; have := lv_neT c_5 (a := 1) rfl; have := lv_neT c_6 (a := 2) rfl; have := lv_neT c_7 (a := 3) rfl; have := lv_neT c_8 (a := 4) rfl; have := lv_neT c_14 (a := 5) rfl; have := lv_neT c_17 (a := 6) rfl; have := lv_neT c_18 (a := 7) rfl; have := lv_neT c_19 (a := 8) rfl; omega) (by decide) ?_
                      refine lv_iconst (v := (-1)) hx hb dX0_status_135 (by decide) ?_
                      exact kr _ _ (Option.some.inj hf).symm _ _ hG _ _ dX0_status_136
  · have hf := ifn c_3 hf
    refine lv_aload_n hx hb dX0_status_11 rfl (lv_at hl 0 rfl) ?_
    refine co_this_g7 B hK hG.1 dX0_status_12 ?_
    refine lv_iload_n hx hb dX0_status_15 rfl (lv_at hl 1 rfl) ?_
    refine lv_bipush (v := 10) hx hb dX0_status_16 (by decide) ?_
    refine lv_isub hx hb dX0_status_18 ?_
    obtain ⟨v_22, e_23, hf⟩ := bo hf
    refine co_refused_l B hK hG.1 e_23 dX0_status_19 ?_
    exact kr _ _ (Option.some.inj hf).symm _ _ hG _ _ dX0_status_20

theorem tC_status (l : Launch) (X : CX) (ca fa : Nat → Nat) (rest : va_W) (w w' : CW) (x1 : Int32) (r : Int32) (hf : fC_status w x1 = some (r, w')) : RW l yX0_status cX0_status 2 (some .int) 3 0 0 62 [.ref (ca 0), .int x1] X (CP X ca fa w ++ rest) (CP X ca fa (w') ++ rest) (some (.int r)) := by
  refine RW.mk (by decide) (Nat.le_of_ble_eq_true rfl) ?_
  intro p e s m below meth c B hr hlk hK hG ls hl
  exact wC_status B hK hf (fun r w h H locs hG pc ls hd => by cases h; exact w_iretW B hr hlk hG hd) hG hl
end S_C_status
