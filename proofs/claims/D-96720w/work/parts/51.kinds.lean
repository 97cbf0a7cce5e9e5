set_option maxRecDepth 100000
/-! kinds: of each kind a post is made, asked, and forgotten -/
theorem fArm_ad (q : Nat) (k : Fin 6) (n a z : Int32) (w : LW) : fArm (q, k, n, a, z) w = fArm (0, k, n, a, z) w := by
  match k with
  | 0 => rfl
  | 1 => rfl
  | 2 => rfl
  | 3 => rfl
  | 4 => rfl
  | 5 => rfl
def cpo (c : CW) (L : List PV) : CW := (c.1, c.2.1, c.2.2.1, c.2.2.2.1, L, c.2.2.2.2.2.1, c.2.2.2.2.2.2)
theorem GG.unpool {X : CX} {ca fa : Nat → Nat} {w : CW} {P : PV} {rest : va_W} {H0 H : Heap} {locs : List Loc} (h : GG X (CP X ca fa (cpo w (P :: cpl w)) ++ rest) H0 H locs) : GG X (CP X ca fa w ++ rest) H0 H locs := by
  refine h.sublist ?_
  refine List.Sublist.append (List.Sublist.append (List.Sublist.refl _) (List.Sublist.append (List.Sublist.refl _) ?_)) (List.Sublist.refl _)
  exact List.Sublist.append (List.sublist_cons_self _ _) (List.Sublist.refl _)
noncomputable def fC_kinds_L45 (w : CW) (x1 x2 : Int32) (x3 : PV) (x4 x5 : Int32) : Option ((Int32 × Int32 × CW) ⊕ (Int32 × CW)) :=
  if 6 ≤ x5 then some (.inr (x4, w)) else
  (inL (cpl w) x3).bind fun _ =>
  (fF_lost (cfe w)).bind fun f1 =>
  (fArm (0, fMk x5, x1, x3.2.2.2.1, x3.2.2.2.2) (lwN f1)).bind fun r =>
  if r = x2 then some (.inl (x4 ||| ishl 1 x5, x5 + 1, cnf w f1)) else some (.inl (x4 ||| 0, x5 + 1, cnf w f1))
noncomputable def fC_kinds (w : CW) (x1 x2 : Int32) : Option (Int32 × CW) :=
  (fF_isPost (cfe w) x1.toInt64).bind fun a => if a = 0 then fC_no w (-2) else
  (fC_isIn x2 (-1) 8).bind fun b => if b = 0 then fC_no w (-2) else
  (rdP (cfe w).2.2 8 x1).bind fun x3 => lp (fun q : Int32 × Int32 × CW => fC_kinds_L45 q.2.2 x1 x2 x3 q.1 q.2.1) (0, 0, w)
section KI
variable {p : Program} {l : Launch} {e : Env} {s : State} {m : MethodId} {args : Array Value} {below : List Frame} {meth : Method} {c : Code} {Q : State → Prop} {X : CX} {rest : va_W} {ca fa : Nat → Nat}
set_option maxHeartbeats 4000000 in
theorem vC_kinds_L45 (B : CallFix p m c cX0_kinds 6 s args lw_all RX0) (hK : KK X s) {x1 x2 : Int32} {x3 : PV} {res : Int32 × CW} {q0 : Int32 × Int32 × CW} (hf : lp (fun q : Int32 × Int32 × CW => fC_kinds_L45 q.2.2 x1 x2 x3 q.1 q.2.1) q0 = some res)
    (ke : ∀ (n : Nat) (H : Heap) (locs : List Loc) (ls : Array Slot), n ≤ 6 → GG X (CP X ca fa res.2 ++ rest) s.heap H locs → lv_has ls 6 [(4, .int res.1)] → W p l e (RMw 7 6 18 200) s m args below meth c H locs n (3 * n) Q (F0 m 93 ls [])) :
    ∀ (n : Nat) (H : Heap) (locs : List Loc) (ls : Array Slot), n ≤ 6 → q0.2.1 = nI n → GG X (CP X ca fa q0.2.2 ++ rest) s.heap H locs → lv_has ls 6 [(0, .ref (ca 0)), (1, .int x1), (2, .int x2), (3, .ref x3.1), (4, .int q0.1), (5, .int q0.2.1)] → W p l e (RMw 7 6 18 200) s m args below meth c H locs n (3 * n) Q (F0 m 45 ls []) := by
  have hx := B.1
  have hb := B.2.1
  refine lp_ind (r := res) (P := fun q : Int32 × Int32 × CW => ∀ (n : Nat) (H : Heap) (locs : List Loc) (ls : Array Slot), n ≤ 6 → q.2.1 = nI n → GG X (CP X ca fa q.2.2 ++ rest) s.heap H locs → lv_has ls 6 [(0, .ref (ca 0)), (1, .int x1), (2, .int x2), (3, .ref x3.1), (4, .int q.1), (5, .int q.2.1)] → W p l e (RMw 7 6 18 200) s m args below meth c H locs n (3 * n) Q (F0 m 45 ls [])) ?_ ?_ _ hf
  · rintro ⟨x4, x5, w⟩ hb2 n H locs ls hn hx5 hG hl
    have hb2 : fC_kinds_L45 w x1 x2 x3 x4 x5 = some (.inr res) := hb2
    unfold fC_kinds_L45 at hb2
    refine lv_iload hx hb dX0_kinds_45 (lv_at hl 5 rfl) ?_
    refine lv_bipush (v := 6) hx hb dX0_kinds_47 (by decide) ?_
    refine lv_icmp_ge (tgt := 93) hx hb dX0_kinds_49 (by decide) (fun c1 => ?_) (fun c1 => ?_)
    · have hb2 := ifp c1 hb2
      cases hb2
      exact ke n _ _ _ hn hG (lv_sub hl [4] rfl)
    · have hb2 := ifn c1 hb2
      obtain ⟨u, e1, hb2⟩ := bo hb2
      obtain ⟨f1, e2, hb2⟩ := bo hb2
      obtain ⟨r, e3, hb2⟩ := bo hb2
      by_cases c2 : r = x2
      · have hb2 := ifp c2 hb2; cases hb2
      · have hb2 := ifn c2 hb2; cases hb2
  · rintro ⟨x4, x5, w⟩ q2 hb2 ih n H locs ls hn hx5 hG hl
    have hb2 : fC_kinds_L45 w x1 x2 x3 x4 x5 = some (.inl q2) := hb2
    have hx5 : x5 = nI n := hx5
    unfold fC_kinds_L45 at hb2
    refine lv_iload hx hb dX0_kinds_45 (lv_at hl 5 rfl) ?_
    refine lv_bipush (v := 6) hx hb dX0_kinds_47 (by decide) ?_
    refine lv_icmp_ge (tgt := 93) hx hb dX0_kinds_49 (by decide) (fun c1 => ?_) (fun c1 => ?_)
    · have hb2 := ifp c1 hb2
      cases hb2
    have hb2 := ifn c1 hb2
    have hn6 : n < 6 := by
      rcases Nat.lt_or_ge n 6 with h | h
      · exact h
      · exact absurd (by show (6 : Int32) ≤ x5; rw [hx5]; exact nI_le (a := 6) h (by omega)) c1
    obtain ⟨u, e1, hb2⟩ := bo hb2
    obtain ⟨f1, e2, hb2⟩ := bo hb2
    obtain ⟨r, e3, hb2⟩ := bo hb2
    refine lv_iload hx hb dX0_kinds_52 (lv_at hl 4 rfl) ?_
    refine lv_aload_n hx hb dX0_kinds_54 rfl (lv_at hl 0 rfl) ?_
    refine lv_iload hx hb dX0_kinds_55 (lv_at hl 5 rfl) ?_
    refine lv_iload_n hx hb dX0_kinds_57 rfl (lv_at hl 1 rfl) ?_
    refine lv_aload_n hx hb dX0_kinds_58 rfl (lv_at hl 3 rfl) ?_
    refine po_C1 B hK (cp_P (inL_in e1) hG.1) dX0_kinds_59 ?_
    refine lv_aload_n hx hb dX0_kinds_62 rfl (lv_at hl 3 rfl) ?_
    refine po_C2 B hK (cp_P (inL_in e1) hG.1) dX0_kinds_63 ?_
    refine w_afterX (w_rS_RX (ws := CP X ca fa w ++ rest) (As := [.int x5, .int x1, .int x3.2.2.2.1, .int x3.2.2.2.2]) B hK hG (tC_made l X x5 x1 x3.2.2.2.1 x3.2.2.2.2 (CP X ca fa w ++ rest)) (lw_S q1242 q610 q87 q611) (n := 4) (by decide +kernel) ⟨Nat.le_of_ble_eq_true rfl, Nat.le_of_ble_eq_true rfl⟩ ⟨by show n + 1 ≤ 6; omega, by show 3 * n + 3 ≤ 18; omega⟩ rfl hl.1 rfl (Nat.le_of_ble_eq_true rfl) dX0_kinds_66) hG.2.2 (fun v u2 H locs hv hG2 => ?_)
    obtain ⟨q, k⟩ := u2
    obtain ⟨rfl, rfl⟩ := hv
    refine W.eq (g2 := F0 m 69 ls [.ref q, .ref (ca 0), .int x4]) rfl ?_
    have hG3 : GG X (CP X ca fa (cpo w ((q, fMk x5, x1, x3.2.2.2.1, x3.2.2.2.2) :: cpl w)) ++ rest) s.heap H locs := by
      have e0 : CP X ca fa w ++ rest = FP X fa (cfe w) ++ (CPr X ca fa w ++ rest) := List.append_assoc _ _ _
      have g1 : GG X (PC (q, fMk x5, x1, x3.2.2.2.1, x3.2.2.2.2) :: (CP X ca fa w ++ rest)) s.heap H locs := hG2
      rw [e0] at g1
      exact GG.pool (g1.perm List.perm_middle.symm)
    have ha : fC_armOf (cpo w ((q, fMk x5, x1, x3.2.2.2.1, x3.2.2.2.2) :: cpl w)) (q, fMk x5, x1, x3.2.2.2.1, x3.2.2.2.2) = some (r, cnf (cpo w ((q, fMk x5, x1, x3.2.2.2.1, x3.2.2.2.2) :: cpl w)) f1) := by
      unfold fC_armOf
      have e2' : fF_lost (cfe (cpo w ((q, fMk x5, x1, x3.2.2.2.1, x3.2.2.2.2) :: cpl w))) = some f1 := e2
      rw [e2', Option.bind_some, Option.bind_some]
      have hin : inL (cpl (cnf (cpo w ((q, fMk x5, x1, x3.2.2.2.1, x3.2.2.2.2) :: cpl w)) f1)) (q, fMk x5, x1, x3.2.2.2.1, x3.2.2.2.2) = some () := by
        unfold inL
        rw [if_pos]
        exact List.mem_cons_self
      rw [hin, Option.bind_some]
      have e3' : fArm (q, fMk x5, x1, x3.2.2.2.1, x3.2.2.2.2) (lwN (cfe (cnf (cpo w ((q, fMk x5, x1, x3.2.2.2.1, x3.2.2.2.2) :: cpl w)) f1))) = some r := by rw [fArm_ad]; exact e3
      rw [e3']
      rfl
    refine cC_armOf (x1 := (q, fMk x5, x1, x3.2.2.2.1, x3.2.2.2.2)) B hK hG3 ha rfl ⟨Nat.le_of_ble_eq_true rfl, Nat.le_of_ble_eq_true rfl⟩ ⟨by show n + 1 ≤ 6; omega, by show 3 * n + 3 ≤ 18; omega⟩ hl.1 (Nat.le_of_ble_eq_true rfl) dX0_kinds_69 (fun H locs hG => ?_)
    have hG : GG X (CP X ca fa (cnf w f1) ++ rest) s.heap H locs := GG.unpool (P := (q, fMk x5, x1, x3.2.2.2.1, x3.2.2.2.2)) (w := cnf w f1) hG
    refine W.widen (k := n + 1) (n := 3 * (n + 1)) (Nat.le_refl _) (by omega) ?_
    refine lv_iload_n hx hb dX0_kinds_72 rfl (lv_at hl 2 rfl) ?_
    refine lv_icmp_ne (tgt := 83) hx hb dX0_kinds_73 (by decide) (fun c2 => ?_) (fun c2 => ?_)
    · have hb2 := ifn c2 hb2
      cases hb2
      refine lv_iconst (v := 0) hx hb dX0_kinds_83 (by decide) ?_
      refine lv_ior hx hb dX0_kinds_84 ?_
      refine lv_istore (lv' := [(4, .int (x4 ||| 0)), (0, .ref (ca 0)), (1, .int x1), (2, .int x2), (3, .ref x3.1), (5, .int x5)]) hx hb dX0_kinds_85 hl (by decide) rfl (fun ls hl => ?_)
      refine lv_iinc (k := 5) (v := x5 + 1) (lv' := [(5, .int (x5 + 1)), (4, .int (x4 ||| 0)), (0, .ref (ca 0)), (1, .int x1), (2, .int x2), (3, .ref x3.1)]) hx hb dX0_kinds_87 hl rfl rfl (by decide) rfl (fun ls hl => ?_)
      refine lv_goto (tgt := 45) hx hb dX0_kinds_90 (by decide) ?_
      exact ih (n + 1) _ _ _ (by omega) (by show x5 + 1 = nI (n + 1); rw [hx5]; exact nI_1 n) hG (lv_sub hl [2, 3, 4, 5, 1, 0] rfl)
    · have hb2 := ifp c2 hb2
      cases hb2
      refine lv_iconst (v := 1) hx hb dX0_kinds_76 (by decide) ?_
      refine lv_iload hx hb dX0_kinds_77 (lv_at hl 5 rfl) ?_
      refine w_ishl hx hb dX0_kinds_79 ?_
      refine lv_goto (tgt := 84) hx hb dX0_kinds_80 (by decide) ?_
      refine lv_ior hx hb dX0_kinds_84 ?_
      refine lv_istore (lv' := [(4, .int (x4 ||| ishl 1 x5)), (0, .ref (ca 0)), (1, .int x1), (2, .int x2), (3, .ref x3.1), (5, .int x5)]) hx hb dX0_kinds_85 hl (by decide) rfl (fun ls hl => ?_)
      refine lv_iinc (k := 5) (v := x5 + 1) (lv' := [(5, .int (x5 + 1)), (4, .int (x4 ||| ishl 1 x5)), (0, .ref (ca 0)), (1, .int x1), (2, .int x2), (3, .ref x3.1)]) hx hb dX0_kinds_87 hl rfl rfl (by decide) rfl (fun ls hl => ?_)
      refine lv_goto (tgt := 45) hx hb dX0_kinds_90 (by decide) ?_
      exact ih (n + 1) _ _ _ (by omega) (by show x5 + 1 = nI (n + 1); rw [hx5]; exact nI_1 n) hG (lv_sub hl [2, 3, 4, 5, 1, 0] rfl)
end KI
set_option maxHeartbeats 4000000 in
theorem tC_kinds (l : Launch) (X : CX) (ca fa : Nat → Nat) (rest : va_W) (w w' : CW) (x1 x2 r : Int32) (hf : fC_kinds w x1 x2 = some (r, w')) : RW l yX0_kinds cX0_kinds 6 (some .int) 7 6 18 200 [.ref (ca 0), .int x1, .int x2] X (CP X ca fa w ++ rest) (CP X ca fa w' ++ rest) (some (.int r)) := by
  refine RW.mk (by decide) (Nat.le_of_ble_eq_true rfl) ?_
  intro p e s m below meth c B hr hlk hK hG ls hl
  have hl : lv_has ls 6 [(0, .ref (ca 0)), (1, .int x1), (2, .int x2)] := hl
  have hx := B.1
  have hb := B.2.1
  have bad : fC_no w (-2) = some (r, w') → W p l e (RMw 7 6 18 200) s m ([.ref (ca 0), .int x1, .int x2] : List Value).toArray below meth c s.heap [] 0 0 (MQ below (QW X (CP X ca fa w' ++ rest) (some (.int r))) ([.ref (ca 0), .int x1, .int x2] : List Value).toArray s 6 18 (Az X)) (F0 m 22 ls []) := by
    intro e1
    refine lv_aload_n hx hb dX0_kinds_22 rfl (lv_at hl 0 rfl) ?_
    refine lv_bipush (v := (-2)) hx hb dX0_kinds_23 (by decide) ?_
    refine cC_no B hK hG e1 rfl ⟨Nat.le_of_ble_eq_true rfl, Nat.le_of_ble_eq_true rfl⟩ ⟨Nat.zero_le _, Nat.zero_le _⟩ hl.1 (Nat.le_of_ble_eq_true rfl) dX0_kinds_25 (fun H locs hG => ?_)
    refine W.widen (k := 6) (n := 18) (Nat.zero_le _) (Nat.zero_le _) ?_
    exact w_iretW B hr hlk hG dX0_kinds_28
  unfold fC_kinds at hf
  refine lv_aload_n hx hb dX0_kinds_0 rfl (lv_at hl 0 rfl) ?_
  refine co_this_g0 B hK hG.1 dX0_kinds_1 ?_
  refine lv_iload_n hx hb dX0_kinds_4 rfl (lv_at hl 1 rfl) ?_
  refine lv_i2l hx hb dX0_kinds_5 rfl ?_
  obtain ⟨r_1, e_1, hf⟩ := bo hf
  refine cCF_isPost B hK hG.2.2 hG.1 e_1 ⟨Nat.le_of_ble_eq_true rfl, Nat.le_of_ble_eq_true rfl⟩ ⟨Nat.zero_le _, Nat.zero_le _⟩ hl.1 (Nat.le_of_ble_eq_true rfl) dX0_kinds_6 ?_
  refine lv_if_eq (tgt := 22) hx hb dX0_kinds_9 (by decide) (fun c1 => ?_) (fun c1 => ?_)
  · exact bad (ifp c1 hf)
  have hf := ifn c1 hf
  refine lv_iload_n hx hb dX0_kinds_12 rfl (lv_at hl 2 rfl) ?_
  refine lv_iconst (v := (-1)) hx hb dX0_kinds_13 (by decide) ?_
  refine lv_bipush (v := 8) hx hb dX0_kinds_14 (by decide) ?_
  obtain ⟨r_2, e_2, hf⟩ := bo hf
  refine cC_isIn B e_2 ⟨Nat.le_of_ble_eq_true rfl, Nat.le_of_ble_eq_true rfl⟩ ⟨Nat.zero_le _, Nat.zero_le _⟩ hl.1 (Nat.le_of_ble_eq_true rfl) dX0_kinds_16 ?_
  refine lv_if_ne (tgt := 29) hx hb dX0_kinds_19 (by decide) (fun c1 => ?_) (fun c1 => ?_)
  rotate_left
  · exact bad (ifp c1 hf)
  have hf := ifn c1 hf
  obtain ⟨x3, e_3, hf⟩ := bo hf
  refine lv_aload_n hx hb dX0_kinds_29 rfl (lv_at hl 0 rfl) ?_
  refine co_this_g0 B hK hG.1 dX0_kinds_30 ?_
  refine co_fen_g1 B hK hG.1 dX0_kinds_33 ?_
  refine lv_iload_n hx hb dX0_kinds_36 rfl (lv_at hl 1 rfl) ?_
  refine co_post_l B hK hG.1 e_3 dX0_kinds_37 ?_
  refine lv_astore_n (lv' := [(3, .ref x3.1), (0, .ref (ca 0)), (1, .int x1), (2, .int x2)]) hx hb dX0_kinds_38 rfl hl (by decide) rfl (fun ls hl => ?_)
  refine lv_iconst (v := 0) hx hb dX0_kinds_39 (by decide) ?_
  refine lv_istore (lv' := [(4, .int 0), (3, .ref x3.1), (0, .ref (ca 0)), (1, .int x1), (2, .int x2)]) hx hb dX0_kinds_40 hl (by decide) rfl (fun ls hl => ?_)
  refine lv_iconst (v := 0) hx hb dX0_kinds_42 (by decide) ?_
  refine lv_istore (lv' := [(5, .int 0), (4, .int 0), (3, .ref x3.1), (0, .ref (ca 0)), (1, .int x1), (2, .int x2)]) hx hb dX0_kinds_43 hl (by decide) rfl (fun ls hl => ?_)
  refine vC_kinds_L45 B hK hf (fun n H locs ls hn hG hl => ?_) 0 _ _ _ (by omega) nI_0.symm hG (lv_sub hl [3, 4, 5, 2, 1, 0] rfl)
  refine lv_iload hx hb dX0_kinds_93 (lv_at hl 0 rfl) ?_
  refine W.widen (k := 6) (n := 18) hn (by omega) ?_
  exact w_iretW B hr hlk hG dX0_kinds_95
