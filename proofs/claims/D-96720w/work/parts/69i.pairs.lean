set_option maxRecDepth 100000
/-! pairs and walks told in a row -/
noncomputable def fC_pairsIn_L13 (w : CW) (pr : Nat × Nat × (Nat → Int64)) (x5 : Int32) : Option (Int32 ⊕ Bool) :=
  if nI pr.2.1 ≤ x5 then some (.inr true) else
  (rd pr.2.2 pr.2.1 x5).bind fun v => (fF_isPost (cfe w) v).bind fun a => if a = 0 then some (.inr false) else
  (rd pr.2.2 pr.2.1 (x5 + 1)).bind fun v1 => if lg_cmp v1 (-1) < 0 then some (.inr false) else
  if lg_cmp v1 8 ≤ 0 then some (.inl (x5 + 2)) else some (.inr false)
noncomputable def fC_pairsIn (w : CW) (x1 x2 x3 : Int32) : Option (Int32 ⊕ (Nat × (Nat → Int64))) :=
  (fC_toldIn w x1 x2 x3 2).bind fun q => match q with
    | .inl b => some (.inl b)
    | .inr u => (lp (fC_pairsIn_L13 w (0, u)) 0).bind fun ok => if ok = true then some (.inr u) else some (.inl (-5))
noncomputable def fC_walkIn (w : CW) (x1 x2 x3 : Int32) : Option (Int32 ⊕ (Nat × (Nat → Int64))) :=
  (fF_isWalker (cfe w) x3).bind fun a => (fC_toldIn w a x1 x2 1).bind fun q => match q with
    | .inl b => some (.inl b)
    | .inr u => (fC_wrongIn (0, u) w x3).bind fun k => if k = -1 then some (.inr u) else some (.inl (-5))
section PAIRS
variable {p : Program} {l : Launch} {e : Env} {R : Room} {s : State} {m : MethodId} {args : Array Value} {below : List Frame} {meth : Method} {c : Code} {H : Heap} {locs : List Loc} {cells slots : Nat} {Q : State → Prop} {X : CX} {rest : va_W} {ca fa : Nat → Nat}
set_option maxHeartbeats 4000000 in
theorem vC_pairsIn_L13 (B : CallFix p m c cX0_pairsIn 6 s args lw_all RX0) (hK : KK X s) {w : CW} {pr : Nat × Nat × (Nat → Int64)} {H : Heap} {locs : List Loc} (hG : GG X (CP X ca fa w ++ (LC X pr :: rest)) s.heap H locs) (hR : 1 ≤ R.frames ∧ 22 ≤ R.locals) (hcs : cells ≤ R.cells ∧ slots ≤ R.slots) {ok : Bool} {x5 : Int32} (hf : lp (fC_pairsIn_L13 w pr) x5 = some ok)
    (k80 : ok = true → ∀ ls : Array Slot, lv_has ls 6 [(0, .ref (ca 0)), (4, .ref pr.1)] → W p l e R s m args below meth c H locs cells slots Q (F0 m 80 ls []))
    (k64 : ok = false → ∀ ls : Array Slot, lv_has ls 6 [(0, .ref (ca 0)), (4, .ref pr.1)] → W p l e R s m args below meth c H locs cells slots Q (F0 m 64 ls [])) {ls : Array Slot} (hl : lv_has ls 6 [(5, .int x5), (0, .ref (ca 0)), (4, .ref pr.1)]) : W p l e R s m args below meth c H locs cells slots Q (F0 m 13 ls []) := by
  have hx := B.1
  have hb := B.2.1
  have step : ∀ (x5 : Int32) (res : Int32 ⊕ Bool), fC_pairsIn_L13 w pr x5 = some res → (∀ y, res = .inl y → ∀ ls : Array Slot, lv_has ls 6 [(5, .int y), (0, .ref (ca 0)), (4, .ref pr.1)] → W p l e R s m args below meth c H locs cells slots Q (F0 m 13 ls [])) →
      (res = .inr true → ∀ ls : Array Slot, lv_has ls 6 [(0, .ref (ca 0)), (4, .ref pr.1)] → W p l e R s m args below meth c H locs cells slots Q (F0 m 80 ls [])) → (res = .inr false → ∀ ls : Array Slot, lv_has ls 6 [(0, .ref (ca 0)), (4, .ref pr.1)] → W p l e R s m args below meth c H locs cells slots Q (F0 m 64 ls [])) →
      ∀ ls : Array Slot, lv_has ls 6 [(5, .int x5), (0, .ref (ca 0)), (4, .ref pr.1)] → W p l e R s m args below meth c H locs cells slots Q (F0 m 13 ls []) := by
    intro x5 res hf kc kt kf ls hl
    unfold fC_pairsIn_L13 at hf
    refine lv_iload hx hb dX0_pairsIn_13 (lv_at hl 0 rfl) ?_
    refine lv_aload hx hb dX0_pairsIn_15 (lv_at hl 2 rfl) ?_
    refine co_pr_n B hK hG.1 dX0_pairsIn_17 ?_
    refine lv_icmp_ge (tgt := 80) hx hb dX0_pairsIn_18 (by decide) (fun c_1 => kt (Option.some.inj (ifp c_1 hf)).symm _ (lv_sub hl [1, 2] rfl)) (fun c_1 => ?_)
    have hf := ifn c_1 hf
    refine lv_aload_n hx hb dX0_pairsIn_21 rfl (lv_at hl 1 rfl) ?_
    refine co_this_g0 B hK hG.1 dX0_pairsIn_22 ?_
    refine lv_aload hx hb dX0_pairsIn_25 (lv_at hl 2 rfl) ?_
    refine lv_iload hx hb dX0_pairsIn_27 (lv_at hl 0 rfl) ?_
    obtain ⟨v, e_1, hf⟩ := bo hf
    refine co_pr_l B hK hG.1 e_1 dX0_pairsIn_29 ?_
    obtain ⟨a, e_2, hf⟩ := bo hf
    refine cCF_isPost B hK hG.2.2 hG.1 e_2 hR hcs hl.1 (Nat.le_of_ble_eq_true rfl) dX0_pairsIn_30 ?_
    refine lv_if_eq (tgt := 64) hx hb dX0_pairsIn_33 (by decide) (fun c_2 => kf (Option.some.inj (ifp c_2 hf)).symm _ (lv_sub hl [1, 2] rfl)) (fun c_2 => ?_)
    have hf := ifn c_2 hf
    refine lv_aload hx hb dX0_pairsIn_36 (lv_at hl 2 rfl) ?_
    refine lv_iload hx hb dX0_pairsIn_38 (lv_at hl 0 rfl) ?_
    refine lv_iconst (v := 1) hx hb dX0_pairsIn_40 (by decide) ?_
    refine lv_iadd hx hb dX0_pairsIn_41 ?_
    obtain ⟨v1, e_3, hf⟩ := bo hf
    refine co_pr_l B hK hG.1 e_3 dX0_pairsIn_42 ?_
    refine lv_ldc2 (v := -1) hx hb B.2.2.2.1 (B.2.2.2.2 _ q1149) dX0_pairsIn_43 ?_
    refine W.lcmp hx hb dX0_pairsIn_46 ?_
    refine lv_if_lt (tgt := 64) hx hb dX0_pairsIn_47 (by decide) (fun c_3 => kf (Option.some.inj (ifp c_3 hf)).symm _ (lv_sub hl [1, 2] rfl)) (fun c_3 => ?_)
    have hf := ifn c_3 hf
    refine lv_aload hx hb dX0_pairsIn_50 (lv_at hl 2 rfl) ?_
    refine lv_iload hx hb dX0_pairsIn_52 (lv_at hl 0 rfl) ?_
    refine lv_iconst (v := 1) hx hb dX0_pairsIn_54 (by decide) ?_
    refine lv_iadd hx hb dX0_pairsIn_55 ?_
    refine co_pr_l B hK hG.1 e_3 dX0_pairsIn_56 ?_
    refine lv_ldc2 (v := 8) hx hb B.2.2.2.1 (B.2.2.2.2 _ q1150) dX0_pairsIn_57 ?_
    refine W.lcmp hx hb dX0_pairsIn_60 ?_
    refine lv_if_le (tgt := 74) hx hb dX0_pairsIn_61 (by decide) (fun c_4 => ?_) (fun c_4 => kf (Option.some.inj (ifn c_4 hf)).symm _ (lv_sub hl [1, 2] rfl))
    have hf := ifp c_4 hf
    refine w_iinc (z := x5 + 2) (lv' := [(5, .int (x5 + 2)), (0, .ref (ca 0)), (4, .ref pr.1)]) rfl hx hb dX0_pairsIn_74 hl (k := 0) rfl (by decide) rfl (fun ls hl => ?_)
    refine lv_goto (tgt := 13) hx hb dX0_pairsIn_77 (by decide) ?_
    exact kc _ (Option.some.inj hf).symm ls hl
  refine lp_ind (r := ok) (P := fun q : Int32 => ∀ (ls : Array Slot), lv_has ls 6 [(5, .int q), (0, .ref (ca 0)), (4, .ref pr.1)] → W p l e R s m args below meth c H locs cells slots Q (F0 m 13 ls [])) ?_ ?_ _ hf _ hl
  · intro q hb ls hl
    exact step q _ hb (fun _ h => by cases h) (fun h => k80 (Sum.inr.inj h)) (fun h => k64 (Sum.inr.inj h)) ls hl
  · intro q q2 hb ih ls hl
    exact step q _ hb (fun y h => by cases h; exact ih) (fun h => by cases h) (fun h => by cases h) ls hl
end PAIRS
theorem pr_any {u : Nat} {v : Nat × (Nat → Int64)} (w : CW) : fC_pairsIn_L13 w (u, v) = fC_pairsIn_L13 w (0, v) := rfl
set_option maxHeartbeats 4000000 in
theorem tC_pairsIn (l : Launch) (X : CX) (ca fa : Nat → Nat) (rest : va_W) (w : CW) (x1 x2 x3 : Int32) (v : Nat × (Nat → Int64)) (hf : fC_pairsIn w x1 x2 x3 = some (.inr v)) : RX l yX0_pairsIn cX0_pairsIn 6 (some (.array .long)) 3 1 40 88 [.ref (ca 0), .int x1, .int x2, .int x3] X (CP X ca fa w ++ rest) (fun a (u : Nat) => a = some (.ref u)) (fun u => CP X ca fa w ++ (LC X (u, v) :: rest)) := by
  refine RX.mk (by decide) (Nat.le_of_ble_eq_true rfl) ?_
  intro p e s m below meth c B hr hlk hin hK hG ls hl
  have hx := B.1
  have hb := B.2.1
  have hl : lv_has ls 6 [(0, .ref (ca 0)), (1, .int x1), (2, .int x2), (3, .int x3)] := hl
  unfold fC_pairsIn at hf
  obtain ⟨q, e_1, hf⟩ := bo hf
  match q, e_1, hf with
  | .inr q, e_1, hf =>
    obtain ⟨ok, e_2, hf⟩ := bo hf
    have hok : ok = true ∧ q = v := by
      by_cases h : ok = true
      · rw [if_pos h] at hf; cases hf; exact ⟨h, rfl⟩
      · rw [if_neg h] at hf; cases hf
    obtain ⟨hok, rfl⟩ := hok
    obtain ⟨N, f⟩ := q
    refine lv_aload_n hx hb dX0_pairsIn_0 rfl (lv_at hl 0 rfl) ?_
    refine lv_iload_n hx hb dX0_pairsIn_1 rfl (lv_at hl 1 rfl) ?_
    refine lv_iload_n hx hb dX0_pairsIn_2 rfl (lv_at hl 2 rfl) ?_
    refine lv_iload_n hx hb dX0_pairsIn_3 rfl (lv_at hl 3 rfl) ?_
    refine lv_iconst (v := 2) hx hb dX0_pairsIn_4 (by decide) ?_
    refine w_afterX (w_rV_HX (As := [.int x1, .int x2, .int x3, .int 2]) B hK hG (tC_toldIn l X ca fa rest w x1 x2 x3 2 N f e_1) q1145 q1147 qs16 q87 q1148 8 rfl rfl (n := 4) (by decide +kernel) ⟨Nat.le_of_ble_eq_true rfl, Nat.le_of_ble_eq_true rfl⟩ ⟨Nat.le_of_ble_eq_true rfl, Nat.le_of_ble_eq_true rfl⟩ rfl hl.1 rfl (Nat.le_of_ble_eq_true rfl) dX0_pairsIn_5) hG.2.2 (fun a u H1 locs1 hv hG1 => ?_)
    obtain rfl := hv
    refine lv_astore hx hb dX0_pairsIn_8 hl (by decide) rfl (fun ls hl => ?_)
    refine lv_iconst (v := 0) hx hb dX0_pairsIn_10 (by decide) ?_
    refine lv_istore hx hb dX0_pairsIn_11 hl (by decide) rfl (fun ls hl => ?_)
    refine vC_pairsIn_L13 (pr := (u, N, f)) B hK hG1 ⟨Nat.le_of_ble_eq_true rfl, Nat.le_of_ble_eq_true rfl⟩ ⟨Nat.le_of_ble_eq_true rfl, Nat.le_of_ble_eq_true rfl⟩ (ok := ok) (x5 := 0) (by rw [pr_any]; exact e_2) (fun _ ls hl => ?_) (fun h => by rw [hok] at h; cases h) (lv_sub hl [0, 2, 1] rfl)
    refine lv_aload hx hb dX0_pairsIn_80 (lv_at hl 1 rfl) ?_
    exact w_aretX B hr (Or.inr ⟨_, rfl⟩) hlk u rfl hG1 dX0_pairsIn_82
set_option maxHeartbeats 4000000 in
theorem tC_pairsIn_x (l : Launch) (hlt : l.stackTraces = false) (X : CX) (ca fa : Nat → Nat) (rest : va_W) (w : CW) (x1 x2 x3 : Int32) (b : Int32) (hf : fC_pairsIn w x1 x2 x3 = some (.inl b)) : TX l yX0_pairsIn cX0_pairsIn 6 (some (.array .long)) 10 5 269 10288 [.ref (ca 0), .int x1, .int x2, .int x3] X (CP X ca fa w ++ rest) (fun x H (u : Nat) => x = u ∧ ExC X.1 RX5 x H) (fun u => XC u b :: (CP X ca fa w ++ rest)) := by
  refine TX.mk (by decide) (Nat.le_of_ble_eq_true rfl) ?_
  intro p e s m below meth c B hlk htab hK hG ls hl
  have hx := B.1
  have hb := B.2.1
  have hl : lv_has ls 6 [(0, .ref (ca 0)), (1, .int x1), (2, .int x2), (3, .int x3)] := hl
  unfold fC_pairsIn at hf
  obtain ⟨q, e_1, hf⟩ := bo hf
  refine lv_aload_n hx hb dX0_pairsIn_0 rfl (lv_at hl 0 rfl) ?_
  refine lv_iload_n hx hb dX0_pairsIn_1 rfl (lv_at hl 1 rfl) ?_
  refine lv_iload_n hx hb dX0_pairsIn_2 rfl (lv_at hl 2 rfl) ?_
  refine lv_iload_n hx hb dX0_pairsIn_3 rfl (lv_at hl 3 rfl) ?_
  refine lv_iconst (v := 2) hx hb dX0_pairsIn_4 (by decide) ?_
  match q, e_1, hf with
  | .inl b2, e_1, hf =>
    cases Option.some.inj hf
    refine w_afterT (w_rV_THX (As := [.int x1, .int x2, .int x3, .int 2]) B hK hG (tC_toldIn_x l hlt X ca fa rest w x1 x2 x3 2 b e_1) q1145 q1147 qs16 q87 q1148 8 rfl rfl (n := 4) (by decide +kernel) ⟨Nat.le_of_ble_eq_true rfl, Nat.le_of_ble_eq_true rfl⟩ ⟨Nat.le_of_ble_eq_true rfl, Nat.le_of_ble_eq_true rfl⟩ rfl hl.1 rfl (Nat.le_of_ble_eq_true rfl) dX0_pairsIn_5) hG.2.2 (fun x u H1 locs1 hp hG1 => ?_)
    exact WX.more (cells' := 5) (slots' := 269) (Nat.le_of_ble_eq_true rfl) (Nat.le_of_ble_eq_true rfl) (w_leaveT u hp hG1 htab hlk)
  | .inr q, e_1, hf =>
    obtain ⟨ok, e_2, hf⟩ := bo hf
    have hok : ok = false ∧ -5 = b := by
      by_cases h : ok = true
      · rw [if_pos h] at hf; cases hf
      · rw [if_neg h] at hf; cases hf; exact ⟨Bool.eq_false_iff.mpr h, rfl⟩
    obtain ⟨hok, rfl⟩ := hok
    obtain ⟨N, f⟩ := q
    refine w_afterX (w_rV_HX (As := [.int x1, .int x2, .int x3, .int 2]) B hK hG (tC_toldIn l X ca fa rest w x1 x2 x3 2 N f e_1) q1145 q1147 qs16 q87 q1148 8 rfl rfl (n := 4) (by decide +kernel) ⟨Nat.le_of_ble_eq_true rfl, Nat.le_of_ble_eq_true rfl⟩ ⟨Nat.le_of_ble_eq_true rfl, Nat.le_of_ble_eq_true rfl⟩ rfl hl.1 rfl (Nat.le_of_ble_eq_true rfl) dX0_pairsIn_5) hG.2.2 (fun a u H1 locs1 hv hG1 => ?_)
    obtain rfl := hv
    refine lv_astore hx hb dX0_pairsIn_8 hl (by decide) rfl (fun ls hl => ?_)
    refine lv_iconst (v := 0) hx hb dX0_pairsIn_10 (by decide) ?_
    refine lv_istore hx hb dX0_pairsIn_11 hl (by decide) rfl (fun ls hl => ?_)
    refine vC_pairsIn_L13 (pr := (u, N, f)) B hK hG1 ⟨Nat.le_of_ble_eq_true rfl, Nat.le_of_ble_eq_true rfl⟩ ⟨Nat.le_of_ble_eq_true rfl, Nat.le_of_ble_eq_true rfl⟩ (ok := ok) (x5 := 0) (by rw [pr_any]; exact e_2) (fun h => by rw [hok] at h; cases h) (fun _ ls hl => ?_) (lv_sub hl [0, 2, 1] rfl)
    have hG2 : GG X (CP X ca fa w ++ rest) s.heap H1 locs1 := hG1.sublist (List.Sublist.append (List.Sublist.refl _) (List.sublist_cons_self _ _))
    exact w_refuse (x := -5) B hK hG2 hl.1 (by decide) (Nat.le_of_ble_eq_true rfl) (Nat.le_of_ble_eq_true rfl) ⟨Nat.le_of_ble_eq_true rfl, Nat.le_of_ble_eq_true rfl⟩ dX0_pairsIn_64 dX0_pairsIn_67 dX0_pairsIn_68 dX0_pairsIn_70 dX0_pairsIn_73 (fun q H1 locs1 hG1 hE => WX.more (cells' := 5) (slots' := 269) (Nat.le_of_ble_eq_true rfl) (Nat.le_of_ble_eq_true rfl) (w_leaveT q ⟨rfl, hE.at0 hK⟩ hG1 htab hlk))
section WALKIN
variable {p : Program} {l : Launch} {e : Env} {R : Room} {s : State} {m : MethodId} {args : Array Value} {below : List Frame} {meth : Method} {c : Code} {H : Heap} {locs : List Loc} {cells slots : Nat} {Q : State → Prop} {cc : ByteArray} {nL pc : Nat} {ls : Array Slot} {st : List Value} {X : CX} {rest : va_W} {ca fa : Nat → Nat}
theorem cC_wrongIn (B : CallFix p m c cc nL s args lw_all RX0) (hK : KK X s) {w : CW} {pr : Nat × Nat × (Nat → Int64)} (hS : va_S (Az X) s.heap H locs) (hP : va_P X.2.2.1 vwCl (CP X ca fa w ++ (LC X pr :: rest)) H) {x2 : Int32} {r : Int32} (hf : fC_wrongIn pr w x2 = some r) (hR : 3 + 1 ≤ R.frames ∧ 88 ≤ R.locals) (hcs : cells ≤ R.cells ∧ slots ≤ R.slots) (hl : ls.size = nL) (hcat : (st.map fun v => v.category).sum ≤ 8) (hdg : decode cc pc = .ok (.invokevirtual 354, 3)) (kk : W p l e R s m args below meth c H locs cells slots Q (F0 m (pc + 3) ls (.int r :: st))) : W p l e R s m args below meth c H locs cells slots Q (F0 m pc ls (.int x2 :: .ref pr.1 :: .ref (ca 0) :: st)) :=
  w_afterR (w_rV_RO (As := [.ref pr.1, .int x2]) B hK hS hP (tC_wrongIn l X ca fa pr rest w x2 r hf) (lw_V q1311 q1313 qs30 q87 q1314) 8 rfl rfl (n := 2) (by decide +kernel) hR hcs rfl hl rfl hcat hdg) kk
end WALKIN
theorem wr_any {u : Nat} {v : Nat × (Nat → Int64)} (w : CW) (x : Int32) : fC_wrongIn (u, v) w x = fC_wrongIn (0, v) w x := rfl
set_option maxHeartbeats 4000000 in
theorem tC_walkIn (l : Launch) (X : CX) (ca fa : Nat → Nat) (rest : va_W) (w : CW) (x1 x2 x3 : Int32) (v : Nat × (Nat → Int64)) (hf : fC_walkIn w x1 x2 x3 = some (.inr v)) : RX l yX0_walkIn cX0_walkIn 5 (some (.array .long)) 4 1 40 88 [.ref (ca 0), .int x1, .int x2, .int x3] X (CP X ca fa w ++ rest) (fun a (u : Nat) => a = some (.ref u)) (fun u => CP X ca fa w ++ (LC X (u, v) :: rest)) := by
  refine RX.mk (by decide) (Nat.le_of_ble_eq_true rfl) ?_
  intro p e s m below meth c B hr hlk hin hK hG ls hl
  have hx := B.1
  have hb := B.2.1
  have hl : lv_has ls 5 [(0, .ref (ca 0)), (1, .int x1), (2, .int x2), (3, .int x3)] := hl
  unfold fC_walkIn at hf
  obtain ⟨a, e_0, hf⟩ := bo hf
  obtain ⟨q, e_1, hf⟩ := bo hf
  match q, e_1, hf with
  | .inr q, e_1, hf =>
    obtain ⟨k, e_2, hf⟩ := bo hf
    have hok : k = -1 ∧ q = v := by
      by_cases h : k = -1
      · rw [if_pos h] at hf; cases hf; exact ⟨h, rfl⟩
      · rw [if_neg h] at hf; cases hf
    obtain ⟨hok, rfl⟩ := hok
    obtain ⟨N, f⟩ := q
    refine lv_aload_n hx hb dX0_walkIn_0 rfl (lv_at hl 0 rfl) ?_
    refine lv_aload_n hx hb dX0_walkIn_1 rfl (lv_at hl 0 rfl) ?_
    refine co_this_g0 B hK hG.1 dX0_walkIn_2 ?_
    refine lv_iload_n hx hb dX0_walkIn_5 rfl (lv_at hl 3 rfl) ?_
    refine cCF_isWalker B hK hG.2.2 hG.1 e_0 ⟨Nat.le_of_ble_eq_true rfl, Nat.le_of_ble_eq_true rfl⟩ ⟨Nat.zero_le _, Nat.zero_le _⟩ hl.1 (Nat.le_of_ble_eq_true rfl) dX0_walkIn_6 ?_
    refine lv_iload_n hx hb dX0_walkIn_9 rfl (lv_at hl 1 rfl) ?_
    refine lv_iload_n hx hb dX0_walkIn_10 rfl (lv_at hl 2 rfl) ?_
    refine lv_iconst (v := 1) hx hb dX0_walkIn_11 (by decide) ?_
    refine w_afterX (w_rV_HX (As := [.int a, .int x1, .int x2, .int 1]) B hK hG (tC_toldIn l X ca fa rest w a x1 x2 1 N f e_1) q1145 q1147 qs16 q87 q1148 8 rfl rfl (n := 4) (by decide +kernel) ⟨Nat.le_of_ble_eq_true rfl, Nat.le_of_ble_eq_true rfl⟩ ⟨Nat.le_of_ble_eq_true rfl, Nat.le_of_ble_eq_true rfl⟩ rfl hl.1 rfl (Nat.le_of_ble_eq_true rfl) dX0_walkIn_12) hG.2.2 (fun a u H1 locs1 hv hG1 => ?_)
    obtain rfl := hv
    refine lv_astore hx hb dX0_walkIn_15 hl (by decide) rfl (fun ls hl => ?_)
    refine lv_aload_n hx hb dX0_walkIn_17 rfl (lv_at hl 1 rfl) ?_
    refine lv_aload hx hb dX0_walkIn_18 (lv_at hl 0 rfl) ?_
    refine lv_iload_n hx hb dX0_walkIn_20 rfl (lv_at hl 4 rfl) ?_
    refine cC_wrongIn (pr := (u, N, f)) B hK hG1.2.2 hG1.1 (by rw [wr_any]; exact e_2) ⟨Nat.le_of_ble_eq_true rfl, Nat.le_of_ble_eq_true rfl⟩ ⟨Nat.le_of_ble_eq_true rfl, Nat.le_of_ble_eq_true rfl⟩ hl.1 (Nat.le_of_ble_eq_true rfl) dX0_walkIn_21 ?_
    refine lv_iconst (v := (-1)) hx hb dX0_walkIn_24 (by decide) ?_
    refine lv_icmp_eq (tgt := 38) hx hb dX0_walkIn_25 (by decide) (fun _ => ?_) (fun h => absurd hok h)
    refine lv_aload hx hb dX0_walkIn_38 (lv_at hl 0 rfl) ?_
    exact w_aretX B hr (Or.inr ⟨_, rfl⟩) hlk u rfl hG1 dX0_walkIn_40
set_option maxHeartbeats 4000000 in
theorem tC_walkIn_x (l : Launch) (hlt : l.stackTraces = false) (X : CX) (ca fa : Nat → Nat) (rest : va_W) (w : CW) (x1 x2 x3 : Int32) (b : Int32) (hf : fC_walkIn w x1 x2 x3 = some (.inl b)) : TX l yX0_walkIn cX0_walkIn 5 (some (.array .long)) 10 5 269 10288 [.ref (ca 0), .int x1, .int x2, .int x3] X (CP X ca fa w ++ rest) (fun x H (u : Nat) => x = u ∧ ExC X.1 RX5 x H) (fun u => XC u b :: (CP X ca fa w ++ rest)) := by
  refine TX.mk (by decide) (Nat.le_of_ble_eq_true rfl) ?_
  intro p e s m below meth c B hlk htab hK hG ls hl
  have hx := B.1
  have hb := B.2.1
  have hl : lv_has ls 5 [(0, .ref (ca 0)), (1, .int x1), (2, .int x2), (3, .int x3)] := hl
  unfold fC_walkIn at hf
  obtain ⟨a, e_0, hf⟩ := bo hf
  obtain ⟨q, e_1, hf⟩ := bo hf
  refine lv_aload_n hx hb dX0_walkIn_0 rfl (lv_at hl 0 rfl) ?_
  refine lv_aload_n hx hb dX0_walkIn_1 rfl (lv_at hl 0 rfl) ?_
  refine co_this_g0 B hK hG.1 dX0_walkIn_2 ?_
  refine lv_iload_n hx hb dX0_walkIn_5 rfl (lv_at hl 3 rfl) ?_
  refine cCF_isWalker B hK hG.2.2 hG.1 e_0 ⟨Nat.le_of_ble_eq_true rfl, Nat.le_of_ble_eq_true rfl⟩ ⟨Nat.zero_le _, Nat.zero_le _⟩ hl.1 (Nat.le_of_ble_eq_true rfl) dX0_walkIn_6 ?_
  refine lv_iload_n hx hb dX0_walkIn_9 rfl (lv_at hl 1 rfl) ?_
  refine lv_iload_n hx hb dX0_walkIn_10 rfl (lv_at hl 2 rfl) ?_
  refine lv_iconst (v := 1) hx hb dX0_walkIn_11 (by decide) ?_
  match q, e_1, hf with
  | .inl b2, e_1, hf =>
    cases Option.some.inj hf
    refine w_afterT (w_rV_THX (As := [.int a, .int x1, .int x2, .int 1]) B hK hG (tC_toldIn_x l hlt X ca fa rest w a x1 x2 1 b e_1) q1145 q1147 qs16 q87 q1148 8 rfl rfl (n := 4) (by decide +kernel) ⟨Nat.le_of_ble_eq_true rfl, Nat.le_of_ble_eq_true rfl⟩ ⟨Nat.le_of_ble_eq_true rfl, Nat.le_of_ble_eq_true rfl⟩ rfl hl.1 rfl (Nat.le_of_ble_eq_true rfl) dX0_walkIn_12) hG.2.2 (fun x u H1 locs1 hp hG1 => ?_)
    exact WX.more (cells' := 5) (slots' := 269) (Nat.le_of_ble_eq_true rfl) (Nat.le_of_ble_eq_true rfl) (w_leaveT u hp hG1 htab hlk)
  | .inr q, e_1, hf =>
    obtain ⟨k, e_2, hf⟩ := bo hf
    have hok : ¬ k = -1 ∧ -5 = b := by
      by_cases h : k = -1
      · rw [if_pos h] at hf; cases hf
      · rw [if_neg h] at hf; cases hf; exact ⟨h, rfl⟩
    obtain ⟨hok, rfl⟩ := hok
    obtain ⟨N, f⟩ := q
    refine w_afterX (w_rV_HX (As := [.int a, .int x1, .int x2, .int 1]) B hK hG (tC_toldIn l X ca fa rest w a x1 x2 1 N f e_1) q1145 q1147 qs16 q87 q1148 8 rfl rfl (n := 4) (by decide +kernel) ⟨Nat.le_of_ble_eq_true rfl, Nat.le_of_ble_eq_true rfl⟩ ⟨Nat.le_of_ble_eq_true rfl, Nat.le_of_ble_eq_true rfl⟩ rfl hl.1 rfl (Nat.le_of_ble_eq_true rfl) dX0_walkIn_12) hG.2.2 (fun a u H1 locs1 hv hG1 => ?_)
    obtain rfl := hv
    refine lv_astore hx hb dX0_walkIn_15 hl (by decide) rfl (fun ls hl => ?_)
    refine lv_aload_n hx hb dX0_walkIn_17 rfl (lv_at hl 1 rfl) ?_
    refine lv_aload hx hb dX0_walkIn_18 (lv_at hl 0 rfl) ?_
    refine lv_iload_n hx hb dX0_walkIn_20 rfl (lv_at hl 4 rfl) ?_
    refine cC_wrongIn (pr := (u, N, f)) B hK hG1.2.2 hG1.1 (by rw [wr_any]; exact e_2) ⟨Nat.le_of_ble_eq_true rfl, Nat.le_of_ble_eq_true rfl⟩ ⟨Nat.le_of_ble_eq_true rfl, Nat.le_of_ble_eq_true rfl⟩ hl.1 (Nat.le_of_ble_eq_true rfl) dX0_walkIn_21 ?_
    refine lv_iconst (v := (-1)) hx hb dX0_walkIn_24 (by decide) ?_
    refine lv_icmp_eq (tgt := 38) hx hb dX0_walkIn_25 (by decide) (fun h => absurd h hok) (fun _ => ?_)
    have hG2 : GG X (CP X ca fa w ++ rest) s.heap H1 locs1 := hG1.sublist (List.Sublist.append (List.Sublist.refl _) (List.sublist_cons_self _ _))
    exact w_refuse (x := -5) B hK hG2 hl.1 (by decide) (Nat.le_of_ble_eq_true rfl) (Nat.le_of_ble_eq_true rfl) ⟨Nat.le_of_ble_eq_true rfl, Nat.le_of_ble_eq_true rfl⟩ dX0_walkIn_28 dX0_walkIn_31 dX0_walkIn_32 dX0_walkIn_34 dX0_walkIn_37 (fun q H1 locs1 hG1 hE => WX.more (cells' := 5) (slots' := 269) (Nat.le_of_ble_eq_true rfl) (Nat.le_of_ble_eq_true rfl) (w_leaveT q ⟨rfl, hE.at0 hK⟩ hG1 htab hlk))
