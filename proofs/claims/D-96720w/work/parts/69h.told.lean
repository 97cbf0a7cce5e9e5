set_option maxRecDepth 100000
/-! numbers told in a row -/
def FT (r : RV) (k : Nat) : Nat → Int64 := fun j => if j < k then fRel r (nI j) else 0
theorem FT_succ (r : RV) (k : Nat) (hk : k < 2 ^ 31) : vp_updL (FT r k) (nI k).toNatClampNeg (fRel r (nI k)) = FT r (k + 1) := by
  funext j
  rw [nI_clamp hk]
  by_cases e : j = k
  · subst e
    simp [vp_updL, FT]
  · have : (j < k + 1) = (j < k) := by
      apply propext
      omega
    simp [vp_updL, FT, e, this]
def fC_toldIn_J34 (w : CW) (x2 n : Int32) : Option (Int32 ⊕ (Nat × (Nat → Int64))) :=
  (fC_rowIn w x2).bind fun q => match q with
    | .inl b => some (.inl b)
    | .inr r => (g40 r).bind fun _ => if n < 0 then none else if 40 < n.toNatClampNeg then none else
      if n.toNatClampNeg ≤ r.2.2.1 then some (.inr (n.toNatClampNeg, FT r n.toNatClampNeg)) else some (.inl (-2))
noncomputable def fC_toldIn (w : CW) (x1 x2 x3 x4 : Int32) : Option (Int32 ⊕ (Nat × (Nat → Int64))) :=
  if x1 = 0 then some (.inl (-2)) else
  (fC_isShelf x2).bind fun a => if a = 0 then some (.inl (-2)) else
  (nz x4).bind fun _ => (fC_isIn x3 0 (40 / x4)).bind fun b => if b = 0 then some (.inl (-2)) else fC_toldIn_J34 w x2 (x4 * x3)
theorem mul_neg_of {n : Int32} {q : Int32 ⊕ (Nat × (Nat → Int64))} {r : Option (Int32 ⊕ (Nat × (Nat → Int64)))} (h : (if n < 0 then none else r) = some q) : ¬ n < 0 ∧ r = some q := by
  by_cases c : n < 0
  · rw [if_pos c] at h; cases h
  · rw [if_neg c] at h; exact ⟨c, h⟩
section TOLD
variable {p : Program} {l : Launch} {e : Env} {R : Room} {s : State} {m : MethodId} {args : Array Value} {below : List Frame} {meth : Method} {c : Code} {H : Heap} {locs : List Loc} {cells slots : Nat} {Q : State → Prop} {X : CX} {rest : va_W} {ca fa : Nat → Nat}
theorem GG.setL {pr : Nat × Nat × (Nat → Int64)} {f : Nat → Int64} {w1 : va_W} {H0 : Heap} (h : GG X ((w1 ++ (LC X pr :: rest)).set w1.length (pr.1, .inl (X.2.2.2 1, pr.2.1, .inr (.inl f)))) H0 H locs) : GG X (w1 ++ (LC X (pr.1, pr.2.1, f) :: rest)) H0 H locs := by
  rw [List.set_append_right _ _ (Nat.le_refl _), Nat.sub_self] at h
  exact h
set_option maxHeartbeats 4000000 in
theorem wC_toldIn_L52 (B : CallFix p m c cX0_toldIn 8 s args lw_all RX0) (hK : KK X s) {w : CW} {r : RV} {u N : Nat} {x1 x2 x3 x4 : Int32} {i : Nat} (hi : i < 8) (hh : chd w i = some (.inr r)) (hN : N ≤ 40) (h40 : r.2.2.1 ≤ 40) (hR : 2 ≤ R.frames ∧ 61 ≤ R.locals) (hcs : cells ≤ R.cells ∧ slots ≤ R.slots) (K : Nat) (hK1 : K ≤ N) (hK2 : K ≤ r.2.2.1)
    (kk : ∀ (H : Heap) (locs : List Loc), GG X (CP X ca fa w ++ (LC X (u, N, FT r K) :: rest)) s.heap H locs → ∀ ls : Array Slot, lv_has ls 8 [(7, .int (nI K)), (0, .ref (ca 0)), (5, .ref r.1), (6, .ref u)] → W p l e R s m args below meth c H locs cells slots Q (F0 m 52 ls [])) :
    ∀ (d k : Nat), d + k = K → ∀ (H : Heap) (locs : List Loc), GG X (CP X ca fa w ++ (LC X (u, N, FT r k) :: rest)) s.heap H locs → ∀ ls : Array Slot, lv_has ls 8 [(7, .int (nI k)), (0, .ref (ca 0)), (5, .ref r.1), (6, .ref u)] → W p l e R s m args below meth c H locs cells slots Q (F0 m 52 ls []) := by
  have hx := B.1
  have hb := B.2.1
  intro d
  induction d with
  | zero =>
    intro k hk
    have : k = K := by omega
    subst this
    exact kk
  | succ d ih =>
    intro k hk H locs hG ls hl
    have hkN : k < N := by omega
    have hin : vp_in (nI k) r.2.2.1 := nI_in (by omega) (by omega)
    have hinN : vp_in (nI k) N := nI_in hkN (by omega)
    refine lv_iload hx hb dX0_toldIn_52 (lv_at hl 0 rfl) ?_
    refine lv_aload hx hb dX0_toldIn_54 (lv_at hl 3 rfl) ?_
    refine co_pr_n (pr := (u, N, FT r k)) B hK hG.1 dX0_toldIn_56 ?_
    refine lv_icmp_ge (tgt := 78) hx hb dX0_toldIn_57 (by decide) (fun h => absurd h (nI_ge (b := N) hkN (by omega))) (fun _ => ?_)
    refine lv_aload hx hb dX0_toldIn_60 (lv_at hl 3 rfl) ?_
    refine lv_iload hx hb dX0_toldIn_62 (lv_at hl 0 rfl) ?_
    refine lv_aload hx hb dX0_toldIn_64 (lv_at hl 2 rfl) ?_
    refine lv_iload hx hb dX0_toldIn_66 (lv_at hl 0 rfl) ?_
    have hmem := cp_row (X := X) (ca := ca) (fa := fa) (rest := LC X (u, N, FT r k) :: rest) hi hh
    refine w_afterR (w_rS_RO (As := [.ref r.1, .int (nI k)]) B hK hG.2.2 hG.1 (tC_elementOf l X r _ hmem (nI k) hin) (lw_S q470 q471 q87 q472) (n := 2) (by decide +kernel) hR hcs rfl hl.1 rfl (Nat.le_of_ble_eq_true rfl) dX0_toldIn_68) ?_
    refine va_last hx hb hK.k hG.1 hG.2.1 hG.2.2 (CP X ca fa w).length 1 (f := FT r k) (cA := X.2.2.2 1) (n := N) (a := u) (by rw [List.getElem?_append_right (Nat.le_refl _), Nat.sub_self]; rfl) rfl hinN dX0_toldIn_71 (fun H1 locs1 g1 g2 g3 => ?_)
    have hG1 := GG.setL (pr := (u, N, FT r k)) ⟨g1, g2, g3⟩
    rw [FT_succ r k (by omega)] at hG1
    refine w_iinc (z := nI (k + 1)) (lv' := [(7, .int (nI (k + 1))), (0, .ref (ca 0)), (5, .ref r.1), (6, .ref u)]) (by rw [nI_succ]; rfl) hx hb dX0_toldIn_72 hl (k := 0) rfl (by decide) rfl (fun ls hl => ?_)
    refine lv_goto (tgt := 52) hx hb dX0_toldIn_75 (by decide) ?_
    exact ih (k + 1) (by omega) H1 locs1 hG1 ls hl
end TOLD
set_option maxHeartbeats 4000000 in
theorem tC_toldIn (l : Launch) (X : CX) (ca fa : Nat → Nat) (rest : va_W) (w : CW) (x1 x2 x3 x4 : Int32) (N : Nat) (f : Nat → Int64) (hf : fC_toldIn w x1 x2 x3 x4 = some (.inr (N, f))) : HX l yX0_toldIn cX0_toldIn 8 (some (.array .long)) [(49, 78, 81, 121)] 2 1 40 61 [.ref (ca 0), .int x1, .int x2, .int x3, .int x4] X (CP X ca fa w ++ rest) (fun v (u : Nat) => v = some (.ref u)) (fun u => CP X ca fa w ++ (LC X (u, N, f) :: rest)) := by
  refine HX.mk (by decide) (Nat.le_of_ble_eq_true rfl) ?_
  intro p e s m below meth c B hr hlk htab hK hG ls hl
  have hx := B.1
  have hb := B.2.1
  have hl : lv_has ls 8 [(0, .ref (ca 0)), (1, .int x1), (2, .int x2), (3, .int x3), (4, .int x4)] := hl
  unfold fC_toldIn at hf
  refine lv_iload_n hx hb dX0_toldIn_0 rfl (lv_at hl 1 rfl) ?_
  refine lv_if_eq (tgt := 24) hx hb dX0_toldIn_1 (by decide) (fun c_1 => by cases (ifp c_1 hf)) (fun c_1 => ?_)
  have hf := ifn c_1 hf
  refine lv_iload_n hx hb dX0_toldIn_4 rfl (lv_at hl 2 rfl) ?_
  obtain ⟨a, e_1, hf⟩ := bo hf
  refine cC_isShelf B e_1 ⟨Nat.le_of_ble_eq_true rfl, Nat.le_of_ble_eq_true rfl⟩ ⟨Nat.zero_le _, Nat.zero_le _⟩ hl.1 (Nat.le_of_ble_eq_true rfl) dX0_toldIn_5 ?_
  refine lv_if_eq (tgt := 24) hx hb dX0_toldIn_8 (by decide) (fun c_2 => by cases (ifp c_2 hf)) (fun c_2 => ?_)
  have hf := ifn c_2 hf
  obtain ⟨u9, e_2, hf⟩ := bo hf
  obtain ⟨b, e_3, hf⟩ := bo hf
  refine lv_iload_n hx hb dX0_toldIn_11 rfl (lv_at hl 3 rfl) ?_
  refine lv_iconst (v := 0) hx hb dX0_toldIn_12 (by decide) ?_
  refine lv_bipush (v := 40) hx hb dX0_toldIn_13 (by decide) ?_
  refine lv_iload hx hb dX0_toldIn_15 (lv_at hl 4 rfl) ?_
  refine lv_idiv hx hb dX0_toldIn_17 (nz_in e_2) ?_
  refine cC_isIn B e_3 ⟨Nat.le_of_ble_eq_true rfl, Nat.le_of_ble_eq_true rfl⟩ ⟨Nat.zero_le _, Nat.zero_le _⟩ hl.1 (Nat.le_of_ble_eq_true rfl) dX0_toldIn_18 ?_
  refine lv_if_ne (tgt := 34) hx hb dX0_toldIn_21 (by decide) (fun c_3 => ?_) (fun c_3 => by cases (ifp c_3 hf))
  have hf := ifn c_3 hf
  unfold fC_toldIn_J34 at hf
  obtain ⟨q, e_4, hf⟩ := bo hf
  match q, e_4, hf with
  | .inr r, e_4, hf =>
    obtain ⟨hu, hh⟩ := rowIn_r e_4
    have hi := vp_lt (inb_in hu)
    obtain ⟨u4, h40, hf⟩ := bo hf
    have h40 := g40_in h40
    obtain ⟨hneg, hf⟩ := mul_neg_of hf
    have h41 : (x4 * x3).toNatClampNeg ≤ 40 ∧ (x4 * x3).toNatClampNeg ≤ r.2.2.1 ∧ (x4 * x3).toNatClampNeg = N ∧ FT r N = f := by
      by_cases d1 : 40 < (x4 * x3).toNatClampNeg
      · rw [if_pos d1] at hf; cases hf
      · rw [if_neg d1] at hf
        by_cases d2 : (x4 * x3).toNatClampNeg ≤ r.2.2.1
        · rw [if_pos d2] at hf
          cases hf
          exact ⟨by omega, d2, rfl, rfl⟩
        · rw [if_neg d2] at hf; cases hf
    obtain ⟨g1, g2, g3, g4⟩ := h41
    subst g4
    refine lv_aload_n hx hb dX0_toldIn_34 rfl (lv_at hl 0 rfl) ?_
    refine lv_iload_n hx hb dX0_toldIn_35 rfl (lv_at hl 2 rfl) ?_
    refine w_afterR (w_rV_RO (As := [.int x2]) B hK hG.2.2 hG.1 (tC_rowIn l X ca fa rest w x2 r e_4) (lw_V q377 q379 qs3 q87 q380) 8 rfl rfl (n := 1) (by decide +kernel) ⟨Nat.le_of_ble_eq_true rfl, Nat.le_of_ble_eq_true rfl⟩ ⟨Nat.le_of_ble_eq_true rfl, Nat.le_of_ble_eq_true rfl⟩ rfl hl.1 rfl (Nat.le_of_ble_eq_true rfl) dX0_toldIn_36) ?_
    refine lv_astore hx hb dX0_toldIn_39 hl (by decide) rfl (fun ls hl => ?_)
    refine lv_iload hx hb dX0_toldIn_41 (lv_at hl 5 rfl) ?_
    refine lv_iload_n hx hb dX0_toldIn_43 rfl (lv_at hl 4 rfl) ?_
    refine lv_imul hx hb dX0_toldIn_44 ?_
    refine w_newa (w1 := CP X ca fa w) (rest := rest) B hK hG (ty := .long) rfl q220 1 rfl (fun _ h => by cases h) (N := N) (a0 := (N, .inr (.inl (fun _ => 0)))) (fun _ => rfl) hneg g3 (by simp only [componentBytes]; omega) (Nat.le_of_ble_eq_true rfl) (by show 0 + N ≤ 40; omega) dX0_toldIn_45 (fun q_1 H hG => ?_)
    refine lv_astore hx hb dX0_toldIn_47 hl (by decide) rfl (fun ls hl => ?_)
    refine lv_iconst (v := 0) hx hb dX0_toldIn_49 (by decide) ?_
    refine lv_istore hx hb dX0_toldIn_50 hl (by decide) rfl (fun ls hl => ?_)
    refine W.widen (k := 1) (n := 40) (Nat.le_of_ble_eq_true rfl) (by omega) ?_
    have hG : GG X (CP X ca fa w ++ (LC X (q_1, N, FT r 0) :: rest)) s.heap H [] := hG
    refine wC_toldIn_L52 (x1 := x1) (x2 := x2) (x3 := x3) (x4 := x4) B hK hi hh (by omega) h40 ⟨Nat.le_of_ble_eq_true rfl, Nat.le_of_ble_eq_true rfl⟩ ⟨Nat.le_of_ble_eq_true rfl, Nat.le_of_ble_eq_true rfl⟩ N (Nat.le_refl _) (by omega) (fun H locs hG ls hl => ?_) N 0 rfl H _ hG ls (lv_sub hl [0, 3, 2, 1] rfl)
    refine lv_iload hx hb dX0_toldIn_52 (lv_at hl 0 rfl) ?_
    refine lv_aload hx hb dX0_toldIn_54 (lv_at hl 3 rfl) ?_
    refine co_pr_n (pr := (q_1, N, FT r N)) B hK hG.1 dX0_toldIn_56 ?_
    refine lv_icmp_ge (tgt := 78) hx hb dX0_toldIn_57 (by decide) (fun _ => ?_) (fun h => absurd (Int32.le_refl _) h)
    refine lv_goto (tgt := 93) hx hb dX0_toldIn_78 (by decide) ?_
    refine lv_aload hx hb dX0_toldIn_93 (lv_at hl 3 rfl) ?_
    exact w_aretX B hr (Or.inr ⟨_, rfl⟩) hlk q_1 rfl hG dX0_toldIn_95
set_option maxHeartbeats 4000000 in
theorem tC_toldIn_x (l : Launch) (hlt : l.stackTraces = false) (X : CX) (ca fa : Nat → Nat) (rest : va_W) (w : CW) (x1 x2 x3 x4 : Int32) (b : Int32) (hf : fC_toldIn w x1 x2 x3 x4 = some (.inl b)) : THX l yX0_toldIn cX0_toldIn 8 (some (.array .long)) [(49, 78, 81, 121)] 9 5 269 10261 [.ref (ca 0), .int x1, .int x2, .int x3, .int x4] X (CP X ca fa w ++ rest) (fun x H (u : Nat) => x = u ∧ ExC X.1 RX5 x H) (fun u => XC u b :: (CP X ca fa w ++ rest)) := by
  refine THX.mk (by decide) (Nat.le_of_ble_eq_true rfl) ?_
  intro p e s m below meth c B hlk htab hK hG ls hl
  have hx := B.1
  have hb := B.2.1
  have hl : lv_has ls 8 [(0, .ref (ca 0)), (1, .int x1), (2, .int x2), (3, .int x3), (4, .int x4)] := hl
  have bad : b = -2 → W p l e (RMw 9 5 269 10261) s m [Value.ref (ca 0), Value.int x1, Value.int x2, Value.int x3, Value.int x4].toArray below meth c s.heap [] 0 0 (MQT below (QT X (fun x H (u : Nat) => x = u ∧ ExC X.1 RX5 x H) (fun u => XC u b :: (CP X ca fa w ++ rest))) [Value.ref (ca 0), Value.int x1, Value.int x2, Value.int x3, Value.int x4].toArray s 5 269 (Az X)) (F0 m 24 ls []) := by
    intro hb2
    subst hb2
    exact w_refuse (x := -2) B hK hG hl.1 (by decide) (Nat.le_of_ble_eq_true rfl) (Nat.le_of_ble_eq_true rfl) ⟨Nat.le_of_ble_eq_true rfl, Nat.le_of_ble_eq_true rfl⟩ dX0_toldIn_24 dX0_toldIn_27 dX0_toldIn_28 dX0_toldIn_30 dX0_toldIn_33 (fun q H1 locs1 hG1 hE => WX.more (cells' := 5) (slots' := 269) (Nat.le_of_ble_eq_true rfl) (Nat.le_of_ble_eq_true rfl) (w_leaveH q ⟨rfl, hE.at0 hK⟩ hG1 htab (by decide) hlk))
  unfold fC_toldIn at hf
  refine lv_iload_n hx hb dX0_toldIn_0 rfl (lv_at hl 1 rfl) ?_
  refine lv_if_eq (tgt := 24) hx hb dX0_toldIn_1 (by decide) (fun c_1 => bad (by cases (ifp c_1 hf); rfl)) (fun c_1 => ?_)
  have hf := ifn c_1 hf
  refine lv_iload_n hx hb dX0_toldIn_4 rfl (lv_at hl 2 rfl) ?_
  obtain ⟨a, e_1, hf⟩ := bo hf
  refine cC_isShelf B e_1 ⟨Nat.le_of_ble_eq_true rfl, Nat.le_of_ble_eq_true rfl⟩ ⟨Nat.zero_le _, Nat.zero_le _⟩ hl.1 (Nat.le_of_ble_eq_true rfl) dX0_toldIn_5 ?_
  refine lv_if_eq (tgt := 24) hx hb dX0_toldIn_8 (by decide) (fun c_2 => bad (by cases (ifp c_2 hf); rfl)) (fun c_2 => ?_)
  have hf := ifn c_2 hf
  obtain ⟨u9, e_2, hf⟩ := bo hf
  obtain ⟨b9, e_3, hf⟩ := bo hf
  refine lv_iload_n hx hb dX0_toldIn_11 rfl (lv_at hl 3 rfl) ?_
  refine lv_iconst (v := 0) hx hb dX0_toldIn_12 (by decide) ?_
  refine lv_bipush (v := 40) hx hb dX0_toldIn_13 (by decide) ?_
  refine lv_iload hx hb dX0_toldIn_15 (lv_at hl 4 rfl) ?_
  refine lv_idiv hx hb dX0_toldIn_17 (nz_in e_2) ?_
  refine cC_isIn B e_3 ⟨Nat.le_of_ble_eq_true rfl, Nat.le_of_ble_eq_true rfl⟩ ⟨Nat.zero_le _, Nat.zero_le _⟩ hl.1 (Nat.le_of_ble_eq_true rfl) dX0_toldIn_18 ?_
  refine lv_if_ne (tgt := 34) hx hb dX0_toldIn_21 (by decide) (fun c_3 => ?_) (fun c_3 => bad (by cases (ifp c_3 hf); rfl))
  have hf := ifn c_3 hf
  unfold fC_toldIn_J34 at hf
  obtain ⟨q, e_4, hf⟩ := bo hf
  refine lv_aload_n hx hb dX0_toldIn_34 rfl (lv_at hl 0 rfl) ?_
  refine lv_iload_n hx hb dX0_toldIn_35 rfl (lv_at hl 2 rfl) ?_
  match q, e_4, hf with
  | .inl b2, e_4, hf =>
    cases Option.some.inj hf
    refine w_afterT (w_rV_TX (As := [.int x2]) B hK hG (tC_rowIn_x l X ca fa rest w x2 b e_4) (lw_V q377 q379 qs3 q87 q380) 8 rfl rfl (n := 1) (by decide +kernel) ⟨Nat.le_of_ble_eq_true rfl, Nat.le_of_ble_eq_true rfl⟩ ⟨Nat.le_of_ble_eq_true rfl, Nat.le_of_ble_eq_true rfl⟩ rfl hl.1 rfl (Nat.le_of_ble_eq_true rfl) dX0_toldIn_36) hG.2.2 (fun x u H1 locs1 hp hG1 => ?_)
    exact WX.more (cells' := 5) (slots' := 269) (Nat.le_of_ble_eq_true rfl) (Nat.le_of_ble_eq_true rfl) (w_leaveH u hp hG1 htab (by decide) hlk)
  | .inr r, e_4, hf =>
    obtain ⟨hu, hh⟩ := rowIn_r e_4
    have hi := vp_lt (inb_in hu)
    obtain ⟨u4, h40, hf⟩ := bo hf
    have h40 := g40_in h40
    obtain ⟨hneg, hf⟩ := mul_neg_of hf
    have h41 : (x4 * x3).toNatClampNeg ≤ 40 ∧ ¬ (x4 * x3).toNatClampNeg ≤ r.2.2.1 ∧ -2 = b := by
      by_cases d1 : 40 < (x4 * x3).toNatClampNeg
      · rw [if_pos d1] at hf; cases hf
      · rw [if_neg d1] at hf
        by_cases d2 : (x4 * x3).toNatClampNeg ≤ r.2.2.1
        · rw [if_pos d2] at hf; cases hf
        · rw [if_neg d2] at hf
          cases hf
          exact ⟨by omega, d2, rfl⟩
    obtain ⟨g1, g2, g3⟩ := h41
    subst g3
    generalize hN : (x4 * x3).toNatClampNeg = N at g1 g2
    refine w_afterR (w_rV_RO (As := [.int x2]) B hK hG.2.2 hG.1 (tC_rowIn l X ca fa rest w x2 r e_4) (lw_V q377 q379 qs3 q87 q380) 8 rfl rfl (n := 1) (by decide +kernel) ⟨Nat.le_of_ble_eq_true rfl, Nat.le_of_ble_eq_true rfl⟩ ⟨Nat.le_of_ble_eq_true rfl, Nat.le_of_ble_eq_true rfl⟩ rfl hl.1 rfl (Nat.le_of_ble_eq_true rfl) dX0_toldIn_36) ?_
    refine lv_astore hx hb dX0_toldIn_39 hl (by decide) rfl (fun ls hl => ?_)
    refine lv_iload hx hb dX0_toldIn_41 (lv_at hl 5 rfl) ?_
    refine lv_iload_n hx hb dX0_toldIn_43 rfl (lv_at hl 4 rfl) ?_
    refine lv_imul hx hb dX0_toldIn_44 ?_
    refine w_newa (w1 := CP X ca fa w) (rest := rest) B hK hG (ty := .long) rfl q220 1 rfl (fun _ h => by cases h) (N := N) (a0 := (N, .inr (.inl (fun _ => 0)))) (fun _ => rfl) hneg hN (by simp only [componentBytes]; omega) (Nat.le_of_ble_eq_true rfl) (by show 0 + N ≤ 269; omega) dX0_toldIn_45 (fun q_1 H hG => ?_)
    refine lv_astore hx hb dX0_toldIn_47 hl (by decide) rfl (fun ls hl => ?_)
    refine lv_iconst (v := 0) hx hb dX0_toldIn_49 (by decide) ?_
    refine lv_istore hx hb dX0_toldIn_50 hl (by decide) rfl (fun ls hl => ?_)
    refine W.widen (k := 1) (n := 40) (Nat.le_of_ble_eq_true rfl) (by omega) ?_
    have hG : GG X (CP X ca fa w ++ (LC X (q_1, N, FT r 0) :: rest)) s.heap H [] := hG
    refine wC_toldIn_L52 (x1 := x1) (x2 := x2) (x3 := x3) (x4 := x4) B hK hi hh (by omega) h40 ⟨Nat.le_of_ble_eq_true rfl, Nat.le_of_ble_eq_true rfl⟩ ⟨Nat.le_of_ble_eq_true rfl, Nat.le_of_ble_eq_true rfl⟩ r.2.2.1 (by omega) (Nat.le_refl _) (fun H locs hG ls hl => ?_) r.2.2.1 0 rfl H _ hG ls (lv_sub hl [0, 3, 2, 1] rfl)
    refine lv_iload hx hb dX0_toldIn_52 (lv_at hl 0 rfl) ?_
    refine lv_aload hx hb dX0_toldIn_54 (lv_at hl 3 rfl) ?_
    refine co_pr_n (pr := (q_1, N, FT r r.2.2.1)) B hK hG.1 dX0_toldIn_56 ?_
    refine lv_icmp_ge (tgt := 78) hx hb dX0_toldIn_57 (by decide) (fun h => absurd h (nI_ge (a := r.2.2.1) (b := N) (by omega) (by omega))) (fun _ => ?_)
    refine lv_aload hx hb dX0_toldIn_60 (lv_at hl 3 rfl) ?_
    refine lv_iload hx hb dX0_toldIn_62 (lv_at hl 0 rfl) ?_
    refine lv_aload hx hb dX0_toldIn_64 (lv_at hl 2 rfl) ?_
    refine lv_iload hx hb dX0_toldIn_66 (lv_at hl 0 rfl) ?_
    have hmem := cp_row (X := X) (ca := ca) (fa := fa) (rest := LC X (q_1, N, FT r r.2.2.1) :: rest) hi hh
    refine w_afterT (w_rS_TX (As := [.ref r.1, .int (nI r.2.2.1)]) B hK hG (tC_elementOf_x l hlt X r _ hmem (nI r.2.2.1) (by omega) (fun h => h (Or.inr (by rw [nI_clamp (by omega)]; exact Nat.le_refl _)))) (lw_S q470 q471 q87 q472) (n := 2) (by decide +kernel) ⟨Nat.le_of_ble_eq_true rfl, Nat.le_of_ble_eq_true rfl⟩ ⟨Nat.le_of_ble_eq_true rfl, Nat.le_of_ble_eq_true rfl⟩ rfl hl.1 rfl (Nat.le_of_ble_eq_true rfl) dX0_toldIn_68) hG.2.2 (fun x u H1 locs1 hp hG1 => ?_)
    refine w_catchA B hK htab (by decide) (by decide) q358 (hp.at1 hK) q373 q359 ?_
    refine lv_astore hx hb dX0_toldIn_81 hl (by decide) rfl (fun ls hl => ?_)
    have hG2 : GG X (CP X ca fa w ++ rest) s.heap H1 locs1 := hG1.sublist (List.Sublist.append (List.Sublist.refl _) (List.sublist_cons_self _ _))
    exact w_refuse (x := -2) B hK hG2 hl.1 (by decide) (Nat.le_of_ble_eq_true rfl) (Nat.le_of_ble_eq_true rfl) ⟨Nat.le_of_ble_eq_true rfl, Nat.le_of_ble_eq_true rfl⟩ dX0_toldIn_83 dX0_toldIn_86 dX0_toldIn_87 dX0_toldIn_89 dX0_toldIn_92 (fun q H1 locs1 hG1 hE => WX.more (cells' := 5) (slots' := 269) (Nat.le_of_ble_eq_true rfl) (Nat.le_of_ble_eq_true rfl) (w_leaveH q ⟨rfl, hE.at0 hK⟩ hG1 htab (by decide) hlk))
