set_option maxRecDepth 100000
/-! set and element -/
def g40 (r : RV) : Option Unit := if r.2.2.1 ≤ 40 then some () else none
theorem g40_in {r : RV} {u : Unit} (h : g40 r = some u) : r.2.2.1 ≤ 40 := by
  unfold g40 at h
  by_cases q : r.2.2.1 ≤ 40
  · exact q
  · rw [if_neg q] at h; cases h
theorem rput_1 (r : RV) (i : Int32) (v : Int64) : (rput r i v).1 = r.1 := by
  obtain ⟨ra, rk, rn, rf, rg⟩ := r
  match rk with
  | 0 => rfl
  | 1 => rfl
  | 2 => rfl
  | 3 => rfl
  | 4 => rfl
theorem era_perm {α : Type} : ∀ (l : List α) (k : Nat) (a : α), l[k]? = some a → l.Perm (a :: l.eraseIdx k)
  | [], k, a, h => by simp at h
  | x :: t, 0, a, h => by
    simp only [List.getElem?_cons_zero, Option.some.injEq] at h
    subst h
    exact List.Perm.refl _
  | x :: t, k + 1, a, h => by
    simp only [List.getElem?_cons_succ] at h
    exact ((era_perm t k a h).cons x).trans (List.Perm.swap a x _)
theorem set_perm {α : Type} (b : α) : ∀ (l : List α) (k : Nat), k < l.length → (l.set k b).Perm (b :: l.eraseIdx k)
  | [], k, h => absurd h (Nat.not_lt_zero _)
  | x :: t, 0, h => List.Perm.refl _
  | x :: t, k + 1, h => ((set_perm b t k (Nat.lt_of_succ_lt_succ h)).cons x).trans (List.Perm.swap b x _)
/-- a held row is another one at the same place -/
theorem GG.reRow {X : CX} {ca fa : Nat → Nat} {w : CW} {rest : va_W} {H0 H : Heap} {locs : List Loc} {i k : Nat} {r r' : RV} (hi : i < 8) (hh : chd w i = some (.inr r)) (hr : r'.1 = r.1) (hk : (CP X ca fa w ++ rest)[k]? = some (rowC X r)) (hG : GG X ((CP X ca fa w ++ rest).set k (rowC X r')) H0 H locs) : GG X (CP X ca fa (chs w i (some (.inr r'))) ++ rest) H0 H locs := by
  have p1 : ∀ q : RV, (CPt X (chs w i (some (.inr q)))).Perm (rowC X q :: CPt X (chs w i none)) := by
    intro q
    refine (List.Perm.append_left _ (List.Perm.append_right _ (rows_ins hi))).trans ?_
    exact List.perm_middle
  have p2 : ∀ (E : va_W) (q : RV), ((E ++ CPt X (chs w i (some (.inr q)))) ++ rest).Perm (rowC X q :: ((E ++ CPt X (chs w i none)) ++ rest)) := by
    intro E q
    have h2 : (E ++ CPt X (chs w i (some (.inr q)))).Perm (rowC X q :: (E ++ CPt X (chs w i none))) := (List.Perm.append_left _ (p1 q)).trans List.perm_middle
    exact (List.Perm.append_right rest h2)
  have ew : chs w i (some (.inr r)) = w := by
    obtain ⟨a1, a2, a3, a4, a5⟩ := w
    have : va_up a4 i (some (.inr r)) = a4 := by
      funext j
      by_cases e : j = i
      · subst e; simp only [va_up, if_true]; exact hh.symm
      · simp only [va_up, if_neg e]
    simp only [chs, this]
  have eE : (CP X ca fa (chs w i (some (.inr r')))).take 23 = (CP X ca fa w).take 23 := by
    have hv : hval (chd w i) = .ref r'.1 := by rw [hh, hr]; rfl
    match i, hi, hh, hv with
    | 0, _, _, hv => show (FP X fa (cfe w) ++ [_, _, _, _, _, _, _, (ca 10, Sum.inr (4, [hval (some (.inr r'))])), _, _, _, _, _, _, _]) = (FP X fa (cfe w) ++ [_, _, _, _, _, _, _, (ca 10, Sum.inr (4, [hval (chd w 0)])), _, _, _, _, _, _, _]); rw [hv]; rfl
    | 1, _, _, hv => show (FP X fa (cfe w) ++ [_, _, _, _, _, _, _, _, (ca 11, Sum.inr (4, [hval (some (.inr r'))])), _, _, _, _, _, _]) = (FP X fa (cfe w) ++ [_, _, _, _, _, _, _, _, (ca 11, Sum.inr (4, [hval (chd w 1)])), _, _, _, _, _, _]); rw [hv]; rfl
    | 2, _, _, hv => show (FP X fa (cfe w) ++ [_, _, _, _, _, _, _, _, _, (ca 12, Sum.inr (4, [hval (some (.inr r'))])), _, _, _, _, _]) = (FP X fa (cfe w) ++ [_, _, _, _, _, _, _, _, _, (ca 12, Sum.inr (4, [hval (chd w 2)])), _, _, _, _, _]); rw [hv]; rfl
    | 3, _, _, hv => show (FP X fa (cfe w) ++ [_, _, _, _, _, _, _, _, _, _, (ca 13, Sum.inr (4, [hval (some (.inr r'))])), _, _, _, _]) = (FP X fa (cfe w) ++ [_, _, _, _, _, _, _, _, _, _, (ca 13, Sum.inr (4, [hval (chd w 3)])), _, _, _, _]); rw [hv]; rfl
    | 4, _, _, hv => show (FP X fa (cfe w) ++ [_, _, _, _, _, _, _, _, _, _, _, (ca 14, Sum.inr (4, [hval (some (.inr r'))])), _, _, _]) = (FP X fa (cfe w) ++ [_, _, _, _, _, _, _, _, _, _, _, (ca 14, Sum.inr (4, [hval (chd w 4)])), _, _, _]); rw [hv]; rfl
    | 5, _, _, hv => show (FP X fa (cfe w) ++ [_, _, _, _, _, _, _, _, _, _, _, _, (ca 15, Sum.inr (4, [hval (some (.inr r'))])), _, _]) = (FP X fa (cfe w) ++ [_, _, _, _, _, _, _, _, _, _, _, _, (ca 15, Sum.inr (4, [hval (chd w 5)])), _, _]); rw [hv]; rfl
    | 6, _, _, hv => show (FP X fa (cfe w) ++ [_, _, _, _, _, _, _, _, _, _, _, _, _, (ca 16, Sum.inr (4, [hval (some (.inr r'))])), _]) = (FP X fa (cfe w) ++ [_, _, _, _, _, _, _, _, _, _, _, _, _, (ca 16, Sum.inr (4, [hval (chd w 6)])), _]); rw [hv]; rfl
    | 7, _, _, hv => show (FP X fa (cfe w) ++ [_, _, _, _, _, _, _, _, _, _, _, _, _, _, (ca 17, Sum.inr (4, [hval (some (.inr r'))]))]) = (FP X fa (cfe w) ++ [_, _, _, _, _, _, _, _, _, _, _, _, _, _, (ca 17, Sum.inr (4, [hval (chd w 7)]))]); rw [hv]; rfl
  have eT : ∀ v : CW, CP X ca fa v = (CP X ca fa v).take 23 ++ CPt X v := fun v => rfl
  have q1 : (CP X ca fa w ++ rest).Perm (rowC X r :: (((CP X ca fa w).take 23 ++ CPt X (chs w i none)) ++ rest)) := by
    have := p2 ((CP X ca fa w).take 23) r
    rw [ew] at this
    exact this
  have q2 : (CP X ca fa (chs w i (some (.inr r'))) ++ rest).Perm (rowC X r' :: (((CP X ca fa w).take 23 ++ CPt X (chs w i none)) ++ rest)) := by
    rw [eT (chs w i (some (.inr r'))), eE]
    exact p2 ((CP X ca fa w).take 23) r'
  obtain ⟨hlt, hkv⟩ := List.getElem?_eq_some_iff.mp hk
  have q3 : (CP X ca fa w ++ rest).Perm (rowC X r :: (CP X ca fa w ++ rest).eraseIdx k) := era_perm _ _ _ hk
  have q4 : (((CP X ca fa w).take 23 ++ CPt X (chs w i none)) ++ rest).Perm ((CP X ca fa w ++ rest).eraseIdx k) := (q1.symm.trans q3).cons_inv
  exact hG.perm (((set_perm (rowC X r') _ _ hlt).trans (q4.symm.cons _)).trans q2.symm)
noncomputable def fC_set (w : CW) (x1 x2 : Int32) (v : Int64) : Option (Int32 × CW) :=
  (fC_isShelf x1).bind fun a => if a = 0 then fC_no w (-2) else
  (fC_rowIn w x1).bind fun q => match q with
    | .inl b => fC_no w b
    | .inr r => (g40 r).bind fun _ => if x2 < 0 ∨ r.2.2.1 ≤ x2.toNatClampNeg then fC_no w (-2) else some (1, chs w x1.toNatClampNeg (some (.inr (rput r x2 v))))
noncomputable def fC_element (w : CW) (x1 x2 : Int32) : Option Int64 :=
  (fC_isShelf x1).bind fun a => if a = 0 then some 0 else
  (fC_rowIn w x1).bind fun q => match q with
    | .inl _ => some 0
    | .inr r => (g40 r).bind fun _ => if x2 < 0 ∨ r.2.2.1 ≤ x2.toNatClampNeg then some 0 else some (fRel r x2)
theorem nc_AIO_X5 {X : CX} {s : State} (h : KK X s) : va_Nc "java/lang/ArrayIndexOutOfBoundsException" RX5 s := h.nc (flat_of_before _ h.1.2.1 (Cond.not (.castable "java/lang/ArrayIndexOutOfBoundsException" "PointAtWhoIsLost$Refused")) (by decide +kernel))
section SETM
variable {p : Program} {l : Launch} {e : Env} {R : Room} {s : State} {m : MethodId} {args : Array Value} {below : List Frame} {meth : Method} {c : Code} {H : Heap} {locs : List Loc} {cells slots : Nat} {Q : State → Prop} {cc : ByteArray} {nL pc : Nat} {ls : Array Slot} {st : List Value} {X : CX} {rest ws : va_W} {ca fa : Nat → Nat}
theorem w_by (B : CallFix p m c cc nL s args lw_all RX0) (hK : KK X s) {q : Nat} {b : Int32} (hP : va_P X.2.2.1 vwCl (XC q b :: ws) H) (hdg : decode cc pc = .ok (.getfield 117, 3)) (kk : W p l e R s m args below meth c H locs cells slots Q (F0 m (pc + 3) ls (.int b :: st))) : W p l e R s m args below meth c H locs cells slots Q (F0 m pc ls (.ref q :: st)) :=
  w_get B hK hP 0 6 rfl rfl in_X5 (by decide) q403 rfl rfl hdg kk
theorem w_lretX {S : Type} {post : Option Value → S → Prop} {wsOf : S → va_W} {own : String} (B : CallFix p m c cc nL s args lw_all own) (hr : meth.sig.returnType = some .long) (hlk : meth.locks = false) {r : Int64} (u : S) (hp : post (some (.long r)) u) (hG : GG X (wsOf u) s.heap H locs) (hdg : decode cc pc = .ok (.lreturn, 1)) :
    W p l e R s m args below meth c H locs cells slots (MQ below (QX X post wsOf) args s cells slots (Az X)) (F0 m pc ls [.long r]) :=
  W.lret B.1 B.2.1 hr (fun t ht _ => ⟨some (.long r), u, rfl, hp, by rw [ht]; exact hG.1, hG.2.1, hG.2.2.F ht⟩) hG.2.2.2.2 hdg (hlocks := hlk)
end SETM
set_option maxHeartbeats 4000000 in
theorem tC_set (l : Launch) (hlt : l.stackTraces = false) (X : CX) (ca fa : Nat → Nat) (rest : va_W) (w w' : CW) (x1 x2 : Int32) (v : Int64) (r : Int32) (hf : fC_set w x1 x2 v = some (r, w')) : HX l yX0_set cX0_set 6 (some .int) [(14, 25, 26, 104), (14, 25, 38, 121)] 9 3 222 10263 [.ref (ca 0), .int x1, .int x2, .long v] X (CP X ca fa w ++ rest) (fun v (_ : Unit) => v = some (.int r)) (fun _ => CP X ca fa w' ++ rest) := by
  refine HX.mk (by decide) (Nat.le_of_ble_eq_true rfl) ?_
  intro p e s m below meth c B hr hlk htab hK hG ls hl
  have hx := B.1
  have hb := B.2.1
  have hl : lv_has ls 6 [(0, .ref (ca 0)), (1, .int x1), (2, .int x2), (3, .long v)] := hl
  unfold fC_set at hf
  refine lv_iload_n hx hb dX0_set_0 rfl (lv_at hl 1 rfl) ?_
  obtain ⟨a, e_1, hf⟩ := bo hf
  refine cC_isShelf B e_1 ⟨Nat.le_of_ble_eq_true rfl, Nat.le_of_ble_eq_true rfl⟩ ⟨Nat.zero_le _, Nat.zero_le _⟩ hl.1 (Nat.le_of_ble_eq_true rfl) dX0_set_1 ?_
  refine lv_if_ne (tgt := 14) hx hb dX0_set_4 (by decide) (fun c_1 => ?_) (fun c_1 => ?_)
  · have hf := ifn c_1 hf
    obtain ⟨q, e_2, hf⟩ := bo hf
    refine lv_aload_n hx hb dX0_set_14 rfl (lv_at hl 0 rfl) ?_
    refine lv_iload_n hx hb dX0_set_15 rfl (lv_at hl 1 rfl) ?_
    match q, e_2, hf with
    | .inl b, e_2, hf =>
      refine w_afterT (w_rV_TX (As := [.int x1]) B hK hG (tC_rowIn_x l X ca fa rest w x1 b e_2) (lw_V q377 q379 qs3 q87 q380) 8 rfl rfl (n := 1) (by decide +kernel) ⟨Nat.le_of_ble_eq_true rfl, Nat.le_of_ble_eq_true rfl⟩ ⟨Nat.le_of_ble_eq_true rfl, Nat.le_of_ble_eq_true rfl⟩ rfl hl.1 rfl (Nat.le_of_ble_eq_true rfl) dX0_set_16) hG.2.2 (fun x u H1 locs1 hp hG1 => ?_)
      obtain ⟨rfl, hE⟩ := hp
      refine w_catchA B hK htab (by decide) (by decide) q357 (hE.at1 hK) q383 q382 ?_
      refine lv_astore hx hb dX0_set_26 hl (by decide) rfl (fun ls hl => ?_)
      refine lv_aload_n hx hb dX0_set_28 rfl (lv_at hl 1 rfl) ?_
      refine lv_aload hx hb dX0_set_29 (lv_at hl 0 rfl) ?_
      refine w_by B hK hG1.1 dX0_set_31 ?_
      have hG2 := hG1.sublist (List.sublist_cons_self _ _)
      refine cC_no B hK hG2 hf rfl ⟨Nat.le_of_ble_eq_true rfl, Nat.le_of_ble_eq_true rfl⟩ ⟨Nat.le_of_ble_eq_true rfl, Nat.le_of_ble_eq_true rfl⟩ hl.1 (Nat.le_of_ble_eq_true rfl) dX0_set_34 (fun H locs hG => ?_)
      refine W.widen (k := 3) (n := 222) (Nat.le_of_ble_eq_true rfl) (Nat.le_of_ble_eq_true rfl) ?_
      exact w_iretX B hr hlk () rfl hG dX0_set_37
    | .inr k, e_2, hf =>
      obtain ⟨hu, hh⟩ := rowIn_r e_2
      obtain ⟨u4, h40, hf⟩ := bo hf
      have h40 := g40_in h40
      refine w_afterR (w_rV_RO (As := [.int x1]) B hK hG.2.2 hG.1 (tC_rowIn l X ca fa rest w x1 k e_2) (lw_V q377 q379 qs3 q87 q380) 8 rfl rfl (n := 1) (by decide +kernel) ⟨Nat.le_of_ble_eq_true rfl, Nat.le_of_ble_eq_true rfl⟩ ⟨Nat.le_of_ble_eq_true rfl, Nat.le_of_ble_eq_true rfl⟩ rfl hl.1 rfl (Nat.le_of_ble_eq_true rfl) dX0_set_16) ?_
      refine lv_iload_n hx hb dX0_set_19 rfl (lv_at hl 2 rfl) ?_
      refine lv_lload_n hx hb dX0_set_20 rfl (lv_at hl 3 rfl) ?_
      obtain ⟨pos, hpos⟩ := List.getElem?_of_mem (cp_row (X := X) (ca := ca) (fa := fa) (rest := rest) (vp_lt (inb_in hu)) hh)
      by_cases hin : x2 < 0 ∨ k.2.2.1 ≤ x2.toNatClampNeg
      · have hf := ifp hin hf
        refine w_afterT (w_rS_TX (As := [.ref k.1, .int x2, .long v]) B hK hG (tC_puts_x l hlt X k _ pos hpos x2 v (by omega) (fun h => h hin)) (lw_S q408 q409 q87 q410) (n := 3) (by decide +kernel) ⟨Nat.le_of_ble_eq_true rfl, Nat.le_of_ble_eq_true rfl⟩ ⟨Nat.le_of_ble_eq_true rfl, Nat.le_of_ble_eq_true rfl⟩ rfl hl.1 rfl (Nat.le_of_ble_eq_true rfl) dX0_set_21) hG.2.2 (fun x u H1 locs1 hp hG1 => ?_)
        refine w_catchB B hK htab (by decide) (by decide) q357 (nc_AIO_X5 hK) (by decide) (by decide) q358 (hp.at1 hK) q373 q359 ?_
        refine lv_astore hx hb dX0_set_38 hl (by decide) rfl (fun ls hl => ?_)
        refine lv_aload_n hx hb dX0_set_40 rfl (lv_at hl 1 rfl) ?_
        refine lv_bipush (v := (-2)) hx hb dX0_set_41 (by decide) ?_
        refine cC_no B hK hG1 hf rfl ⟨Nat.le_of_ble_eq_true rfl, Nat.le_of_ble_eq_true rfl⟩ ⟨Nat.le_of_ble_eq_true rfl, Nat.le_of_ble_eq_true rfl⟩ hl.1 (Nat.le_of_ble_eq_true rfl) dX0_set_43 (fun H locs hG => ?_)
        refine W.widen (k := 3) (n := 222) (Nat.le_of_ble_eq_true rfl) (Nat.le_of_ble_eq_true rfl) ?_
        exact w_iretX B hr hlk () rfl hG dX0_set_46
      · have hf := ifn hin hf
        cases Option.some.inj hf
        refine w_afterWv (w_rS_RW (As := [.ref k.1, .int x2, .long v]) B hK hG (tC_puts l X k _ pos hpos x2 v hin) (lw_S q408 q409 q87 q410) (n := 3) (by decide +kernel) ⟨Nat.le_of_ble_eq_true rfl, Nat.le_of_ble_eq_true rfl⟩ ⟨Nat.le_of_ble_eq_true rfl, Nat.le_of_ble_eq_true rfl⟩ rfl hl.1 rfl (Nat.le_of_ble_eq_true rfl) dX0_set_21) hG.2.2 (fun H1 locs1 hG1 => ?_)
        have hG2 := GG.reRow (vp_lt (inb_in hu)) hh (rput_1 k x2 v) hpos hG1
        refine lv_iconst (v := 1) hx hb dX0_set_24 (by decide) ?_
        refine W.widen (k := 3) (n := 222) (Nat.le_of_ble_eq_true rfl) (Nat.le_of_ble_eq_true rfl) ?_
        exact w_iretX B hr hlk () rfl hG2 dX0_set_25
  · have hf := ifp c_1 hf
    refine lv_aload_n hx hb dX0_set_7 rfl (lv_at hl 0 rfl) ?_
    refine lv_bipush (v := (-2)) hx hb dX0_set_8 (by decide) ?_
    refine cC_no B hK hG hf rfl ⟨Nat.le_of_ble_eq_true rfl, Nat.le_of_ble_eq_true rfl⟩ ⟨Nat.zero_le _, Nat.zero_le _⟩ hl.1 (Nat.le_of_ble_eq_true rfl) dX0_set_10 (fun H locs hG => ?_)
    refine W.widen (k := 3) (n := 222) (Nat.le_of_ble_eq_true rfl) (Nat.le_of_ble_eq_true rfl) ?_
    exact w_iretX B hr hlk () rfl hG dX0_set_13
set_option maxHeartbeats 4000000 in
theorem tC_element (l : Launch) (hlt : l.stackTraces = false) (X : CX) (ca fa : Nat → Nat) (rest : va_W) (w : CW) (x1 x2 : Int32) (r : Int64) (hf : fC_element w x1 x2 = some r) : HX l yX0_element cX0_element 4 (some .long) [(9, 18, 19, 104), (9, 18, 22, 121)] 9 3 222 10261 [.ref (ca 0), .int x1, .int x2] X (CP X ca fa w ++ rest) (fun v (_ : Unit) => v = some (.long r)) (fun _ => CP X ca fa w ++ rest) := by
  refine HX.mk (by decide) (Nat.le_of_ble_eq_true rfl) ?_
  intro p e s m below meth c B hr hlk htab hK hG ls hl
  have hx := B.1
  have hb := B.2.1
  have hl : lv_has ls 4 [(0, .ref (ca 0)), (1, .int x1), (2, .int x2)] := hl
  unfold fC_element at hf
  refine lv_iload_n hx hb dX0_element_0 rfl (lv_at hl 1 rfl) ?_
  obtain ⟨a, e_1, hf⟩ := bo hf
  refine cC_isShelf B e_1 ⟨Nat.le_of_ble_eq_true rfl, Nat.le_of_ble_eq_true rfl⟩ ⟨Nat.zero_le _, Nat.zero_le _⟩ hl.1 (Nat.le_of_ble_eq_true rfl) dX0_element_1 ?_
  refine lv_if_ne (tgt := 9) hx hb dX0_element_4 (by decide) (fun c_1 => ?_) (fun c_1 => ?_)
  · have hf := ifn c_1 hf
    obtain ⟨q, e_2, hf⟩ := bo hf
    refine lv_aload_n hx hb dX0_element_9 rfl (lv_at hl 0 rfl) ?_
    refine lv_iload_n hx hb dX0_element_10 rfl (lv_at hl 1 rfl) ?_
    match q, e_2, hf with
    | .inl b, e_2, hf =>
      cases Option.some.inj hf
      refine w_afterT (w_rV_TX (As := [.int x1]) B hK hG (tC_rowIn_x l X ca fa rest w x1 b e_2) (lw_V q377 q379 qs3 q87 q380) 8 rfl rfl (n := 1) (by decide +kernel) ⟨Nat.le_of_ble_eq_true rfl, Nat.le_of_ble_eq_true rfl⟩ ⟨Nat.le_of_ble_eq_true rfl, Nat.le_of_ble_eq_true rfl⟩ rfl hl.1 rfl (Nat.le_of_ble_eq_true rfl) dX0_element_11) hG.2.2 (fun x u H1 locs1 hp hG1 => ?_)
      obtain ⟨rfl, hE⟩ := hp
      refine w_catchA B hK htab (by decide) (by decide) q357 (hE.at1 hK) q383 q382 ?_
      refine lv_astore_n hx hb dX0_element_19 rfl hl (by decide) rfl (fun ls hl => ?_)
      have hG2 := hG1.sublist (List.sublist_cons_self _ _)
      refine lv_lconst (v := 0) hx hb dX0_element_20 (by decide) ?_
      refine W.widen (k := 3) (n := 222) (Nat.le_of_ble_eq_true rfl) (Nat.le_of_ble_eq_true rfl) ?_
      exact w_lretX B hr hlk () rfl hG2 dX0_element_21
    | .inr k, e_2, hf =>
      obtain ⟨hu, hh⟩ := rowIn_r e_2
      obtain ⟨u4, h40, hf⟩ := bo hf
      have h40 := g40_in h40
      refine w_afterR (w_rV_RO (As := [.int x1]) B hK hG.2.2 hG.1 (tC_rowIn l X ca fa rest w x1 k e_2) (lw_V q377 q379 qs3 q87 q380) 8 rfl rfl (n := 1) (by decide +kernel) ⟨Nat.le_of_ble_eq_true rfl, Nat.le_of_ble_eq_true rfl⟩ ⟨Nat.le_of_ble_eq_true rfl, Nat.le_of_ble_eq_true rfl⟩ rfl hl.1 rfl (Nat.le_of_ble_eq_true rfl) dX0_element_11) ?_
      refine lv_iload_n hx hb dX0_element_14 rfl (lv_at hl 2 rfl) ?_
      have hmem := (cp_row (X := X) (ca := ca) (fa := fa) (rest := rest) (vp_lt (inb_in hu)) hh)
      by_cases hin : x2 < 0 ∨ k.2.2.1 ≤ x2.toNatClampNeg
      · have hf := ifp hin hf
        cases Option.some.inj hf
        refine w_afterT (w_rS_TX (As := [.ref k.1, .int x2]) B hK hG (tC_elementOf_x l hlt X k _ hmem x2 (by omega) (fun h => h hin)) (lw_S q470 q471 q87 q472) (n := 2) (by decide +kernel) ⟨Nat.le_of_ble_eq_true rfl, Nat.le_of_ble_eq_true rfl⟩ ⟨Nat.le_of_ble_eq_true rfl, Nat.le_of_ble_eq_true rfl⟩ rfl hl.1 rfl (Nat.le_of_ble_eq_true rfl) dX0_element_15) hG.2.2 (fun x u H1 locs1 hp hG1 => ?_)
        refine w_catchB B hK htab (by decide) (by decide) q357 (nc_AIO_X5 hK) (by decide) (by decide) q358 (hp.at1 hK) q373 q359 ?_
        refine lv_astore_n hx hb dX0_element_22 rfl hl (by decide) rfl (fun ls hl => ?_)
        refine lv_lconst (v := 0) hx hb dX0_element_23 (by decide) ?_
        refine W.widen (k := 3) (n := 222) (Nat.le_of_ble_eq_true rfl) (Nat.le_of_ble_eq_true rfl) ?_
        exact w_lretX B hr hlk () rfl hG1 dX0_element_24
      · have hf := ifn hin hf
        cases Option.some.inj hf
        refine w_afterR (w_rS_RO (As := [.ref k.1, .int x2]) B hK hG.2.2 hG.1 (tC_elementOf l X k _ hmem x2 hin) (lw_S q470 q471 q87 q472) (n := 2) (by decide +kernel) ⟨Nat.le_of_ble_eq_true rfl, Nat.le_of_ble_eq_true rfl⟩ ⟨Nat.le_of_ble_eq_true rfl, Nat.le_of_ble_eq_true rfl⟩ rfl hl.1 rfl (Nat.le_of_ble_eq_true rfl) dX0_element_15) ?_
        refine W.widen (k := 3) (n := 222) (Nat.le_of_ble_eq_true rfl) (Nat.le_of_ble_eq_true rfl) ?_
        exact w_lretX B hr hlk () rfl hG dX0_element_18
  · have hf := ifp c_1 hf
    cases Option.some.inj hf
    refine lv_lconst (v := 0) hx hb dX0_element_7 (by decide) ?_
    refine W.widen (k := 3) (n := 222) (Nat.le_of_ble_eq_true rfl) (Nat.le_of_ble_eq_true rfl) ?_
    exact w_lretX B hr hlk () rfl hG dX0_element_8
