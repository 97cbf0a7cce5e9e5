set_option maxRecDepth 100000
/-! what shelves hold -/
def hc3 {β : Type} (h : HV) (a : Option β) (f : PV → Option β) (g : RV → Option β) : Option β := match h with
  | none => a
  | some (.inl P) => f P
  | some (.inr r) => g r
theorem inb_in {n : Nat} {i : Int32} {u : Unit} (h : inb n i = some u) : vp_in i n := by
  unfold inb at h
  by_cases hc : i < 0 ∨ n ≤ i.toNatClampNeg
  · rw [if_pos hc] at h; cases h
  · exact hc
theorem vp_lt {i : Int32} {n : Nat} (h : vp_in i n) : i.toNatClampNeg < n := Nat.not_le.mp fun q => h (Or.inr q)
theorem cp_sheet {X : CX} {ca fa : Nat → Nat} {w : CW} {rest : va_W} {i : Nat} (hi : i < 8) : (CP X ca fa w ++ rest)[15 + i]? = some (ca (10 + i), .inr (4, [hval (chd w i)])) := by
  match i, hi with
  | 0, _ => rfl
  | 1, _ => rfl
  | 2, _ => rfl
  | 3, _ => rfl
  | 4, _ => rfl
  | 5, _ => rfl
  | 6, _ => rfl
  | 7, _ => rfl
def rowN (k : Fin 5) : String := match k with
  | 0 => "[B"
  | 1 => "[S"
  | 2 => "[I"
  | 3 => "[J"
  | 4 => "[Z"
theorem cp_row {X : CX} {ca fa : Nat → Nat} {w : CW} {rest : va_W} {i : Nat} {r : RV} (hi : i < 8) (h : chd w i = some (.inr r)) : rowC X r ∈ CP X ca fa w ++ rest := by
  refine List.mem_append_left _ (List.mem_append_right _ (List.mem_append_right _ (List.mem_append_right _ (List.mem_append_left _ ?_))))
  refine List.mem_flatMap.mpr ⟨i, List.mem_range.mpr hi, ?_⟩
  rw [h]
  exact List.mem_cons_self
theorem row_recv {X : CX} {s : State} {ws : va_W} {H : Heap} {r : RV} (hK : KK X s) (hP : va_P X.2.2.1 vwCl ws H) (hm : rowC X r ∈ ws) : ∃ cell : Cell, H[r.1]? = some cell ∧ cell.vm.isStatics = false ∧ s.vm.findClass (rowN r.2.1) = some cell.cls := by
  obtain ⟨ra, rk, rn, rf, rg⟩ := r
  have h := va_P_mem hP _ hm
  match rk, h with
  | 0, h => exact ⟨_, h, rfl, (hK.k.2 3 _ rfl).2⟩
  | 1, h => exact ⟨_, h, rfl, (hK.k.2 4 _ rfl).2⟩
  | 2, h => exact ⟨_, h, rfl, (hK.k.2 0 _ rfl).2⟩
  | 3, h => exact ⟨_, h, rfl, (hK.k.2 1 _ rfl).2⟩
  | 4, h => exact ⟨_, h, rfl, (hK.k.2 2 _ rfl).2⟩
theorem KK.nc {X : CX} {s : State} {C T : String} (h : KK X s) (hw : (Cond.not (.castable C T)).before #[Value.ref X.2.1] X.1 = true) : va_Nc C T s := va_Nc.moved h.2.1.alike (va_Nc.of hw)
theorem nc_rowPost {X : CX} {s : State} (h : KK X s) (k : Fin 5) : va_Nc (rowN k) RX6 s := by
  have hs := flat_of_before _ h.1.2.1
  match k with
  | 0 => exact h.nc (hs (Cond.not (.castable "[B" "PointAtWhoIsLost$Post")) (by decide +kernel))
  | 1 => exact h.nc (hs (Cond.not (.castable "[S" "PointAtWhoIsLost$Post")) (by decide +kernel))
  | 2 => exact h.nc (hs (Cond.not (.castable "[I" "PointAtWhoIsLost$Post")) (by decide +kernel))
  | 3 => exact h.nc (hs (Cond.not (.castable "[J" "PointAtWhoIsLost$Post")) (by decide +kernel))
  | 4 => exact h.nc (hs (Cond.not (.castable "[Z" "PointAtWhoIsLost$Post")) (by decide +kernel))
section WJ
variable {p : Program} {l : Launch} {e : Env} {R : Room} {s : State} {m : MethodId} {args : Array Value} {below : List Frame} {meth : Method} {c : Code} {H : Heap} {locs : List Loc} {cells slots : Nat} {Q : State → Prop} {cc : ByteArray} {nL pc : Nat} {ls : Array Slot} {st st0 : List Value} {own : String} {X : CX} {ws rest : va_W} {ca fa : Nat → Nat} {w : CW}
theorem co_sh_l (B : CallFix p m c cc nL s args lw_all own) (hK : KK X s) (hP : va_P X.2.2.1 vwCl (CP X ca fa w ++ rest) H) {i : Int32} {u : Unit} (hu : inb 8 i = some u) (hdg : decode cc pc = .ok (.aaload, 1)) (kk : W p l e R s m args below meth c H locs cells slots Q (F0 m (pc + 1) ls (.ref (ca (10 + i.toNatClampNeg)) :: st))) : W p l e R s m args below meth c H locs cells slots Q (F0 m pc ls (.int i :: .ref (ca 5) :: st)) :=
  va_aldq (C := RX3) B.1 B.2.1 hK.k hP 14 6 rfl rfl (inb_in hu) hdg kk
theorem co_held (B : CallFix p m c cc nL s args lw_all RX0) (hK : KK X s) (hP : va_P X.2.2.1 vwCl (CP X ca fa w ++ rest) H) {i : Int32} {u : Unit} (hu : inb 8 i = some u) {h : HV} (hh : chd w i.toNatClampNeg = h) (hdg : decode cc pc = .ok (.getfield 98, 3)) (kk : W p l e R s m args below meth c H locs cells slots Q (F0 m (pc + 3) ls (hval h :: st))) : W p l e R s m args below meth c H locs cells slots Q (F0 m pc ls (.ref (ca (10 + i.toNatClampNeg)) :: st)) := by
  subst hh
  exact w_get B hK hP (15 + i.toNatClampNeg) 0 (cp_sheet (vp_lt (inb_in hu))) rfl in_X3 (by decide) q216 rfl rfl hdg kk
theorem w_instP (B : CallFix p m c cc nL s args lw_all RX0) (hK : KK X s) {P : PV} (hP : va_P X.2.2.1 vwCl (PC P :: ws) H) (hdg : decode cc pc = .ok (.instanceof 13, 3)) (kk : W p l e R s m args below meth c H locs cells slots Q (F0 m (pc + 3) ls (.int 1 :: st))) : W p l e R s m args below meth c H locs cells slots Q (F0 m pc ls (.ref P.1 :: st)) := by
  obtain ⟨pa, pk, pn, px, pz⟩ := P
  match pk, hP with
  | 0, hP => exact va_instS B.1 B.2.1 B.2.2.2.1 (B.2.2.2.2 _ q381) (hK.k.1 5 _ rfl).2 (va_recv (q := (RX6, TX6, 3)) hK.k hP rfl (q0 := 0) rfl) hdg kk
  | 1, hP => exact va_instY B.1 B.2.1 B.2.2.2.1 (B.2.2.2.2 _ q381) (hK.castW q1954) (va_recv (q := (RX7, TX7, 3)) hK.k hP rfl (q0 := 0) rfl) hdg kk
  | 2, hP => exact va_instY B.1 B.2.1 B.2.2.2.1 (B.2.2.2.2 _ q381) (hK.castW q1955) (va_recv (q := (RX8, TX8, 3)) hK.k hP rfl (q0 := 0) rfl) hdg kk
  | 3, hP => exact va_instY B.1 B.2.1 B.2.2.2.1 (B.2.2.2.2 _ q381) (hK.castW q1958) (va_recv (q := (RX9, TX9, 3)) hK.k hP rfl (q0 := 0) rfl) hdg kk
  | 4, hP => exact va_instY B.1 B.2.1 B.2.2.2.1 (B.2.2.2.2 _ q381) (hK.castW q1956) (va_recv (q := (RX10, TX10, 3)) hK.k hP rfl (q0 := 0) rfl) hdg kk
  | 5, hP => exact va_instY B.1 B.2.1 B.2.2.2.1 (B.2.2.2.2 _ q381) (hK.castW q1957) (va_recv (q := (RX11, TX11, 3)) hK.k hP rfl (q0 := 0) rfl) hdg kk
theorem w_castP (B : CallFix p m c cc nL s args lw_all RX0) (hK : KK X s) {P : PV} (hP : va_P X.2.2.1 vwCl (PC P :: ws) H) (hdg : decode cc pc = .ok (.checkcast 13, 3)) (kk : W p l e R s m args below meth c H locs cells slots Q (F0 m (pc + 3) ls (.ref P.1 :: st))) : W p l e R s m args below meth c H locs cells slots Q (F0 m pc ls (.ref P.1 :: st)) := by
  obtain ⟨pa, pk, pn, px, pz⟩ := P
  match pk, hP with
  | 0, hP => exact va_castS B.1 B.2.1 B.2.2.2.1 (B.2.2.2.2 _ q381) (hK.k.1 5 _ rfl).2 (va_recv (q := (RX6, TX6, 3)) hK.k hP rfl (q0 := 0) rfl) hdg kk
  | 1, hP => exact va_castY B.1 B.2.1 B.2.2.2.1 (B.2.2.2.2 _ q381) (hK.castW q1954) (va_recv (q := (RX7, TX7, 3)) hK.k hP rfl (q0 := 0) rfl) hdg kk
  | 2, hP => exact va_castY B.1 B.2.1 B.2.2.2.1 (B.2.2.2.2 _ q381) (hK.castW q1955) (va_recv (q := (RX8, TX8, 3)) hK.k hP rfl (q0 := 0) rfl) hdg kk
  | 3, hP => exact va_castY B.1 B.2.1 B.2.2.2.1 (B.2.2.2.2 _ q381) (hK.castW q1958) (va_recv (q := (RX9, TX9, 3)) hK.k hP rfl (q0 := 0) rfl) hdg kk
  | 4, hP => exact va_castY B.1 B.2.1 B.2.2.2.1 (B.2.2.2.2 _ q381) (hK.castW q1956) (va_recv (q := (RX10, TX10, 3)) hK.k hP rfl (q0 := 0) rfl) hdg kk
  | 5, hP => exact va_castY B.1 B.2.1 B.2.2.2.1 (B.2.2.2.2 _ q381) (hK.castW q1957) (va_recv (q := (RX11, TX11, 3)) hK.k hP rfl (q0 := 0) rfl) hdg kk
theorem w_instRow (B : CallFix p m c cc nL s args lw_all RX0) (hK : KK X s) (hP : va_P X.2.2.1 vwCl ws H) {r : RV} (hm : rowC X r ∈ ws) (hdg : decode cc pc = .ok (.instanceof 13, 3)) (kk : W p l e R s m args below meth c H locs cells slots Q (F0 m (pc + 3) ls (.int 0 :: st))) : W p l e R s m args below meth c H locs cells slots Q (F0 m pc ls (.ref r.1 :: st)) :=
  va_instNo B.1 B.2.1 B.2.2.2.1 (B.2.2.2.2 _ q381) (nc_rowPost hK r.2.1) (row_recv hK hP hm) hdg kk
end WJ
/-! a shelf comes to hold a post, or nothing -/
def chs (c : CW) (i : Nat) (h : HV) : CW := (c.1, c.2.1, c.2.2.1, va_up c.2.2.2.1 i h, c.2.2.2.2)
theorem flat_sub {α β : Type} (g g' : α → List β) (h : ∀ a, (g' a).Sublist (g a)) : ∀ L : List α, (L.flatMap g').Sublist (L.flatMap g) := by
  intro L
  induction L with
  | nil => exact List.Sublist.refl _
  | cons a t ih =>
    rw [List.flatMap_cons, List.flatMap_cons]
    exact List.Sublist.append (h a) ih
theorem GG.sublist {X : CX} {ws ws' : va_W} {H0 H : Heap} {locs : List Loc} (h : GG X ws H0 H locs) (hs : ws'.Sublist ws) : GG X ws' H0 H locs := by
  refine ⟨va_P_of h.1 (fun q hq => hs.subset hq), ?_, h.2.2⟩
  have hd := h.2.1
  rw [va_D_iff] at hd ⊢
  exact ⟨List.Pairwise.sublist (hs.map Prod.fst) hd.1, fun q hq => hd.2 q (hs.subset hq)⟩
theorem rows_sub {X : CX} {held : Nat → HV} {i : Nat} {h : HV} (hr : ∀ r, h ≠ some (.inr r)) : (rowsC X (va_up held i h)).Sublist (rowsC X held) := by
  refine flat_sub _ _ (fun j => ?_) _
  unfold va_up
  by_cases hj : j = i
  · rw [if_pos hj]
    match h, hr with
    | none, _ => exact List.nil_sublist _
    | some (.inl P), _ => exact List.nil_sublist _
    | some (.inr r), hr => exact absurd rfl (hr r)
  · rw [if_neg hj]
    exact List.Sublist.refl _
theorem GG.hold {X : CX} {ca fa : Nat → Nat} {w : CW} {rest : va_W} {H0 H : Heap} {locs : List Loc} {i : Nat} {h : HV} (hi : i < 8) (hr : ∀ r, h ≠ some (.inr r)) (hG : GG X ((CP X ca fa w ++ rest).set (15 + i) (ca (10 + i), .inr (4, [hval h]))) H0 H locs) : GG X (CP X ca fa (chs w i h) ++ rest) H0 H locs := by
  refine hG.sublist ?_
  have hs : (CPt X (chs w i h)).Sublist (CPt X w) := List.Sublist.append (List.Sublist.refl _) (List.Sublist.append (rows_sub hr) (List.Sublist.refl _))
  have key : ∀ E : va_W, ((E ++ CPt X (chs w i h)) ++ rest).Sublist ((E ++ CPt X w) ++ rest) := fun E => List.Sublist.append (List.Sublist.append (List.Sublist.refl _) hs) (List.Sublist.refl _)
  have k2 := key (((CP X ca fa w).take 23).set (15 + i) (ca (10 + i), .inr (4, [hval h])))
  match i, hi with
  | 0, _ => exact k2
  | 1, _ => exact k2
  | 2, _ => exact k2
  | 3, _ => exact k2
  | 4, _ => exact k2
  | 5, _ => exact k2
  | 6, _ => exact k2
  | 7, _ => exact k2
section WK
variable {p : Program} {l : Launch} {e : Env} {R : Room} {s : State} {m : MethodId} {args : Array Value} {below : List Frame} {meth : Method} {c : Code} {H : Heap} {locs : List Loc} {cells slots : Nat} {Q : State → Prop} {cc : ByteArray} {nL pc : Nat} {ls : Array Slot} {st : List Value} {X : CX} {rest : va_W} {ca fa : Nat → Nat} {w w' : CW}
theorem co_hput (B : CallFix p m c cc nL s args lw_all RX0) (hK : KK X s) (hG : GG X (CP X ca fa w ++ rest) s.heap H locs) {i : Int32} {u : Unit} (hu : inb 8 i = some u) {h : HV} (hr : ∀ r, h ≠ some (.inr r)) (hw : some (chs w i.toNatClampNeg h) = some w') (hdg : decode cc pc = .ok (.putfield 98, 3)) (kk : ∀ (H1 : Heap) (locs1 : List Loc), GG X (CP X ca fa w' ++ rest) s.heap H1 locs1 → W p l e R s m args below meth c H1 locs1 cells slots Q (F0 m (pc + 3) ls st)) : W p l e R s m args below meth c H locs cells slots Q (F0 m pc ls (hval h :: .ref (ca (10 + i.toNatClampNeg)) :: st)) := by
  cases hw
  refine w_put B hK hG (15 + i.toNatClampNeg) 0 (cp_sheet (vp_lt (inb_in hu))) rfl in_X3 tyX3 tyX3_ok nmX3 (by decide) q216 rfl rfl ?_ ?_ (Nat.le_of_ble_eq_true rfl) hdg (fun H1 l1 g => kk H1 l1 (GG.hold (vp_lt (inb_in hu)) hr g))
  · match h with
    | none => rfl
    | some (.inl P) => rfl
    | some (.inr r) => rfl
  · match h with
    | none => rfl
    | some (.inl P) => rfl
    | some (.inr r) => rfl
end WK
