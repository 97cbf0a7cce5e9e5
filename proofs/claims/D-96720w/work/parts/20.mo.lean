/-! the reference: its world, and its fields and arrays in short form -/
set_option maxRecDepth 100000
/-- numbers by field, arrays by field, the rows -/
abbrev MW : Type := (Nat → Int32) × (Nat → Nat → Int32) × (Nat → Int64)
def MP (X : CX) (a : Nat → Nat) (w : MW) : va_W := [(a 0, .inr (0, [.int (w.1 0), .ref (a 1), .int (w.1 2), .int (w.1 3), .ref (a 4), .ref (a 5), .ref (a 6), .int (w.1 7), .ref (a 8), .ref (a 9), .int (w.1 10), .int (w.1 11), .ref (a 12), .int (w.1 13), .int (w.1 14), .int (w.1 15), .int (w.1 16), .ref (a 17), .ref (a 18), .ref (a 19), .ref (a 20), .int (w.1 21), .ref (a 22), .ref (a 23), .int (w.1 24), .ref (a 25), .ref (a 26), .ref (a 27)])), (a 1, .inl (X.2.2.2 2, 67, .inl (w.2.1 1))), (a 4, .inl (X.2.2.2 0, 9, .inl (w.2.1 4))), (a 5, .inl (X.2.2.2 0, 9, .inl (w.2.1 5))), (a 6, .inl (X.2.2.2 0, 9, .inl (w.2.1 6))), (a 8, .inl (X.2.2.2 0, 4, .inl (w.2.1 8))), (a 9, .inl (X.2.2.2 0, 4, .inl (w.2.1 9))), (a 12, .inl (X.2.2.2 0, 250, .inl (w.2.1 12))), (a 17, .inl (X.2.2.2 0, 8, .inl (w.2.1 17))), (a 18, .inl (X.2.2.2 0, 8, .inl (w.2.1 18))), (a 19, .inl (X.2.2.2 1, 320, .inr (.inl w.2.2))), (a 20, .inl (X.2.2.2 0, 7, .inl (w.2.1 20))), (a 22, .inl (X.2.2.2 0, 104, .inl (w.2.1 22))), (a 23, .inl (X.2.2.2 0, 104, .inl (w.2.1 23))), (a 25, .inl (X.2.2.2 0, 4, .inl (w.2.1 25))), (a 26, .inl (X.2.2.2 0, 67, .inl (w.2.1 26))), (a 27, .inl (X.2.2.2 0, 67, .inl (w.2.1 27)))]
def mpt (w : MW) (k : Nat) (v : Int32) : MW := (upd w.1 k v, w.2.1, w.2.2)
def mst (w : MW) (k n : Nat) (i x : Int32) : Option MW := if i < 0 ∨ n ≤ i.toNatClampNeg then none else some (w.1, va_up w.2.1 k (upd (w.2.1 k) i.toNatClampNeg x), w.2.2)
def mstL (w : MW) (n : Nat) (i : Int32) (x : Int64) : Option MW := if i < 0 ∨ n ≤ i.toNatClampNeg then none else some (w.1, w.2.1, vp_updL w.2.2 i.toNatClampNeg x)
theorem mst_in {w w' : MW} {k n : Nat} {i x : Int32} (h : mst w k n i x = some w') : vp_in i n ∧ (w.1, va_up w.2.1 k (upd (w.2.1 k) i.toNatClampNeg x), w.2.2) = w' := by
  unfold mst at h
  by_cases hc : i < 0 ∨ n ≤ i.toNatClampNeg
  · rw [if_pos hc] at h; cases h
  · rw [if_neg hc] at h; exact ⟨hc, Option.some.inj h⟩
theorem mstL_in {w w' : MW} {n : Nat} {i : Int32} {x : Int64} (h : mstL w n i x = some w') : vp_in i n ∧ (w.1, w.2.1, vp_updL w.2.2 i.toNatClampNeg x) = w' := by
  unfold mstL at h
  by_cases hc : i < 0 ∨ n ≤ i.toNatClampNeg
  · rw [if_pos hc] at h; cases h
  · rw [if_neg hc] at h; exact ⟨hc, Option.some.inj h⟩
section MO
variable {p : Program} {l : Launch} {e : Env} {R : Room} {s : State} {m : MethodId} {args : Array Value} {below : List Frame} {meth : Method} {c : Code} {H : Heap} {locs : List Loc} {cells slots : Nat} {Q : State → Prop} {cc : ByteArray} {nL pc : Nat} {ls : Array Slot} {st : List Value} {X : CX} {a : Nat → Nat} {w : MW} {rest : va_W}
theorem mo_g0 (B : CallFix p m c cc nL s args lw_all RX4) (hK : KK X s) (hP : va_P X.2.2.1 vwCl (MP X a w ++ rest) H) (hdg : decode cc pc = .ok (.getfield 60, 3)) (kk : W p l e R s m args below meth c H locs cells slots Q (F0 m (pc + 3) ls (.int (w.1 0) :: st))) : W p l e R s m args below meth c H locs cells slots Q (F0 m pc ls (.ref (a 0) :: st)) := w_get B hK hP 0 0 rfl rfl in_X4 (by decide) q1390 rfl rfl hdg kk
theorem mo_p0 (B : CallFix p m c cc nL s args lw_all RX4) (hK : KK X s) (hG : GG X (MP X a w ++ rest) s.heap H locs) {x : Int32} {w' : MW} (hw : some (mpt w 0 x) = some w') (hdg : decode cc pc = .ok (.putfield 60, 3)) (kk : ∀ (H1 : Heap) (locs1 : List Loc), GG X (MP X a w' ++ rest) s.heap H1 locs1 → W p l e R s m args below meth c H1 locs1 cells slots Q (F0 m (pc + 3) ls st)) : W p l e R s m args below meth c H locs cells slots Q (F0 m pc ls (.int x :: .ref (a 0) :: st)) := by
  cases hw
  exact w_put B hK hG 0 0 rfl rfl in_X4 tyX4 tyX4_ok nmX4 (by decide) q1390 rfl rfl rfl rfl (Nat.le_of_ble_eq_true rfl) hdg kk
theorem mo_g1 (B : CallFix p m c cc nL s args lw_all RX4) (hK : KK X s) (hP : va_P X.2.2.1 vwCl (MP X a w ++ rest) H) (hdg : decode cc pc = .ok (.getfield 7, 3)) (kk : W p l e R s m args below meth c H locs cells slots Q (F0 m (pc + 3) ls (.ref (a 1) :: st))) : W p l e R s m args below meth c H locs cells slots Q (F0 m pc ls (.ref (a 0) :: st)) := w_get B hK hP 0 1 rfl rfl in_X4 (by decide) q1391 rfl rfl hdg kk
theorem mo_ld1 (B : CallFix p m c cc nL s args lw_all RX4) (hK : KK X s) (hP : va_P X.2.2.1 vwCl (MP X a w ++ rest) H) {i : Int32} {v : Int32} (hv : rd (w.2.1 1) 67 i = some v) (hdg : decode cc pc = .ok (.baload, 1)) (kk : W p l e R s m args below meth c H locs cells slots Q (F0 m (pc + 1) ls (.int v :: st))) : W p l e R s m args below meth c H locs cells slots Q (F0 m pc ls (.int i :: .ref (a 1) :: st)) := by
  obtain ⟨h1, h2⟩ := rd_in hv
  subst h2
  exact va_zald B.1 B.2.1 hK.k hP 1 2 rfl rfl h1 hdg kk
theorem mo_st1 (B : CallFix p m c cc nL s args lw_all RX4) (hK : KK X s) (hG : GG X (MP X a w ++ rest) s.heap H locs) {i : Int32} {x : Int32} {w' : MW} (hw : mst w 1 67 i (vp_nar .boolean x) = some w') (hdg : decode cc pc = .ok (.bastore, 1)) (kk : ∀ (H1 : Heap) (locs1 : List Loc), GG X (MP X a w' ++ rest) s.heap H1 locs1 → W p l e R s m args below meth c H1 locs1 cells slots Q (F0 m (pc + 1) ls st)) : W p l e R s m args below meth c H locs cells slots Q (F0 m pc ls (.int x :: .int i :: .ref (a 1) :: st)) := by
  obtain ⟨h1, h2⟩ := mst_in hw
  subst h2
  exact va_zast B.1 B.2.1 hK.k hG.1 hG.2.1 hG.2.2 1 2 rfl rfl h1 hdg (fun H1 l1 g1 g2 g3 => kk H1 l1 ⟨g1, g2, g3⟩)
theorem mo_g2 (B : CallFix p m c cc nL s args lw_all RX4) (hK : KK X s) (hP : va_P X.2.2.1 vwCl (MP X a w ++ rest) H) (hdg : decode cc pc = .ok (.getfield 114, 3)) (kk : W p l e R s m args below meth c H locs cells slots Q (F0 m (pc + 3) ls (.int (w.1 2) :: st))) : W p l e R s m args below meth c H locs cells slots Q (F0 m pc ls (.ref (a 0) :: st)) := w_get B hK hP 0 2 rfl rfl in_X4 (by decide) q1392 rfl rfl hdg kk
theorem mo_p2 (B : CallFix p m c cc nL s args lw_all RX4) (hK : KK X s) (hG : GG X (MP X a w ++ rest) s.heap H locs) {x : Int32} {w' : MW} (hw : some (mpt w 2 x) = some w') (hdg : decode cc pc = .ok (.putfield 114, 3)) (kk : ∀ (H1 : Heap) (locs1 : List Loc), GG X (MP X a w' ++ rest) s.heap H1 locs1 → W p l e R s m args below meth c H1 locs1 cells slots Q (F0 m (pc + 3) ls st)) : W p l e R s m args below meth c H locs cells slots Q (F0 m pc ls (.int x :: .ref (a 0) :: st)) := by
  cases hw
  exact w_put B hK hG 0 2 rfl rfl in_X4 tyX4 tyX4_ok nmX4 (by decide) q1392 rfl rfl rfl rfl (Nat.le_of_ble_eq_true rfl) hdg kk
theorem mo_g3 (B : CallFix p m c cc nL s args lw_all RX4) (hK : KK X s) (hP : va_P X.2.2.1 vwCl (MP X a w ++ rest) H) (hdg : decode cc pc = .ok (.getfield 73, 3)) (kk : W p l e R s m args below meth c H locs cells slots Q (F0 m (pc + 3) ls (.int (w.1 3) :: st))) : W p l e R s m args below meth c H locs cells slots Q (F0 m pc ls (.ref (a 0) :: st)) := w_get B hK hP 0 3 rfl rfl in_X4 (by decide) q1393 rfl rfl hdg kk
theorem mo_p3 (B : CallFix p m c cc nL s args lw_all RX4) (hK : KK X s) (hG : GG X (MP X a w ++ rest) s.heap H locs) {x : Int32} {w' : MW} (hw : some (mpt w 3 x) = some w') (hdg : decode cc pc = .ok (.putfield 73, 3)) (kk : ∀ (H1 : Heap) (locs1 : List Loc), GG X (MP X a w' ++ rest) s.heap H1 locs1 → W p l e R s m args below meth c H1 locs1 cells slots Q (F0 m (pc + 3) ls st)) : W p l e R s m args below meth c H locs cells slots Q (F0 m pc ls (.int x :: .ref (a 0) :: st)) := by
  cases hw
  exact w_put B hK hG 0 3 rfl rfl in_X4 tyX4 tyX4_ok nmX4 (by decide) q1393 rfl rfl rfl rfl (Nat.le_of_ble_eq_true rfl) hdg kk
theorem mo_g4 (B : CallFix p m c cc nL s args lw_all RX4) (hK : KK X s) (hP : va_P X.2.2.1 vwCl (MP X a w ++ rest) H) (hdg : decode cc pc = .ok (.getfield 13, 3)) (kk : W p l e R s m args below meth c H locs cells slots Q (F0 m (pc + 3) ls (.ref (a 4) :: st))) : W p l e R s m args below meth c H locs cells slots Q (F0 m pc ls (.ref (a 0) :: st)) := w_get B hK hP 0 4 rfl rfl in_X4 (by decide) q1394 rfl rfl hdg kk
theorem mo_ld4 (B : CallFix p m c cc nL s args lw_all RX4) (hK : KK X s) (hP : va_P X.2.2.1 vwCl (MP X a w ++ rest) H) {i : Int32} {v : Int32} (hv : rd (w.2.1 4) 9 i = some v) (hdg : decode cc pc = .ok (.iaload, 1)) (kk : W p l e R s m args below meth c H locs cells slots Q (F0 m (pc + 1) ls (.int v :: st))) : W p l e R s m args below meth c H locs cells slots Q (F0 m pc ls (.int i :: .ref (a 4) :: st)) := by
  obtain ⟨h1, h2⟩ := rd_in hv
  subst h2
  exact va_iald B.1 B.2.1 hK.k hP 2 0 rfl rfl h1 hdg kk
theorem mo_st4 (B : CallFix p m c cc nL s args lw_all RX4) (hK : KK X s) (hG : GG X (MP X a w ++ rest) s.heap H locs) {i : Int32} {x : Int32} {w' : MW} (hw : mst w 4 9 i x = some w') (hdg : decode cc pc = .ok (.iastore, 1)) (kk : ∀ (H1 : Heap) (locs1 : List Loc), GG X (MP X a w' ++ rest) s.heap H1 locs1 → W p l e R s m args below meth c H1 locs1 cells slots Q (F0 m (pc + 1) ls st)) : W p l e R s m args below meth c H locs cells slots Q (F0 m pc ls (.int x :: .int i :: .ref (a 4) :: st)) := by
  obtain ⟨h1, h2⟩ := mst_in hw
  subst h2
  exact va_iast B.1 B.2.1 hK.k hG.1 hG.2.1 hG.2.2 2 0 rfl rfl h1 hdg (fun H1 l1 g1 g2 g3 => kk H1 l1 ⟨g1, g2, g3⟩)
theorem mo_g5 (B : CallFix p m c cc nL s args lw_all RX4) (hK : KK X s) (hP : va_P X.2.2.1 vwCl (MP X a w ++ rest) H) (hdg : decode cc pc = .ok (.getfield 17, 3)) (kk : W p l e R s m args below meth c H locs cells slots Q (F0 m (pc + 3) ls (.ref (a 5) :: st))) : W p l e R s m args below meth c H locs cells slots Q (F0 m pc ls (.ref (a 0) :: st)) := w_get B hK hP 0 5 rfl rfl in_X4 (by decide) q1395 rfl rfl hdg kk
theorem mo_ld5 (B : CallFix p m c cc nL s args lw_all RX4) (hK : KK X s) (hP : va_P X.2.2.1 vwCl (MP X a w ++ rest) H) {i : Int32} {v : Int32} (hv : rd (w.2.1 5) 9 i = some v) (hdg : decode cc pc = .ok (.iaload, 1)) (kk : W p l e R s m args below meth c H locs cells slots Q (F0 m (pc + 1) ls (.int v :: st))) : W p l e R s m args below meth c H locs cells slots Q (F0 m pc ls (.int i :: .ref (a 5) :: st)) := by
  obtain ⟨h1, h2⟩ := rd_in hv
  subst h2
  exact va_iald B.1 B.2.1 hK.k hP 3 0 rfl rfl h1 hdg kk
theorem mo_st5 (B : CallFix p m c cc nL s args lw_all RX4) (hK : KK X s) (hG : GG X (MP X a w ++ rest) s.heap H locs) {i : Int32} {x : Int32} {w' : MW} (hw : mst w 5 9 i x = some w') (hdg : decode cc pc = .ok (.iastore, 1)) (kk : ∀ (H1 : Heap) (locs1 : List Loc), GG X (MP X a w' ++ rest) s.heap H1 locs1 → W p l e R s m args below meth c H1 locs1 cells slots Q (F0 m (pc + 1) ls st)) : W p l e R s m args below meth c H locs cells slots Q (F0 m pc ls (.int x :: .int i :: .ref (a 5) :: st)) := by
  obtain ⟨h1, h2⟩ := mst_in hw
  subst h2
  exact va_iast B.1 B.2.1 hK.k hG.1 hG.2.1 hG.2.2 3 0 rfl rfl h1 hdg (fun H1 l1 g1 g2 g3 => kk H1 l1 ⟨g1, g2, g3⟩)
theorem mo_g6 (B : CallFix p m c cc nL s args lw_all RX4) (hK : KK X s) (hP : va_P X.2.2.1 vwCl (MP X a w ++ rest) H) (hdg : decode cc pc = .ok (.getfield 20, 3)) (kk : W p l e R s m args below meth c H locs cells slots Q (F0 m (pc + 3) ls (.ref (a 6) :: st))) : W p l e R s m args below meth c H locs cells slots Q (F0 m pc ls (.ref (a 0) :: st)) := w_get B hK hP 0 6 rfl rfl in_X4 (by decide) q1396 rfl rfl hdg kk
theorem mo_ld6 (B : CallFix p m c cc nL s args lw_all RX4) (hK : KK X s) (hP : va_P X.2.2.1 vwCl (MP X a w ++ rest) H) {i : Int32} {v : Int32} (hv : rd (w.2.1 6) 9 i = some v) (hdg : decode cc pc = .ok (.iaload, 1)) (kk : W p l e R s m args below meth c H locs cells slots Q (F0 m (pc + 1) ls (.int v :: st))) : W p l e R s m args below meth c H locs cells slots Q (F0 m pc ls (.int i :: .ref (a 6) :: st)) := by
  obtain ⟨h1, h2⟩ := rd_in hv
  subst h2
  exact va_iald B.1 B.2.1 hK.k hP 4 0 rfl rfl h1 hdg kk
theorem mo_st6 (B : CallFix p m c cc nL s args lw_all RX4) (hK : KK X s) (hG : GG X (MP X a w ++ rest) s.heap H locs) {i : Int32} {x : Int32} {w' : MW} (hw : mst w 6 9 i x = some w') (hdg : decode cc pc = .ok (.iastore, 1)) (kk : ∀ (H1 : Heap) (locs1 : List Loc), GG X (MP X a w' ++ rest) s.heap H1 locs1 → W p l e R s m args below meth c H1 locs1 cells slots Q (F0 m (pc + 1) ls st)) : W p l e R s m args below meth c H locs cells slots Q (F0 m pc ls (.int x :: .int i :: .ref (a 6) :: st)) := by
  obtain ⟨h1, h2⟩ := mst_in hw
  subst h2
  exact va_iast B.1 B.2.1 hK.k hG.1 hG.2.1 hG.2.2 4 0 rfl rfl h1 hdg (fun H1 l1 g1 g2 g3 => kk H1 l1 ⟨g1, g2, g3⟩)
theorem mo_g7 (B : CallFix p m c cc nL s args lw_all RX4) (hK : KK X s) (hP : va_P X.2.2.1 vwCl (MP X a w ++ rest) H) (hdg : decode cc pc = .ok (.getfield 76, 3)) (kk : W p l e R s m args below meth c H locs cells slots Q (F0 m (pc + 3) ls (.int (w.1 7) :: st))) : W p l e R s m args below meth c H locs cells slots Q (F0 m pc ls (.ref (a 0) :: st)) := w_get B hK hP 0 7 rfl rfl in_X4 (by decide) q1397 rfl rfl hdg kk
theorem mo_p7 (B : CallFix p m c cc nL s args lw_all RX4) (hK : KK X s) (hG : GG X (MP X a w ++ rest) s.heap H locs) {x : Int32} {w' : MW} (hw : some (mpt w 7 x) = some w') (hdg : decode cc pc = .ok (.putfield 76, 3)) (kk : ∀ (H1 : Heap) (locs1 : List Loc), GG X (MP X a w' ++ rest) s.heap H1 locs1 → W p l e R s m args below meth c H1 locs1 cells slots Q (F0 m (pc + 3) ls st)) : W p l e R s m args below meth c H locs cells slots Q (F0 m pc ls (.int x :: .ref (a 0) :: st)) := by
  cases hw
  exact w_put B hK hG 0 7 rfl rfl in_X4 tyX4 tyX4_ok nmX4 (by decide) q1397 rfl rfl rfl rfl (Nat.le_of_ble_eq_true rfl) hdg kk
theorem mo_g8 (B : CallFix p m c cc nL s args lw_all RX4) (hK : KK X s) (hP : va_P X.2.2.1 vwCl (MP X a w ++ rest) H) (hdg : decode cc pc = .ok (.getfield 23, 3)) (kk : W p l e R s m args below meth c H locs cells slots Q (F0 m (pc + 3) ls (.ref (a 8) :: st))) : W p l e R s m args below meth c H locs cells slots Q (F0 m pc ls (.ref (a 0) :: st)) := w_get B hK hP 0 8 rfl rfl in_X4 (by decide) q1398 rfl rfl hdg kk
theorem mo_ld8 (B : CallFix p m c cc nL s args lw_all RX4) (hK : KK X s) (hP : va_P X.2.2.1 vwCl (MP X a w ++ rest) H) {i : Int32} {v : Int32} (hv : rd (w.2.1 8) 4 i = some v) (hdg : decode cc pc = .ok (.iaload, 1)) (kk : W p l e R s m args below meth c H locs cells slots Q (F0 m (pc + 1) ls (.int v :: st))) : W p l e R s m args below meth c H locs cells slots Q (F0 m pc ls (.int i :: .ref (a 8) :: st)) := by
  obtain ⟨h1, h2⟩ := rd_in hv
  subst h2
  exact va_iald B.1 B.2.1 hK.k hP 5 0 rfl rfl h1 hdg kk
theorem mo_st8 (B : CallFix p m c cc nL s args lw_all RX4) (hK : KK X s) (hG : GG X (MP X a w ++ rest) s.heap H locs) {i : Int32} {x : Int32} {w' : MW} (hw : mst w 8 4 i x = some w') (hdg : decode cc pc = .ok (.iastore, 1)) (kk : ∀ (H1 : Heap) (locs1 : List Loc), GG X (MP X a w' ++ rest) s.heap H1 locs1 → W p l e R s m args below meth c H1 locs1 cells slots Q (F0 m (pc + 1) ls st)) : W p l e R s m args below meth c H locs cells slots Q (F0 m pc ls (.int x :: .int i :: .ref (a 8) :: st)) := by
  obtain ⟨h1, h2⟩ := mst_in hw
  subst h2
  exact va_iast B.1 B.2.1 hK.k hG.1 hG.2.1 hG.2.2 5 0 rfl rfl h1 hdg (fun H1 l1 g1 g2 g3 => kk H1 l1 ⟨g1, g2, g3⟩)
theorem mo_g9 (B : CallFix p m c cc nL s args lw_all RX4) (hK : KK X s) (hP : va_P X.2.2.1 vwCl (MP X a w ++ rest) H) (hdg : decode cc pc = .ok (.getfield 26, 3)) (kk : W p l e R s m args below meth c H locs cells slots Q (F0 m (pc + 3) ls (.ref (a 9) :: st))) : W p l e R s m args below meth c H locs cells slots Q (F0 m pc ls (.ref (a 0) :: st)) := w_get B hK hP 0 9 rfl rfl in_X4 (by decide) q1399 rfl rfl hdg kk
theorem mo_ld9 (B : CallFix p m c cc nL s args lw_all RX4) (hK : KK X s) (hP : va_P X.2.2.1 vwCl (MP X a w ++ rest) H) {i : Int32} {v : Int32} (hv : rd (w.2.1 9) 4 i = some v) (hdg : decode cc pc = .ok (.iaload, 1)) (kk : W p l e R s m args below meth c H locs cells slots Q (F0 m (pc + 1) ls (.int v :: st))) : W p l e R s m args below meth c H locs cells slots Q (F0 m pc ls (.int i :: .ref (a 9) :: st)) := by
  obtain ⟨h1, h2⟩ := rd_in hv
  subst h2
  exact va_iald B.1 B.2.1 hK.k hP 6 0 rfl rfl h1 hdg kk
theorem mo_st9 (B : CallFix p m c cc nL s args lw_all RX4) (hK : KK X s) (hG : GG X (MP X a w ++ rest) s.heap H locs) {i : Int32} {x : Int32} {w' : MW} (hw : mst w 9 4 i x = some w') (hdg : decode cc pc = .ok (.iastore, 1)) (kk : ∀ (H1 : Heap) (locs1 : List Loc), GG X (MP X a w' ++ rest) s.heap H1 locs1 → W p l e R s m args below meth c H1 locs1 cells slots Q (F0 m (pc + 1) ls st)) : W p l e R s m args below meth c H locs cells slots Q (F0 m pc ls (.int x :: .int i :: .ref (a 9) :: st)) := by
  obtain ⟨h1, h2⟩ := mst_in hw
  subst h2
  exact va_iast B.1 B.2.1 hK.k hG.1 hG.2.1 hG.2.2 6 0 rfl rfl h1 hdg (fun H1 l1 g1 g2 g3 => kk H1 l1 ⟨g1, g2, g3⟩)
theorem mo_g10 (B : CallFix p m c cc nL s args lw_all RX4) (hK : KK X s) (hP : va_P X.2.2.1 vwCl (MP X a w ++ rest) H) (hdg : decode cc pc = .ok (.getfield 64, 3)) (kk : W p l e R s m args below meth c H locs cells slots Q (F0 m (pc + 3) ls (.int (w.1 10) :: st))) : W p l e R s m args below meth c H locs cells slots Q (F0 m pc ls (.ref (a 0) :: st)) := w_get B hK hP 0 10 rfl rfl in_X4 (by decide) q1400 rfl rfl hdg kk
theorem mo_p10 (B : CallFix p m c cc nL s args lw_all RX4) (hK : KK X s) (hG : GG X (MP X a w ++ rest) s.heap H locs) {x : Int32} {w' : MW} (hw : some (mpt w 10 x) = some w') (hdg : decode cc pc = .ok (.putfield 64, 3)) (kk : ∀ (H1 : Heap) (locs1 : List Loc), GG X (MP X a w' ++ rest) s.heap H1 locs1 → W p l e R s m args below meth c H1 locs1 cells slots Q (F0 m (pc + 3) ls st)) : W p l e R s m args below meth c H locs cells slots Q (F0 m pc ls (.int x :: .ref (a 0) :: st)) := by
  cases hw
  exact w_put B hK hG 0 10 rfl rfl in_X4 tyX4 tyX4_ok nmX4 (by decide) q1400 rfl rfl rfl rfl (Nat.le_of_ble_eq_true rfl) hdg kk
theorem mo_g11 (B : CallFix p m c cc nL s args lw_all RX4) (hK : KK X s) (hP : va_P X.2.2.1 vwCl (MP X a w ++ rest) H) (hdg : decode cc pc = .ok (.getfield 131, 3)) (kk : W p l e R s m args below meth c H locs cells slots Q (F0 m (pc + 3) ls (.int (w.1 11) :: st))) : W p l e R s m args below meth c H locs cells slots Q (F0 m pc ls (.ref (a 0) :: st)) := w_get B hK hP 0 11 rfl rfl in_X4 (by decide) q1401 rfl rfl hdg kk
theorem mo_p11 (B : CallFix p m c cc nL s args lw_all RX4) (hK : KK X s) (hG : GG X (MP X a w ++ rest) s.heap H locs) {x : Int32} {w' : MW} (hw : some (mpt w 11 x) = some w') (hdg : decode cc pc = .ok (.putfield 131, 3)) (kk : ∀ (H1 : Heap) (locs1 : List Loc), GG X (MP X a w' ++ rest) s.heap H1 locs1 → W p l e R s m args below meth c H1 locs1 cells slots Q (F0 m (pc + 3) ls st)) : W p l e R s m args below meth c H locs cells slots Q (F0 m pc ls (.int x :: .ref (a 0) :: st)) := by
  cases hw
  exact w_put B hK hG 0 11 rfl rfl in_X4 tyX4 tyX4_ok nmX4 (by decide) q1401 rfl rfl rfl rfl (Nat.le_of_ble_eq_true rfl) hdg kk
theorem mo_g12 (B : CallFix p m c cc nL s args lw_all RX4) (hK : KK X s) (hP : va_P X.2.2.1 vwCl (MP X a w ++ rest) H) (hdg : decode cc pc = .ok (.getfield 29, 3)) (kk : W p l e R s m args below meth c H locs cells slots Q (F0 m (pc + 3) ls (.ref (a 12) :: st))) : W p l e R s m args below meth c H locs cells slots Q (F0 m pc ls (.ref (a 0) :: st)) := w_get B hK hP 0 12 rfl rfl in_X4 (by decide) q1402 rfl rfl hdg kk
theorem mo_ld12 (B : CallFix p m c cc nL s args lw_all RX4) (hK : KK X s) (hP : va_P X.2.2.1 vwCl (MP X a w ++ rest) H) {i : Int32} {v : Int32} (hv : rd (w.2.1 12) 250 i = some v) (hdg : decode cc pc = .ok (.iaload, 1)) (kk : W p l e R s m args below meth c H locs cells slots Q (F0 m (pc + 1) ls (.int v :: st))) : W p l e R s m args below meth c H locs cells slots Q (F0 m pc ls (.int i :: .ref (a 12) :: st)) := by
  obtain ⟨h1, h2⟩ := rd_in hv
  subst h2
  exact va_iald B.1 B.2.1 hK.k hP 7 0 rfl rfl h1 hdg kk
theorem mo_st12 (B : CallFix p m c cc nL s args lw_all RX4) (hK : KK X s) (hG : GG X (MP X a w ++ rest) s.heap H locs) {i : Int32} {x : Int32} {w' : MW} (hw : mst w 12 250 i x = some w') (hdg : decode cc pc = .ok (.iastore, 1)) (kk : ∀ (H1 : Heap) (locs1 : List Loc), GG X (MP X a w' ++ rest) s.heap H1 locs1 → W p l e R s m args below meth c H1 locs1 cells slots Q (F0 m (pc + 1) ls st)) : W p l e R s m args below meth c H locs cells slots Q (F0 m pc ls (.int x :: .int i :: .ref (a 12) :: st)) := by
  obtain ⟨h1, h2⟩ := mst_in hw
  subst h2
  exact va_iast B.1 B.2.1 hK.k hG.1 hG.2.1 hG.2.2 7 0 rfl rfl h1 hdg (fun H1 l1 g1 g2 g3 => kk H1 l1 ⟨g1, g2, g3⟩)
theorem mo_g13 (B : CallFix p m c cc nL s args lw_all RX4) (hK : KK X s) (hP : va_P X.2.2.1 vwCl (MP X a w ++ rest) H) (hdg : decode cc pc = .ok (.getfield 137, 3)) (kk : W p l e R s m args below meth c H locs cells slots Q (F0 m (pc + 3) ls (.int (w.1 13) :: st))) : W p l e R s m args below meth c H locs cells slots Q (F0 m pc ls (.ref (a 0) :: st)) := w_get B hK hP 0 13 rfl rfl in_X4 (by decide) q1403 rfl rfl hdg kk
theorem mo_p13 (B : CallFix p m c cc nL s args lw_all RX4) (hK : KK X s) (hG : GG X (MP X a w ++ rest) s.heap H locs) {x : Int32} {w' : MW} (hw : some (mpt w 13 x) = some w') (hdg : decode cc pc = .ok (.putfield 137, 3)) (kk : ∀ (H1 : Heap) (locs1 : List Loc), GG X (MP X a w' ++ rest) s.heap H1 locs1 → W p l e R s m args below meth c H1 locs1 cells slots Q (F0 m (pc + 3) ls st)) : W p l e R s m args below meth c H locs cells slots Q (F0 m pc ls (.int x :: .ref (a 0) :: st)) := by
  cases hw
  exact w_put B hK hG 0 13 rfl rfl in_X4 tyX4 tyX4_ok nmX4 (by decide) q1403 rfl rfl rfl rfl (Nat.le_of_ble_eq_true rfl) hdg kk
theorem mo_g14 (B : CallFix p m c cc nL s args lw_all RX4) (hK : KK X s) (hP : va_P X.2.2.1 vwCl (MP X a w ++ rest) H) (hdg : decode cc pc = .ok (.getfield 134, 3)) (kk : W p l e R s m args below meth c H locs cells slots Q (F0 m (pc + 3) ls (.int (w.1 14) :: st))) : W p l e R s m args below meth c H locs cells slots Q (F0 m pc ls (.ref (a 0) :: st)) := w_get B hK hP 0 14 rfl rfl in_X4 (by decide) q1404 rfl rfl hdg kk
theorem mo_p14 (B : CallFix p m c cc nL s args lw_all RX4) (hK : KK X s) (hG : GG X (MP X a w ++ rest) s.heap H locs) {x : Int32} {w' : MW} (hw : some (mpt w 14 x) = some w') (hdg : decode cc pc = .ok (.putfield 134, 3)) (kk : ∀ (H1 : Heap) (locs1 : List Loc), GG X (MP X a w' ++ rest) s.heap H1 locs1 → W p l e R s m args below meth c H1 locs1 cells slots Q (F0 m (pc + 3) ls st)) : W p l e R s m args below meth c H locs cells slots Q (F0 m pc ls (.int x :: .ref (a 0) :: st)) := by
  cases hw
  exact w_put B hK hG 0 14 rfl rfl in_X4 tyX4 tyX4_ok nmX4 (by decide) q1404 rfl rfl rfl rfl (Nat.le_of_ble_eq_true rfl) hdg kk
theorem mo_g15 (B : CallFix p m c cc nL s args lw_all RX4) (hK : KK X s) (hP : va_P X.2.2.1 vwCl (MP X a w ++ rest) H) (hdg : decode cc pc = .ok (.getfield 140, 3)) (kk : W p l e R s m args below meth c H locs cells slots Q (F0 m (pc + 3) ls (.int (w.1 15) :: st))) : W p l e R s m args below meth c H locs cells slots Q (F0 m pc ls (.ref (a 0) :: st)) := w_get B hK hP 0 15 rfl rfl in_X4 (by decide) q1405 rfl rfl hdg kk
theorem mo_p15 (B : CallFix p m c cc nL s args lw_all RX4) (hK : KK X s) (hG : GG X (MP X a w ++ rest) s.heap H locs) {x : Int32} {w' : MW} (hw : some (mpt w 15 x) = some w') (hdg : decode cc pc = .ok (.putfield 140, 3)) (kk : ∀ (H1 : Heap) (locs1 : List Loc), GG X (MP X a w' ++ rest) s.heap H1 locs1 → W p l e R s m args below meth c H1 locs1 cells slots Q (F0 m (pc + 3) ls st)) : W p l e R s m args below meth c H locs cells slots Q (F0 m pc ls (.int x :: .ref (a 0) :: st)) := by
  cases hw
  exact w_put B hK hG 0 15 rfl rfl in_X4 tyX4 tyX4_ok nmX4 (by decide) q1405 rfl rfl rfl rfl (Nat.le_of_ble_eq_true rfl) hdg kk
theorem mo_g16 (B : CallFix p m c cc nL s args lw_all RX4) (hK : KK X s) (hP : va_P X.2.2.1 vwCl (MP X a w ++ rest) H) (hdg : decode cc pc = .ok (.getfield 149, 3)) (kk : W p l e R s m args below meth c H locs cells slots Q (F0 m (pc + 3) ls (.int (w.1 16) :: st))) : W p l e R s m args below meth c H locs cells slots Q (F0 m pc ls (.ref (a 0) :: st)) := w_get B hK hP 0 16 rfl rfl in_X4 (by decide) q1406 rfl rfl hdg kk
theorem mo_p16 (B : CallFix p m c cc nL s args lw_all RX4) (hK : KK X s) (hG : GG X (MP X a w ++ rest) s.heap H locs) {x : Int32} {w' : MW} (hw : some (mpt w 16 x) = some w') (hdg : decode cc pc = .ok (.putfield 149, 3)) (kk : ∀ (H1 : Heap) (locs1 : List Loc), GG X (MP X a w' ++ rest) s.heap H1 locs1 → W p l e R s m args below meth c H1 locs1 cells slots Q (F0 m (pc + 3) ls st)) : W p l e R s m args below meth c H locs cells slots Q (F0 m pc ls (.int x :: .ref (a 0) :: st)) := by
  cases hw
  exact w_put B hK hG 0 16 rfl rfl in_X4 tyX4 tyX4_ok nmX4 (by decide) q1406 rfl rfl rfl rfl (Nat.le_of_ble_eq_true rfl) hdg kk
theorem mo_g17 (B : CallFix p m c cc nL s args lw_all RX4) (hK : KK X s) (hP : va_P X.2.2.1 vwCl (MP X a w ++ rest) H) (hdg : decode cc pc = .ok (.getfield 32, 3)) (kk : W p l e R s m args below meth c H locs cells slots Q (F0 m (pc + 3) ls (.ref (a 17) :: st))) : W p l e R s m args below meth c H locs cells slots Q (F0 m pc ls (.ref (a 0) :: st)) := w_get B hK hP 0 17 rfl rfl in_X4 (by decide) q1407 rfl rfl hdg kk
theorem mo_ld17 (B : CallFix p m c cc nL s args lw_all RX4) (hK : KK X s) (hP : va_P X.2.2.1 vwCl (MP X a w ++ rest) H) {i : Int32} {v : Int32} (hv : rd (w.2.1 17) 8 i = some v) (hdg : decode cc pc = .ok (.iaload, 1)) (kk : W p l e R s m args below meth c H locs cells slots Q (F0 m (pc + 1) ls (.int v :: st))) : W p l e R s m args below meth c H locs cells slots Q (F0 m pc ls (.int i :: .ref (a 17) :: st)) := by
  obtain ⟨h1, h2⟩ := rd_in hv
  subst h2
  exact va_iald B.1 B.2.1 hK.k hP 8 0 rfl rfl h1 hdg kk
theorem mo_st17 (B : CallFix p m c cc nL s args lw_all RX4) (hK : KK X s) (hG : GG X (MP X a w ++ rest) s.heap H locs) {i : Int32} {x : Int32} {w' : MW} (hw : mst w 17 8 i x = some w') (hdg : decode cc pc = .ok (.iastore, 1)) (kk : ∀ (H1 : Heap) (locs1 : List Loc), GG X (MP X a w' ++ rest) s.heap H1 locs1 → W p l e R s m args below meth c H1 locs1 cells slots Q (F0 m (pc + 1) ls st)) : W p l e R s m args below meth c H locs cells slots Q (F0 m pc ls (.int x :: .int i :: .ref (a 17) :: st)) := by
  obtain ⟨h1, h2⟩ := mst_in hw
  subst h2
  exact va_iast B.1 B.2.1 hK.k hG.1 hG.2.1 hG.2.2 8 0 rfl rfl h1 hdg (fun H1 l1 g1 g2 g3 => kk H1 l1 ⟨g1, g2, g3⟩)
theorem mo_g18 (B : CallFix p m c cc nL s args lw_all RX4) (hK : KK X s) (hP : va_P X.2.2.1 vwCl (MP X a w ++ rest) H) (hdg : decode cc pc = .ok (.getfield 35, 3)) (kk : W p l e R s m args below meth c H locs cells slots Q (F0 m (pc + 3) ls (.ref (a 18) :: st))) : W p l e R s m args below meth c H locs cells slots Q (F0 m pc ls (.ref (a 0) :: st)) := w_get B hK hP 0 18 rfl rfl in_X4 (by decide) q1408 rfl rfl hdg kk
theorem mo_ld18 (B : CallFix p m c cc nL s args lw_all RX4) (hK : KK X s) (hP : va_P X.2.2.1 vwCl (MP X a w ++ rest) H) {i : Int32} {v : Int32} (hv : rd (w.2.1 18) 8 i = some v) (hdg : decode cc pc = .ok (.iaload, 1)) (kk : W p l e R s m args below meth c H locs cells slots Q (F0 m (pc + 1) ls (.int v :: st))) : W p l e R s m args below meth c H locs cells slots Q (F0 m pc ls (.int i :: .ref (a 18) :: st)) := by
  obtain ⟨h1, h2⟩ := rd_in hv
  subst h2
  exact va_iald B.1 B.2.1 hK.k hP 9 0 rfl rfl h1 hdg kk
theorem mo_st18 (B : CallFix p m c cc nL s args lw_all RX4) (hK : KK X s) (hG : GG X (MP X a w ++ rest) s.heap H locs) {i : Int32} {x : Int32} {w' : MW} (hw : mst w 18 8 i x = some w') (hdg : decode cc pc = .ok (.iastore, 1)) (kk : ∀ (H1 : Heap) (locs1 : List Loc), GG X (MP X a w' ++ rest) s.heap H1 locs1 → W p l e R s m args below meth c H1 locs1 cells slots Q (F0 m (pc + 1) ls st)) : W p l e R s m args below meth c H locs cells slots Q (F0 m pc ls (.int x :: .int i :: .ref (a 18) :: st)) := by
  obtain ⟨h1, h2⟩ := mst_in hw
  subst h2
  exact va_iast B.1 B.2.1 hK.k hG.1 hG.2.1 hG.2.2 9 0 rfl rfl h1 hdg (fun H1 l1 g1 g2 g3 => kk H1 l1 ⟨g1, g2, g3⟩)
theorem mo_g19 (B : CallFix p m c cc nL s args lw_all RX4) (hK : KK X s) (hP : va_P X.2.2.1 vwCl (MP X a w ++ rest) H) (hdg : decode cc pc = .ok (.getfield 38, 3)) (kk : W p l e R s m args below meth c H locs cells slots Q (F0 m (pc + 3) ls (.ref (a 19) :: st))) : W p l e R s m args below meth c H locs cells slots Q (F0 m pc ls (.ref (a 0) :: st)) := w_get B hK hP 0 19 rfl rfl in_X4 (by decide) q1409 rfl rfl hdg kk
theorem mo_ld19 (B : CallFix p m c cc nL s args lw_all RX4) (hK : KK X s) (hP : va_P X.2.2.1 vwCl (MP X a w ++ rest) H) {i : Int32} {v : Int64} (hv : rd w.2.2 320 i = some v) (hdg : decode cc pc = .ok (.laload, 1)) (kk : W p l e R s m args below meth c H locs cells slots Q (F0 m (pc + 1) ls (.long v :: st))) : W p l e R s m args below meth c H locs cells slots Q (F0 m pc ls (.int i :: .ref (a 19) :: st)) := by
  obtain ⟨h1, h2⟩ := rd_in hv
  subst h2
  exact va_lald B.1 B.2.1 hK.k hP 10 1 rfl rfl h1 hdg kk
theorem mo_st19 (B : CallFix p m c cc nL s args lw_all RX4) (hK : KK X s) (hG : GG X (MP X a w ++ rest) s.heap H locs) {i : Int32} {x : Int64} {w' : MW} (hw : mstL w 320 i x = some w') (hdg : decode cc pc = .ok (.lastore, 1)) (kk : ∀ (H1 : Heap) (locs1 : List Loc), GG X (MP X a w' ++ rest) s.heap H1 locs1 → W p l e R s m args below meth c H1 locs1 cells slots Q (F0 m (pc + 1) ls st)) : W p l e R s m args below meth c H locs cells slots Q (F0 m pc ls (.long x :: .int i :: .ref (a 19) :: st)) := by
  obtain ⟨h1, h2⟩ := mstL_in hw
  subst h2
  exact va_last B.1 B.2.1 hK.k hG.1 hG.2.1 hG.2.2 10 1 rfl rfl h1 hdg (fun H1 l1 g1 g2 g3 => kk H1 l1 ⟨g1, g2, g3⟩)
theorem mo_g20 (B : CallFix p m c cc nL s args lw_all RX4) (hK : KK X s) (hP : va_P X.2.2.1 vwCl (MP X a w ++ rest) H) (hdg : decode cc pc = .ok (.getfield 42, 3)) (kk : W p l e R s m args below meth c H locs cells slots Q (F0 m (pc + 3) ls (.ref (a 20) :: st))) : W p l e R s m args below meth c H locs cells slots Q (F0 m pc ls (.ref (a 0) :: st)) := w_get B hK hP 0 20 rfl rfl in_X4 (by decide) q1410 rfl rfl hdg kk
theorem mo_ld20 (B : CallFix p m c cc nL s args lw_all RX4) (hK : KK X s) (hP : va_P X.2.2.1 vwCl (MP X a w ++ rest) H) {i : Int32} {v : Int32} (hv : rd (w.2.1 20) 7 i = some v) (hdg : decode cc pc = .ok (.iaload, 1)) (kk : W p l e R s m args below meth c H locs cells slots Q (F0 m (pc + 1) ls (.int v :: st))) : W p l e R s m args below meth c H locs cells slots Q (F0 m pc ls (.int i :: .ref (a 20) :: st)) := by
  obtain ⟨h1, h2⟩ := rd_in hv
  subst h2
  exact va_iald B.1 B.2.1 hK.k hP 11 0 rfl rfl h1 hdg kk
theorem mo_st20 (B : CallFix p m c cc nL s args lw_all RX4) (hK : KK X s) (hG : GG X (MP X a w ++ rest) s.heap H locs) {i : Int32} {x : Int32} {w' : MW} (hw : mst w 20 7 i x = some w') (hdg : decode cc pc = .ok (.iastore, 1)) (kk : ∀ (H1 : Heap) (locs1 : List Loc), GG X (MP X a w' ++ rest) s.heap H1 locs1 → W p l e R s m args below meth c H1 locs1 cells slots Q (F0 m (pc + 1) ls st)) : W p l e R s m args below meth c H locs cells slots Q (F0 m pc ls (.int x :: .int i :: .ref (a 20) :: st)) := by
  obtain ⟨h1, h2⟩ := mst_in hw
  subst h2
  exact va_iast B.1 B.2.1 hK.k hG.1 hG.2.1 hG.2.2 11 0 rfl rfl h1 hdg (fun H1 l1 g1 g2 g3 => kk H1 l1 ⟨g1, g2, g3⟩)
theorem mo_g21 (B : CallFix p m c cc nL s args lw_all RX4) (hK : KK X s) (hP : va_P X.2.2.1 vwCl (MP X a w ++ rest) H) (hdg : decode cc pc = .ok (.getfield 331, 3)) (kk : W p l e R s m args below meth c H locs cells slots Q (F0 m (pc + 3) ls (.int (w.1 21) :: st))) : W p l e R s m args below meth c H locs cells slots Q (F0 m pc ls (.ref (a 0) :: st)) := w_get B hK hP 0 21 rfl rfl in_X4 (by decide) q1411 rfl rfl hdg kk
theorem mo_p21 (B : CallFix p m c cc nL s args lw_all RX4) (hK : KK X s) (hG : GG X (MP X a w ++ rest) s.heap H locs) {w' : MW} (hw : some (mpt w 21 1) = some w') (hdg : decode cc pc = .ok (.putfield 331, 3)) (kk : ∀ (H1 : Heap) (locs1 : List Loc), GG X (MP X a w' ++ rest) s.heap H1 locs1 → W p l e R s m args below meth c H1 locs1 cells slots Q (F0 m (pc + 3) ls st)) : W p l e R s m args below meth c H locs cells slots Q (F0 m pc ls (.int 1 :: .ref (a 0) :: st)) := by
  cases hw
  exact w_put B hK hG 0 21 rfl rfl in_X4 tyX4 tyX4_ok nmX4 (by decide) q1411 rfl rfl rfl rfl (Nat.le_of_ble_eq_true rfl) hdg kk
theorem mo_g22 (B : CallFix p m c cc nL s args lw_all RX4) (hK : KK X s) (hP : va_P X.2.2.1 vwCl (MP X a w ++ rest) H) (hdg : decode cc pc = .ok (.getfield 45, 3)) (kk : W p l e R s m args below meth c H locs cells slots Q (F0 m (pc + 3) ls (.ref (a 22) :: st))) : W p l e R s m args below meth c H locs cells slots Q (F0 m pc ls (.ref (a 0) :: st)) := w_get B hK hP 0 22 rfl rfl in_X4 (by decide) q1412 rfl rfl hdg kk
theorem mo_ld22 (B : CallFix p m c cc nL s args lw_all RX4) (hK : KK X s) (hP : va_P X.2.2.1 vwCl (MP X a w ++ rest) H) {i : Int32} {v : Int32} (hv : rd (w.2.1 22) 104 i = some v) (hdg : decode cc pc = .ok (.iaload, 1)) (kk : W p l e R s m args below meth c H locs cells slots Q (F0 m (pc + 1) ls (.int v :: st))) : W p l e R s m args below meth c H locs cells slots Q (F0 m pc ls (.int i :: .ref (a 22) :: st)) := by
  obtain ⟨h1, h2⟩ := rd_in hv
  subst h2
  exact va_iald B.1 B.2.1 hK.k hP 12 0 rfl rfl h1 hdg kk
theorem mo_st22 (B : CallFix p m c cc nL s args lw_all RX4) (hK : KK X s) (hG : GG X (MP X a w ++ rest) s.heap H locs) {i : Int32} {x : Int32} {w' : MW} (hw : mst w 22 104 i x = some w') (hdg : decode cc pc = .ok (.iastore, 1)) (kk : ∀ (H1 : Heap) (locs1 : List Loc), GG X (MP X a w' ++ rest) s.heap H1 locs1 → W p l e R s m args below meth c H1 locs1 cells slots Q (F0 m (pc + 1) ls st)) : W p l e R s m args below meth c H locs cells slots Q (F0 m pc ls (.int x :: .int i :: .ref (a 22) :: st)) := by
  obtain ⟨h1, h2⟩ := mst_in hw
  subst h2
  exact va_iast B.1 B.2.1 hK.k hG.1 hG.2.1 hG.2.2 12 0 rfl rfl h1 hdg (fun H1 l1 g1 g2 g3 => kk H1 l1 ⟨g1, g2, g3⟩)
theorem mo_g23 (B : CallFix p m c cc nL s args lw_all RX4) (hK : KK X s) (hP : va_P X.2.2.1 vwCl (MP X a w ++ rest) H) (hdg : decode cc pc = .ok (.getfield 48, 3)) (kk : W p l e R s m args below meth c H locs cells slots Q (F0 m (pc + 3) ls (.ref (a 23) :: st))) : W p l e R s m args below meth c H locs cells slots Q (F0 m pc ls (.ref (a 0) :: st)) := w_get B hK hP 0 23 rfl rfl in_X4 (by decide) q1413 rfl rfl hdg kk
theorem mo_ld23 (B : CallFix p m c cc nL s args lw_all RX4) (hK : KK X s) (hP : va_P X.2.2.1 vwCl (MP X a w ++ rest) H) {i : Int32} {v : Int32} (hv : rd (w.2.1 23) 104 i = some v) (hdg : decode cc pc = .ok (.iaload, 1)) (kk : W p l e R s m args below meth c H locs cells slots Q (F0 m (pc + 1) ls (.int v :: st))) : W p l e R s m args below meth c H locs cells slots Q (F0 m pc ls (.int i :: .ref (a 23) :: st)) := by
  obtain ⟨h1, h2⟩ := rd_in hv
  subst h2
  exact va_iald B.1 B.2.1 hK.k hP 13 0 rfl rfl h1 hdg kk
theorem mo_st23 (B : CallFix p m c cc nL s args lw_all RX4) (hK : KK X s) (hG : GG X (MP X a w ++ rest) s.heap H locs) {i : Int32} {x : Int32} {w' : MW} (hw : mst w 23 104 i x = some w') (hdg : decode cc pc = .ok (.iastore, 1)) (kk : ∀ (H1 : Heap) (locs1 : List Loc), GG X (MP X a w' ++ rest) s.heap H1 locs1 → W p l e R s m args below meth c H1 locs1 cells slots Q (F0 m (pc + 1) ls st)) : W p l e R s m args below meth c H locs cells slots Q (F0 m pc ls (.int x :: .int i :: .ref (a 23) :: st)) := by
  obtain ⟨h1, h2⟩ := mst_in hw
  subst h2
  exact va_iast B.1 B.2.1 hK.k hG.1 hG.2.1 hG.2.2 13 0 rfl rfl h1 hdg (fun H1 l1 g1 g2 g3 => kk H1 l1 ⟨g1, g2, g3⟩)
theorem mo_g24 (B : CallFix p m c cc nL s args lw_all RX4) (hK : KK X s) (hP : va_P X.2.2.1 vwCl (MP X a w ++ rest) H) (hdg : decode cc pc = .ok (.getfield 204, 3)) (kk : W p l e R s m args below meth c H locs cells slots Q (F0 m (pc + 3) ls (.int (w.1 24) :: st))) : W p l e R s m args below meth c H locs cells slots Q (F0 m pc ls (.ref (a 0) :: st)) := w_get B hK hP 0 24 rfl rfl in_X4 (by decide) q1414 rfl rfl hdg kk
theorem mo_p24 (B : CallFix p m c cc nL s args lw_all RX4) (hK : KK X s) (hG : GG X (MP X a w ++ rest) s.heap H locs) {x : Int32} {w' : MW} (hw : some (mpt w 24 x) = some w') (hdg : decode cc pc = .ok (.putfield 204, 3)) (kk : ∀ (H1 : Heap) (locs1 : List Loc), GG X (MP X a w' ++ rest) s.heap H1 locs1 → W p l e R s m args below meth c H1 locs1 cells slots Q (F0 m (pc + 3) ls st)) : W p l e R s m args below meth c H locs cells slots Q (F0 m pc ls (.int x :: .ref (a 0) :: st)) := by
  cases hw
  exact w_put B hK hG 0 24 rfl rfl in_X4 tyX4 tyX4_ok nmX4 (by decide) q1414 rfl rfl rfl rfl (Nat.le_of_ble_eq_true rfl) hdg kk
theorem mo_g25 (B : CallFix p m c cc nL s args lw_all RX4) (hK : KK X s) (hP : va_P X.2.2.1 vwCl (MP X a w ++ rest) H) (hdg : decode cc pc = .ok (.getfield 51, 3)) (kk : W p l e R s m args below meth c H locs cells slots Q (F0 m (pc + 3) ls (.ref (a 25) :: st))) : W p l e R s m args below meth c H locs cells slots Q (F0 m pc ls (.ref (a 0) :: st)) := w_get B hK hP 0 25 rfl rfl in_X4 (by decide) q1415 rfl rfl hdg kk
theorem mo_ld25 (B : CallFix p m c cc nL s args lw_all RX4) (hK : KK X s) (hP : va_P X.2.2.1 vwCl (MP X a w ++ rest) H) {i : Int32} {v : Int32} (hv : rd (w.2.1 25) 4 i = some v) (hdg : decode cc pc = .ok (.iaload, 1)) (kk : W p l e R s m args below meth c H locs cells slots Q (F0 m (pc + 1) ls (.int v :: st))) : W p l e R s m args below meth c H locs cells slots Q (F0 m pc ls (.int i :: .ref (a 25) :: st)) := by
  obtain ⟨h1, h2⟩ := rd_in hv
  subst h2
  exact va_iald B.1 B.2.1 hK.k hP 14 0 rfl rfl h1 hdg kk
theorem mo_st25 (B : CallFix p m c cc nL s args lw_all RX4) (hK : KK X s) (hG : GG X (MP X a w ++ rest) s.heap H locs) {i : Int32} {x : Int32} {w' : MW} (hw : mst w 25 4 i x = some w') (hdg : decode cc pc = .ok (.iastore, 1)) (kk : ∀ (H1 : Heap) (locs1 : List Loc), GG X (MP X a w' ++ rest) s.heap H1 locs1 → W p l e R s m args below meth c H1 locs1 cells slots Q (F0 m (pc + 1) ls st)) : W p l e R s m args below meth c H locs cells slots Q (F0 m pc ls (.int x :: .int i :: .ref (a 25) :: st)) := by
  obtain ⟨h1, h2⟩ := mst_in hw
  subst h2
  exact va_iast B.1 B.2.1 hK.k hG.1 hG.2.1 hG.2.2 14 0 rfl rfl h1 hdg (fun H1 l1 g1 g2 g3 => kk H1 l1 ⟨g1, g2, g3⟩)
theorem mo_g26 (B : CallFix p m c cc nL s args lw_all RX4) (hK : KK X s) (hP : va_P X.2.2.1 vwCl (MP X a w ++ rest) H) (hdg : decode cc pc = .ok (.getfield 54, 3)) (kk : W p l e R s m args below meth c H locs cells slots Q (F0 m (pc + 3) ls (.ref (a 26) :: st))) : W p l e R s m args below meth c H locs cells slots Q (F0 m pc ls (.ref (a 0) :: st)) := w_get B hK hP 0 26 rfl rfl in_X4 (by decide) q1416 rfl rfl hdg kk
theorem mo_ld26 (B : CallFix p m c cc nL s args lw_all RX4) (hK : KK X s) (hP : va_P X.2.2.1 vwCl (MP X a w ++ rest) H) {i : Int32} {v : Int32} (hv : rd (w.2.1 26) 67 i = some v) (hdg : decode cc pc = .ok (.iaload, 1)) (kk : W p l e R s m args below meth c H locs cells slots Q (F0 m (pc + 1) ls (.int v :: st))) : W p l e R s m args below meth c H locs cells slots Q (F0 m pc ls (.int i :: .ref (a 26) :: st)) := by
  obtain ⟨h1, h2⟩ := rd_in hv
  subst h2
  exact va_iald B.1 B.2.1 hK.k hP 15 0 rfl rfl h1 hdg kk
theorem mo_st26 (B : CallFix p m c cc nL s args lw_all RX4) (hK : KK X s) (hG : GG X (MP X a w ++ rest) s.heap H locs) {i : Int32} {x : Int32} {w' : MW} (hw : mst w 26 67 i x = some w') (hdg : decode cc pc = .ok (.iastore, 1)) (kk : ∀ (H1 : Heap) (locs1 : List Loc), GG X (MP X a w' ++ rest) s.heap H1 locs1 → W p l e R s m args below meth c H1 locs1 cells slots Q (F0 m (pc + 1) ls st)) : W p l e R s m args below meth c H locs cells slots Q (F0 m pc ls (.int x :: .int i :: .ref (a 26) :: st)) := by
  obtain ⟨h1, h2⟩ := mst_in hw
  subst h2
  exact va_iast B.1 B.2.1 hK.k hG.1 hG.2.1 hG.2.2 15 0 rfl rfl h1 hdg (fun H1 l1 g1 g2 g3 => kk H1 l1 ⟨g1, g2, g3⟩)
theorem mo_g27 (B : CallFix p m c cc nL s args lw_all RX4) (hK : KK X s) (hP : va_P X.2.2.1 vwCl (MP X a w ++ rest) H) (hdg : decode cc pc = .ok (.getfield 57, 3)) (kk : W p l e R s m args below meth c H locs cells slots Q (F0 m (pc + 3) ls (.ref (a 27) :: st))) : W p l e R s m args below meth c H locs cells slots Q (F0 m pc ls (.ref (a 0) :: st)) := w_get B hK hP 0 27 rfl rfl in_X4 (by decide) q1417 rfl rfl hdg kk
theorem mo_ld27 (B : CallFix p m c cc nL s args lw_all RX4) (hK : KK X s) (hP : va_P X.2.2.1 vwCl (MP X a w ++ rest) H) {i : Int32} {v : Int32} (hv : rd (w.2.1 27) 67 i = some v) (hdg : decode cc pc = .ok (.iaload, 1)) (kk : W p l e R s m args below meth c H locs cells slots Q (F0 m (pc + 1) ls (.int v :: st))) : W p l e R s m args below meth c H locs cells slots Q (F0 m pc ls (.int i :: .ref (a 27) :: st)) := by
  obtain ⟨h1, h2⟩ := rd_in hv
  subst h2
  exact va_iald B.1 B.2.1 hK.k hP 16 0 rfl rfl h1 hdg kk
theorem mo_st27 (B : CallFix p m c cc nL s args lw_all RX4) (hK : KK X s) (hG : GG X (MP X a w ++ rest) s.heap H locs) {i : Int32} {x : Int32} {w' : MW} (hw : mst w 27 67 i x = some w') (hdg : decode cc pc = .ok (.iastore, 1)) (kk : ∀ (H1 : Heap) (locs1 : List Loc), GG X (MP X a w' ++ rest) s.heap H1 locs1 → W p l e R s m args below meth c H1 locs1 cells slots Q (F0 m (pc + 1) ls st)) : W p l e R s m args below meth c H locs cells slots Q (F0 m pc ls (.int x :: .int i :: .ref (a 27) :: st)) := by
  obtain ⟨h1, h2⟩ := mst_in hw
  subst h2
  exact va_iast B.1 B.2.1 hK.k hG.1 hG.2.1 hG.2.2 16 0 rfl rfl h1 hdg (fun H1 l1 g1 g2 g3 => kk H1 l1 ⟨g1, g2, g3⟩)
end MO
