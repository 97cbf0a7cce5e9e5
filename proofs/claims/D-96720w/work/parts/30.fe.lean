set_option maxRecDepth 100000
section A_fe
variable {p : Program} {l : Launch} {e : Env} {R : Room} {s : State} {m : MethodId} {args : Array Value} {below : List Frame} {meth : Method} {c : Code} {H : Heap} {locs : List Loc} {cells slots : Nat} {Q : State → Prop} {cc : ByteArray} {nL pc : Nat} {ls : Array Slot} {st : List Value} {X : CX} {rest : va_W} {fa : Nat → Nat}
theorem fe_fen_g0 (B : CallFix p m c cc nL s args lw_all RX1) (hK : KK X s) {w : FW} (hP : va_P X.2.2.1 vwCl (FP X fa w ++ rest) H) (hdg : decode cc pc = .ok (.getfield 9, 3)) (kk : W p l e R s m args below meth c H locs cells slots Q (F0 m (pc + 3) ls (.ref (fa 1) :: st))) : W p l e R s m args below meth c H locs cells slots Q (F0 m pc ls (.ref (fa 0) :: st)) := w_get B hK hP 0 0 rfl rfl in_X1 (by decide) q160 rfl rfl hdg kk
theorem fe_fen_g1 (B : CallFix p m c cc nL s args lw_all RX1) (hK : KK X s) {w : FW} (hP : va_P X.2.2.1 vwCl (FP X fa w ++ rest) H) (hdg : decode cc pc = .ok (.getfield 17, 3)) (kk : W p l e R s m args below meth c H locs cells slots Q (F0 m (pc + 3) ls (.ref (fa 2) :: st))) : W p l e R s m args below meth c H locs cells slots Q (F0 m pc ls (.ref (fa 0) :: st)) := w_get B hK hP 0 1 rfl rfl in_X1 (by decide) q161 rfl rfl hdg kk
theorem fe_fen_g2 (B : CallFix p m c cc nL s args lw_all RX1) (hK : KK X s) {w : FW} (hP : va_P X.2.2.1 vwCl (FP X fa w ++ rest) H) (hdg : decode cc pc = .ok (.getfield 21, 3)) (kk : W p l e R s m args below meth c H locs cells slots Q (F0 m (pc + 3) ls (.ref (fa 3) :: st))) : W p l e R s m args below meth c H locs cells slots Q (F0 m pc ls (.ref (fa 0) :: st)) := w_get B hK hP 0 2 rfl rfl in_X1 (by decide) q163 rfl rfl hdg kk
theorem fe_fen_g3 (B : CallFix p m c cc nL s args lw_all RX1) (hK : KK X s) {w : FW} (hP : va_P X.2.2.1 vwCl (FP X fa w ++ rest) H) (hdg : decode cc pc = .ok (.getfield 24, 3)) (kk : W p l e R s m args below meth c H locs cells slots Q (F0 m (pc + 3) ls (.ref (fa 4) :: st))) : W p l e R s m args below meth c H locs cells slots Q (F0 m pc ls (.ref (fa 0) :: st)) := w_get B hK hP 0 3 rfl rfl in_X1 (by decide) q165 rfl rfl hdg kk
theorem fe_fen_g4 (B : CallFix p m c cc nL s args lw_all RX1) (hK : KK X s) {w : FW} (hP : va_P X.2.2.1 vwCl (FP X fa w ++ rest) H) (hdg : decode cc pc = .ok (.getfield 30, 3)) (kk : W p l e R s m args below meth c H locs cells slots Q (F0 m (pc + 3) ls (.ref (fa 5) :: st))) : W p l e R s m args below meth c H locs cells slots Q (F0 m pc ls (.ref (fa 0) :: st)) := w_get B hK hP 0 4 rfl rfl in_X1 (by decide) q167 rfl rfl hdg kk
theorem fe_fen_g5 (B : CallFix p m c cc nL s args lw_all RX1) (hK : KK X s) {w : FW} (hP : va_P X.2.2.1 vwCl (FP X fa w ++ rest) H) (hdg : decode cc pc = .ok (.getfield 34, 3)) (kk : W p l e R s m args below meth c H locs cells slots Q (F0 m (pc + 3) ls (.ref (fa 6) :: st))) : W p l e R s m args below meth c H locs cells slots Q (F0 m pc ls (.ref (fa 0) :: st)) := w_get B hK hP 0 5 rfl rfl in_X1 (by decide) q168 rfl rfl hdg kk
theorem fe_fen_g6 (B : CallFix p m c cc nL s args lw_all RX1) (hK : KK X s) {w : FW} (hP : va_P X.2.2.1 vwCl (FP X fa w ++ rest) H) (hdg : decode cc pc = .ok (.getfield 37, 3)) (kk : W p l e R s m args below meth c H locs cells slots Q (F0 m (pc + 3) ls (.int (w.1 6) :: st))) : W p l e R s m args below meth c H locs cells slots Q (F0 m pc ls (.ref (fa 0) :: st)) := w_get B hK hP 0 6 rfl rfl in_X1 (by decide) q170 rfl rfl hdg kk
theorem fe_fen_p6 (B : CallFix p m c cc nL s args lw_all RX1) (hK : KK X s) {w : FW} (hG : GG X (FP X fa w ++ rest) s.heap H locs) {x : Int32} {w' : FW} (hw : some (fpt w 6 x) = some w') (hdg : decode cc pc = .ok (.putfield 37, 3)) (kk : ∀ (H1 : Heap) (locs1 : List Loc), GG X (FP X fa (w') ++ rest) s.heap H1 locs1 → W p l e R s m args below meth c H1 locs1 cells slots Q (F0 m (pc + 3) ls st)) : W p l e R s m args below meth c H locs cells slots Q (F0 m pc ls (.int x :: .ref (fa 0) :: st)) := by
  cases hw
  exact w_put B hK hG 0 6 rfl rfl in_X1 tyX1 tyX1_ok nmX1 (by decide) q170 rfl rfl rfl rfl (Nat.le_of_ble_eq_true rfl) hdg kk
theorem fe_fen_g7 (B : CallFix p m c cc nL s args lw_all RX1) (hK : KK X s) {w : FW} (hP : va_P X.2.2.1 vwCl (FP X fa w ++ rest) H) (hdg : decode cc pc = .ok (.getfield 51, 3)) (kk : W p l e R s m args below meth c H locs cells slots Q (F0 m (pc + 3) ls (.int (w.1 7) :: st))) : W p l e R s m args below meth c H locs cells slots Q (F0 m pc ls (.ref (fa 0) :: st)) := w_get B hK hP 0 7 rfl rfl in_X1 (by decide) q173 rfl rfl hdg kk
theorem fe_fen_p7 (B : CallFix p m c cc nL s args lw_all RX1) (hK : KK X s) {w : FW} (hG : GG X (FP X fa w ++ rest) s.heap H locs) {x : Int32} {w' : FW} (hw : some (fpt w 7 x) = some w') (hdg : decode cc pc = .ok (.putfield 51, 3)) (kk : ∀ (H1 : Heap) (locs1 : List Loc), GG X (FP X fa (w') ++ rest) s.heap H1 locs1 → W p l e R s m args below meth c H1 locs1 cells slots Q (F0 m (pc + 3) ls st)) : W p l e R s m args below meth c H locs cells slots Q (F0 m pc ls (.int x :: .ref (fa 0) :: st)) := by
  cases hw
  exact w_put B hK hG 0 7 rfl rfl in_X1 tyX1 tyX1_ok nmX1 (by decide) q173 rfl rfl rfl rfl (Nat.le_of_ble_eq_true rfl) hdg kk
theorem fe_fen_g8 (B : CallFix p m c cc nL s args lw_all RX1) (hK : KK X s) {w : FW} (hP : va_P X.2.2.1 vwCl (FP X fa w ++ rest) H) (hdg : decode cc pc = .ok (.getfield 54, 3)) (kk : W p l e R s m args below meth c H locs cells slots Q (F0 m (pc + 3) ls (.int (w.1 8) :: st))) : W p l e R s m args below meth c H locs cells slots Q (F0 m pc ls (.ref (fa 0) :: st)) := w_get B hK hP 0 8 rfl rfl in_X1 (by decide) q176 rfl rfl hdg kk
theorem fe_fen_p8 (B : CallFix p m c cc nL s args lw_all RX1) (hK : KK X s) {w : FW} (hG : GG X (FP X fa w ++ rest) s.heap H locs) {x : Int32} {w' : FW} (hw : some (fpt w 8 x) = some w') (hdg : decode cc pc = .ok (.putfield 54, 3)) (kk : ∀ (H1 : Heap) (locs1 : List Loc), GG X (FP X fa (w') ++ rest) s.heap H1 locs1 → W p l e R s m args below meth c H1 locs1 cells slots Q (F0 m (pc + 3) ls st)) : W p l e R s m args below meth c H locs cells slots Q (F0 m pc ls (.int x :: .ref (fa 0) :: st)) := by
  cases hw
  exact w_put B hK hG 0 8 rfl rfl in_X1 tyX1 tyX1_ok nmX1 (by decide) q176 rfl rfl rfl rfl (Nat.le_of_ble_eq_true rfl) hdg kk
theorem fe_fen_g9 (B : CallFix p m c cc nL s args lw_all RX1) (hK : KK X s) {w : FW} (hP : va_P X.2.2.1 vwCl (FP X fa w ++ rest) H) (hdg : decode cc pc = .ok (.getfield 57, 3)) (kk : W p l e R s m args below meth c H locs cells slots Q (F0 m (pc + 3) ls (.int (w.1 9) :: st))) : W p l e R s m args below meth c H locs cells slots Q (F0 m pc ls (.ref (fa 0) :: st)) := w_get B hK hP 0 9 rfl rfl in_X1 (by decide) q179 rfl rfl hdg kk
theorem fe_fen_p9 (B : CallFix p m c cc nL s args lw_all RX1) (hK : KK X s) {w : FW} (hG : GG X (FP X fa w ++ rest) s.heap H locs) {x : Int32} {w' : FW} (hw : some (fpt w 9 x) = some w') (hdg : decode cc pc = .ok (.putfield 57, 3)) (kk : ∀ (H1 : Heap) (locs1 : List Loc), GG X (FP X fa (w') ++ rest) s.heap H1 locs1 → W p l e R s m args below meth c H1 locs1 cells slots Q (F0 m (pc + 3) ls st)) : W p l e R s m args below meth c H locs cells slots Q (F0 m pc ls (.int x :: .ref (fa 0) :: st)) := by
  cases hw
  exact w_put B hK hG 0 9 rfl rfl in_X1 tyX1 tyX1_ok nmX1 (by decide) q179 rfl rfl rfl rfl (Nat.le_of_ble_eq_true rfl) hdg kk
theorem fe_fen_g10 (B : CallFix p m c cc nL s args lw_all RX1) (hK : KK X s) {w : FW} (hP : va_P X.2.2.1 vwCl (FP X fa w ++ rest) H) (hdg : decode cc pc = .ok (.getfield 41, 3)) (kk : W p l e R s m args below meth c H locs cells slots Q (F0 m (pc + 3) ls (.int (w.1 10) :: st))) : W p l e R s m args below meth c H locs cells slots Q (F0 m pc ls (.ref (fa 0) :: st)) := w_get B hK hP 0 10 rfl rfl in_X1 (by decide) q182 rfl rfl hdg kk
theorem fe_fen_p10 (B : CallFix p m c cc nL s args lw_all RX1) (hK : KK X s) {w : FW} (hG : GG X (FP X fa w ++ rest) s.heap H locs) {x : Int32} {w' : FW} (hw : some (fpt w 10 x) = some w') (hdg : decode cc pc = .ok (.putfield 41, 3)) (kk : ∀ (H1 : Heap) (locs1 : List Loc), GG X (FP X fa (w') ++ rest) s.heap H1 locs1 → W p l e R s m args below meth c H1 locs1 cells slots Q (F0 m (pc + 3) ls st)) : W p l e R s m args below meth c H locs cells slots Q (F0 m pc ls (.int x :: .ref (fa 0) :: st)) := by
  cases hw
  exact w_put B hK hG 0 10 rfl rfl in_X1 tyX1 tyX1_ok nmX1 (by decide) q182 rfl rfl rfl rfl (Nat.le_of_ble_eq_true rfl) hdg kk
theorem fe_lost_g0 (B : CallFix p m c cc nL s args lw_all RX1) (hK : KK X s) {w : FW} (hP : va_P X.2.2.1 vwCl (FP X fa w ++ rest) H) (hdg : decode cc pc = .ok (.getfield 94, 3)) (kk : W p l e R s m args below meth c H locs cells slots Q (F0 m (pc + 3) ls (.ref (fa 7) :: st))) : W p l e R s m args below meth c H locs cells slots Q (F0 m pc ls (.ref (fa 5) :: st)) := w_get B hK hP 4 0 rfl rfl in_X2 (by decide) q148 rfl rfl hdg kk
theorem fe_lost_g1 (B : CallFix p m c cc nL s args lw_all RX1) (hK : KK X s) {w : FW} (hP : va_P X.2.2.1 vwCl (FP X fa w ++ rest) H) (hdg : decode cc pc = .ok (.getfield 88, 3)) (kk : W p l e R s m args below meth c H locs cells slots Q (F0 m (pc + 3) ls (.int (w.1 11) :: st))) : W p l e R s m args below meth c H locs cells slots Q (F0 m pc ls (.ref (fa 5) :: st)) := w_get B hK hP 4 1 rfl rfl in_X2 (by decide) q152 rfl rfl hdg kk
theorem fe_lost_p1 (B : CallFix p m c cc nL s args lw_all RX1) (hK : KK X s) {w : FW} (hG : GG X (FP X fa w ++ rest) s.heap H locs) {x : Int32} {w' : FW} (hw : some (fpt w 11 x) = some w') (hdg : decode cc pc = .ok (.putfield 88, 3)) (kk : ∀ (H1 : Heap) (locs1 : List Loc), GG X (FP X fa (w') ++ rest) s.heap H1 locs1 → W p l e R s m args below meth c H1 locs1 cells slots Q (F0 m (pc + 3) ls st)) : W p l e R s m args below meth c H locs cells slots Q (F0 m pc ls (.int x :: .ref (fa 5) :: st)) := by
  cases hw
  exact w_put B hK hG 4 1 rfl rfl in_X2 tyX2 tyX2_ok nmX2 (by decide) q152 rfl rfl rfl rfl (Nat.le_of_ble_eq_true rfl) hdg kk
theorem fe_bog_l (B : CallFix p m c cc nL s args lw_all RX1) (hK : KK X s) {w : FW} (hP : va_P X.2.2.1 vwCl (FP X fa w ++ rest) H) {i : Int32} {v : Int32} (hv : rd (w.2.1 0) 7 i = some v) (hdg : decode cc pc = .ok (.iaload, 1)) (kk : W p l e R s m args below meth c H locs cells slots Q (F0 m (pc + 1) ls (.int v :: st))) : W p l e R s m args below meth c H locs cells slots Q (F0 m pc ls (.int i :: .ref (fa 1) :: st)) := by
  obtain ⟨h1, h2⟩ := rd_in hv
  subst h2
  exact va_iald B.1 B.2.1 hK.k hP 1 0 rfl rfl h1 hdg kk
theorem fe_bog_n (B : CallFix p m c cc nL s args lw_all RX1) (hK : KK X s) {w : FW} (hP : va_P X.2.2.1 vwCl (FP X fa w ++ rest) H) (hdg : decode cc pc = .ok (.arraylength, 1)) (kk : W p l e R s m args below meth c H locs cells slots Q (F0 m (pc + 1) ls (.int 7 :: st))) : W p l e R s m args below meth c H locs cells slots Q (F0 m pc ls (.ref (fa 1) :: st)) := va_alen B.1 B.2.1 hK.k hP 1 0 rfl rfl rfl hdg kk
theorem fe_bog_s (B : CallFix p m c cc nL s args lw_all RX1) (hK : KK X s) {w : FW} (hG : GG X (FP X fa w ++ rest) s.heap H locs) {i : Int32} {x : Int32} {w' : FW} (hw : (sto (w.2.1 0) 7 i x).map (fun g => fau w 0 g) = some w') (hdg : decode cc pc = .ok (.iastore, 1)) (kk : ∀ (H1 : Heap) (locs1 : List Loc), GG X (FP X fa (w') ++ rest) s.heap H1 locs1 → W p l e R s m args below meth c H1 locs1 cells slots Q (F0 m (pc + 1) ls st)) : W p l e R s m args below meth c H locs cells slots Q (F0 m pc ls (.int x :: .int i :: .ref (fa 1) :: st)) := by
  obtain ⟨h1, h2⟩ := sto_in hw
  subst h2
  exact va_iast B.1 B.2.1 hK.k hG.1 hG.2.1 hG.2.2 1 0 rfl rfl h1 hdg (fun H1 l1 g1 g2 g3 => kk H1 l1 ⟨g1, g2, g3⟩)
theorem fe_cell_l (B : CallFix p m c cc nL s args lw_all RX1) (hK : KK X s) {w : FW} (hP : va_P X.2.2.1 vwCl (FP X fa w ++ rest) H) {i : Int32} {v : Int32} (hv : rd (w.2.1 2) 4 i = some v) (hdg : decode cc pc = .ok (.iaload, 1)) (kk : W p l e R s m args below meth c H locs cells slots Q (F0 m (pc + 1) ls (.int v :: st))) : W p l e R s m args below meth c H locs cells slots Q (F0 m pc ls (.int i :: .ref (fa 3) :: st)) := by
  obtain ⟨h1, h2⟩ := rd_in hv
  subst h2
  exact va_iald B.1 B.2.1 hK.k hP 2 0 rfl rfl h1 hdg kk
theorem fe_cell_n (B : CallFix p m c cc nL s args lw_all RX1) (hK : KK X s) {w : FW} (hP : va_P X.2.2.1 vwCl (FP X fa w ++ rest) H) (hdg : decode cc pc = .ok (.arraylength, 1)) (kk : W p l e R s m args below meth c H locs cells slots Q (F0 m (pc + 1) ls (.int 4 :: st))) : W p l e R s m args below meth c H locs cells slots Q (F0 m pc ls (.ref (fa 3) :: st)) := va_alen B.1 B.2.1 hK.k hP 2 0 rfl rfl rfl hdg kk
theorem fe_cell_s (B : CallFix p m c cc nL s args lw_all RX1) (hK : KK X s) {w : FW} (hG : GG X (FP X fa w ++ rest) s.heap H locs) {i : Int32} {x : Int32} {w' : FW} (hw : (sto (w.2.1 2) 4 i x).map (fun g => fau w 2 g) = some w') (hdg : decode cc pc = .ok (.iastore, 1)) (kk : ∀ (H1 : Heap) (locs1 : List Loc), GG X (FP X fa (w') ++ rest) s.heap H1 locs1 → W p l e R s m args below meth c H1 locs1 cells slots Q (F0 m (pc + 1) ls st)) : W p l e R s m args below meth c H locs cells slots Q (F0 m pc ls (.int x :: .int i :: .ref (fa 3) :: st)) := by
  obtain ⟨h1, h2⟩ := sto_in hw
  subst h2
  exact va_iast B.1 B.2.1 hK.k hG.1 hG.2.1 hG.2.2 2 0 rfl rfl h1 hdg (fun H1 l1 g1 g2 g3 => kk H1 l1 ⟨g1, g2, g3⟩)
theorem fe_sure_l (B : CallFix p m c cc nL s args lw_all RX1) (hK : KK X s) {w : FW} (hP : va_P X.2.2.1 vwCl (FP X fa w ++ rest) H) {i : Int32} {v : Int32} (hv : rd (w.2.1 3) 4 i = some v) (hdg : decode cc pc = .ok (.iaload, 1)) (kk : W p l e R s m args below meth c H locs cells slots Q (F0 m (pc + 1) ls (.int v :: st))) : W p l e R s m args below meth c H locs cells slots Q (F0 m pc ls (.int i :: .ref (fa 4) :: st)) := by
  obtain ⟨h1, h2⟩ := rd_in hv
  subst h2
  exact va_iald B.1 B.2.1 hK.k hP 3 0 rfl rfl h1 hdg kk
theorem fe_sure_n (B : CallFix p m c cc nL s args lw_all RX1) (hK : KK X s) {w : FW} (hP : va_P X.2.2.1 vwCl (FP X fa w ++ rest) H) (hdg : decode cc pc = .ok (.arraylength, 1)) (kk : W p l e R s m args below meth c H locs cells slots Q (F0 m (pc + 1) ls (.int 4 :: st))) : W p l e R s m args below meth c H locs cells slots Q (F0 m pc ls (.ref (fa 4) :: st)) := va_alen B.1 B.2.1 hK.k hP 3 0 rfl rfl rfl hdg kk
theorem fe_sure_s (B : CallFix p m c cc nL s args lw_all RX1) (hK : KK X s) {w : FW} (hG : GG X (FP X fa w ++ rest) s.heap H locs) {i : Int32} {x : Int32} {w' : FW} (hw : (sto (w.2.1 3) 4 i x).map (fun g => fau w 3 g) = some w') (hdg : decode cc pc = .ok (.iastore, 1)) (kk : ∀ (H1 : Heap) (locs1 : List Loc), GG X (FP X fa (w') ++ rest) s.heap H1 locs1 → W p l e R s m args below meth c H1 locs1 cells slots Q (F0 m (pc + 1) ls st)) : W p l e R s m args below meth c H locs cells slots Q (F0 m pc ls (.int x :: .int i :: .ref (fa 4) :: st)) := by
  obtain ⟨h1, h2⟩ := sto_in hw
  subst h2
  exact va_iast B.1 B.2.1 hK.k hG.1 hG.2.1 hG.2.2 3 0 rfl rfl h1 hdg (fun H1 l1 g1 g2 g3 => kk H1 l1 ⟨g1, g2, g3⟩)
theorem fe_away_l (B : CallFix p m c cc nL s args lw_all RX1) (hK : KK X s) {w : FW} (hP : va_P X.2.2.1 vwCl (FP X fa w ++ rest) H) {i : Int32} {v : Int32} (hv : rd (w.2.1 5) 70 i = some v) (hdg : decode cc pc = .ok (.iaload, 1)) (kk : W p l e R s m args below meth c H locs cells slots Q (F0 m (pc + 1) ls (.int v :: st))) : W p l e R s m args below meth c H locs cells slots Q (F0 m pc ls (.int i :: .ref (fa 6) :: st)) := by
  obtain ⟨h1, h2⟩ := rd_in hv
  subst h2
  exact va_iald B.1 B.2.1 hK.k hP 5 0 rfl rfl h1 hdg kk
theorem fe_away_n (B : CallFix p m c cc nL s args lw_all RX1) (hK : KK X s) {w : FW} (hP : va_P X.2.2.1 vwCl (FP X fa w ++ rest) H) (hdg : decode cc pc = .ok (.arraylength, 1)) (kk : W p l e R s m args below meth c H locs cells slots Q (F0 m (pc + 1) ls (.int 70 :: st))) : W p l e R s m args below meth c H locs cells slots Q (F0 m pc ls (.ref (fa 6) :: st)) := va_alen B.1 B.2.1 hK.k hP 5 0 rfl rfl rfl hdg kk
theorem fe_away_s (B : CallFix p m c cc nL s args lw_all RX1) (hK : KK X s) {w : FW} (hG : GG X (FP X fa w ++ rest) s.heap H locs) {i : Int32} {x : Int32} {w' : FW} (hw : (sto (w.2.1 5) 70 i x).map (fun g => fau w 5 g) = some w') (hdg : decode cc pc = .ok (.iastore, 1)) (kk : ∀ (H1 : Heap) (locs1 : List Loc), GG X (FP X fa (w') ++ rest) s.heap H1 locs1 → W p l e R s m args below meth c H1 locs1 cells slots Q (F0 m (pc + 1) ls st)) : W p l e R s m args below meth c H locs cells slots Q (F0 m pc ls (.int x :: .int i :: .ref (fa 6) :: st)) := by
  obtain ⟨h1, h2⟩ := sto_in hw
  subst h2
  exact va_iast B.1 B.2.1 hK.k hG.1 hG.2.1 hG.2.2 5 0 rfl rfl h1 hdg (fun H1 l1 g1 g2 g3 => kk H1 l1 ⟨g1, g2, g3⟩)
theorem fe_lcell_l (B : CallFix p m c cc nL s args lw_all RX1) (hK : KK X s) {w : FW} (hP : va_P X.2.2.1 vwCl (FP X fa w ++ rest) H) {i : Int32} {v : Int32} (hv : rd (w.2.1 11) 4 i = some v) (hdg : decode cc pc = .ok (.iaload, 1)) (kk : W p l e R s m args below meth c H locs cells slots Q (F0 m (pc + 1) ls (.int v :: st))) : W p l e R s m args below meth c H locs cells slots Q (F0 m pc ls (.int i :: .ref (fa 7) :: st)) := by
  obtain ⟨h1, h2⟩ := rd_in hv
  subst h2
  exact va_iald B.1 B.2.1 hK.k hP 6 0 rfl rfl h1 hdg kk
theorem fe_lcell_n (B : CallFix p m c cc nL s args lw_all RX1) (hK : KK X s) {w : FW} (hP : va_P X.2.2.1 vwCl (FP X fa w ++ rest) H) (hdg : decode cc pc = .ok (.arraylength, 1)) (kk : W p l e R s m args below meth c H locs cells slots Q (F0 m (pc + 1) ls (.int 4 :: st))) : W p l e R s m args below meth c H locs cells slots Q (F0 m pc ls (.ref (fa 7) :: st)) := va_alen B.1 B.2.1 hK.k hP 6 0 rfl rfl rfl hdg kk
theorem fe_lcell_s (B : CallFix p m c cc nL s args lw_all RX1) (hK : KK X s) {w : FW} (hG : GG X (FP X fa w ++ rest) s.heap H locs) {i : Int32} {x : Int32} {w' : FW} (hw : (sto (w.2.1 11) 4 i x).map (fun g => fau w 11 g) = some w') (hdg : decode cc pc = .ok (.iastore, 1)) (kk : ∀ (H1 : Heap) (locs1 : List Loc), GG X (FP X fa (w') ++ rest) s.heap H1 locs1 → W p l e R s m args below meth c H1 locs1 cells slots Q (F0 m (pc + 1) ls st)) : W p l e R s m args below meth c H locs cells slots Q (F0 m pc ls (.int x :: .int i :: .ref (fa 7) :: st)) := by
  obtain ⟨h1, h2⟩ := sto_in hw
  subst h2
  exact va_iast B.1 B.2.1 hK.k hG.1 hG.2.1 hG.2.2 6 0 rfl rfl h1 hdg (fun H1 l1 g1 g2 g3 => kk H1 l1 ⟨g1, g2, g3⟩)
end A_fe
section A_lo
variable {p : Program} {l : Launch} {e : Env} {R : Room} {s : State} {m : MethodId} {args : Array Value} {below : List Frame} {meth : Method} {c : Code} {H : Heap} {locs : List Loc} {cells slots : Nat} {Q : State → Prop} {cc : ByteArray} {nL pc : Nat} {ls : Array Slot} {st : List Value} {X : CX} {rest : va_W} {la : Nat → Nat}
theorem lo_lost_g0 (B : CallFix p m c cc nL s args lw_all RX2) (hK : KK X s) {w : LW} (hP : va_P X.2.2.1 vwCl (LoP X la w ++ rest) H) (hdg : decode cc pc = .ok (.getfield 9, 3)) (kk : W p l e R s m args below meth c H locs cells slots Q (F0 m (pc + 3) ls (.ref (la 1) :: st))) : W p l e R s m args below meth c H locs cells slots Q (F0 m pc ls (.ref (la 0) :: st)) := w_get B hK hP 0 0 rfl rfl in_X2 (by decide) q143 rfl rfl hdg kk
theorem lo_lost_g1 (B : CallFix p m c cc nL s args lw_all RX2) (hK : KK X s) {w : LW} (hP : va_P X.2.2.1 vwCl (LoP X la w ++ rest) H) (hdg : decode cc pc = .ok (.getfield 15, 3)) (kk : W p l e R s m args below meth c H locs cells slots Q (F0 m (pc + 3) ls (.int w.1 :: st))) : W p l e R s m args below meth c H locs cells slots Q (F0 m pc ls (.ref (la 0) :: st)) := w_get B hK hP 0 1 rfl rfl in_X2 (by decide) q149 rfl rfl hdg kk
theorem lo_lost_p1 (B : CallFix p m c cc nL s args lw_all RX2) (hK : KK X s) {w : LW} (hG : GG X (LoP X la w ++ rest) s.heap H locs) {x : Int32} {w' : LW} (hw : some ((x, w.2)) = some w') (hdg : decode cc pc = .ok (.putfield 15, 3)) (kk : ∀ (H1 : Heap) (locs1 : List Loc), GG X (LoP X la (w') ++ rest) s.heap H1 locs1 → W p l e R s m args below meth c H1 locs1 cells slots Q (F0 m (pc + 3) ls st)) : W p l e R s m args below meth c H locs cells slots Q (F0 m pc ls (.int x :: .ref (la 0) :: st)) := by
  cases hw
  exact w_put B hK hG 0 1 rfl rfl in_X2 tyX2 tyX2_ok nmX2 (by decide) q149 rfl rfl rfl rfl (Nat.le_of_ble_eq_true rfl) hdg kk
theorem lo_cell_l (B : CallFix p m c cc nL s args lw_all RX2) (hK : KK X s) {w : LW} (hP : va_P X.2.2.1 vwCl (LoP X la w ++ rest) H) {i : Int32} {v : Int32} (hv : rd w.2 4 i = some v) (hdg : decode cc pc = .ok (.iaload, 1)) (kk : W p l e R s m args below meth c H locs cells slots Q (F0 m (pc + 1) ls (.int v :: st))) : W p l e R s m args below meth c H locs cells slots Q (F0 m pc ls (.int i :: .ref (la 1) :: st)) := by
  obtain ⟨h1, h2⟩ := rd_in hv
  subst h2
  exact va_iald B.1 B.2.1 hK.k hP 1 0 rfl rfl h1 hdg kk
theorem lo_cell_n (B : CallFix p m c cc nL s args lw_all RX2) (hK : KK X s) {w : LW} (hP : va_P X.2.2.1 vwCl (LoP X la w ++ rest) H) (hdg : decode cc pc = .ok (.arraylength, 1)) (kk : W p l e R s m args below meth c H locs cells slots Q (F0 m (pc + 1) ls (.int 4 :: st))) : W p l e R s m args below meth c H locs cells slots Q (F0 m pc ls (.ref (la 1) :: st)) := va_alen B.1 B.2.1 hK.k hP 1 0 rfl rfl rfl hdg kk
theorem lo_cell_s (B : CallFix p m c cc nL s args lw_all RX2) (hK : KK X s) {w : LW} (hG : GG X (LoP X la w ++ rest) s.heap H locs) {i : Int32} {x : Int32} {w' : LW} (hw : (sto w.2 4 i x).map (fun g => (w.1, g)) = some w') (hdg : decode cc pc = .ok (.iastore, 1)) (kk : ∀ (H1 : Heap) (locs1 : List Loc), GG X (LoP X la (w') ++ rest) s.heap H1 locs1 → W p l e R s m args below meth c H1 locs1 cells slots Q (F0 m (pc + 1) ls st)) : W p l e R s m args below meth c H locs cells slots Q (F0 m pc ls (.int x :: .int i :: .ref (la 1) :: st)) := by
  obtain ⟨h1, h2⟩ := sto_in hw
  subst h2
  exact va_iast B.1 B.2.1 hK.k hG.1 hG.2.1 hG.2.2 1 0 rfl rfl h1 hdg (fun H1 l1 g1 g2 g3 => kk H1 l1 ⟨g1, g2, g3⟩)
end A_lo
section S_C_isIn
variable {p : Program} {l : Launch} {e : Env} {R : Room} {s : State} {m : MethodId} {args : Array Value} {below : List Frame} {meth : Method} {c : Code} {H : Heap} {locs : List Loc} {cells slots : Nat} {Q : State → Prop} {cc : ByteArray} {nL pc : Nat} {ls : Array Slot} {st : List Value} {X : CX} {rest : va_W}
noncomputable def fC_isIn (x0 : Int32) (x1 : Int32) (x2 : Int32) : Option (Int32) :=
  if x0 < x1 then
    some 0
  else
    if x2 < x0 then
      some 0
    else
      some 1

set_option maxHeartbeats 4000000 in
theorem wC_isIn (B : CallFix p m c cX0_isIn 3 s args lw_all RX0) {x0 : Int32} {x1 : Int32} {x2 : Int32} {res : Int32} (hf : fC_isIn x0 x1 x2 = some res) (kr : ∀ (r : Int32), res = r → narrow .boolean (.int r) = .int r → ∀ (pc : Nat) (ls : Array Slot), decode cX0_isIn pc = .ok (.ireturn, 1) → W p l e (RM 0 0) s m args below meth c s.heap [] 0 0 Q (F0 m pc ls [.int r])) {ls : Array Slot} (hl : lv_has ls 3 [(0, .int x0), (1, .int x1), (2, .int x2)]) : W p l e (RM 0 0) s m args below meth c s.heap [] 0 0 Q (F0 m 0 ls []) := by
  have hx := B.1
  have hb := B.2.1
  unfold fC_isIn at hf
  refine lv_iload_n hx hb dX0_isIn_0 rfl (lv_at hl 0 rfl) ?_
  refine lv_iload_n hx hb dX0_isIn_1 rfl (lv_at hl 1 rfl) ?_
  refine lv_icmp_lt (tgt := 14) hx hb dX0_isIn_2 (by decide) (fun c_1 => ?_) (fun c_1 => ?_)
  · have hf := ifp c_1 hf
    refine lv_iconst (v := 0) hx hb dX0_isIn_14 (by decide) ?_
    exact kr _ (Option.some.inj hf).symm (by decide) _ _ dX0_isIn_15
  · have hf := ifn c_1 hf
    refine lv_iload_n hx hb dX0_isIn_5 rfl (lv_at hl 0 rfl) ?_
    refine lv_iload_n hx hb dX0_isIn_6 rfl (lv_at hl 2 rfl) ?_
    refine lv_icmp_gt (tgt := 14) hx hb dX0_isIn_7 (by decide) (fun c_2 => ?_) (fun c_2 => ?_)
    · have hf := ifp c_2 hf
      refine lv_iconst (v := 0) hx hb dX0_isIn_14 (by decide) ?_
      exact kr _ (Option.some.inj hf).symm (by decide) _ _ dX0_isIn_15
    · have hf := ifn c_2 hf
      refine lv_iconst (v := 1) hx hb dX0_isIn_10 (by decide) ?_
      refine lv_goto (tgt := 15) hx hb dX0_isIn_11 (by decide) ?_
      exact kr _ (Option.some.inj hf).symm (by decide) _ _ dX0_isIn_15

theorem tC_isIn (l : Launch) (x0 : Int32) (x1 : Int32) (x2 : Int32) (r : Int32) (hf : fC_isIn x0 x1 x2 = some r) : ST l yX0_isIn cX0_isIn 3 (some .boolean) 0 0 [.int x0, .int x1, .int x2] (.int r) := by
  refine ST.mk (by decide) (Nat.le_of_ble_eq_true rfl) ?_
  intro p e s m below meth c B hr hlk ls hl
  exact wC_isIn B hf (fun r h hn pc ls hd => by cases h; exact w_zretR B hr hlk hn rfl hd) hl
end S_C_isIn

section S_C_has
variable {p : Program} {l : Launch} {e : Env} {R : Room} {s : State} {m : MethodId} {args : Array Value} {below : List Frame} {meth : Method} {c : Code} {H : Heap} {locs : List Loc} {cells slots : Nat} {Q : State → Prop} {cc : ByteArray} {nL pc : Nat} {ls : Array Slot} {st : List Value} {X : CX} {rest : va_W}
noncomputable def fC_has (x0 : Int32) (x1 : Int32) : Option (Int32) :=
  if ((ishr x0 x1) &&& 1) = 1 then
    some 1
  else
    some 0

set_option maxHeartbeats 4000000 in
theorem wC_has (B : CallFix p m c cX0_has 2 s args lw_all RX0) {x0 : Int32} {x1 : Int32} {res : Int32} (hf : fC_has x0 x1 = some res) (kr : ∀ (r : Int32), res = r → narrow .boolean (.int r) = .int r → ∀ (pc : Nat) (ls : Array Slot), decode cX0_has pc = .ok (.ireturn, 1) → W p l e (RM 0 0) s m args below meth c s.heap [] 0 0 Q (F0 m pc ls [.int r])) {ls : Array Slot} (hl : lv_has ls 2 [(0, .int x0), (1, .int x1)]) : W p l e (RM 0 0) s m args below meth c s.heap [] 0 0 Q (F0 m 0 ls []) := by
  have hx := B.1
  have hb := B.2.1
  unfold fC_has at hf
  refine lv_iload_n hx hb dX0_has_0 rfl (lv_at hl 0 rfl) ?_
  refine lv_iload_n hx hb dX0_has_1 rfl (lv_at hl 1 rfl) ?_
  refine w_ishr hx hb dX0_has_2 ?_
  refine lv_iconst (v := 1) hx hb dX0_has_3 (by decide) ?_
  refine lv_iand hx hb dX0_has_4 ?_
  refine lv_iconst (v := 1) hx hb dX0_has_5 (by decide) ?_
  refine lv_icmp_ne (tgt := 13) hx hb dX0_has_6 (by decide) (fun c_1 => ?_) (fun c_1 => ?_)
  · have hf := ifn c_1 hf
    refine lv_iconst (v := 0) hx hb dX0_has_13 (by decide) ?_
    exact kr _ (Option.some.inj hf).symm (by decide) _ _ dX0_has_14
  · have hf := ifp c_1 hf
    refine lv_iconst (v := 1) hx hb dX0_has_9 (by decide) ?_
    refine lv_goto (tgt := 14) hx hb dX0_has_10 (by decide) ?_
    exact kr _ (Option.some.inj hf).symm (by decide) _ _ dX0_has_14

theorem tC_has (l : Launch) (x0 : Int32) (x1 : Int32) (r : Int32) (hf : fC_has x0 x1 = some r) : ST l yX0_has cX0_has 2 (some .boolean) 0 0 [.int x0, .int x1] (.int r) := by
  refine ST.mk (by decide) (Nat.le_of_ble_eq_true rfl) ?_
  intro p e s m below meth c B hr hlk ls hl
  exact wC_has B hf (fun r h hn pc ls hd => by cases h; exact w_zretR B hr hlk hn rfl hd) hl
end S_C_has

section S_C_far
variable {p : Program} {l : Launch} {e : Env} {R : Room} {s : State} {m : MethodId} {args : Array Value} {below : List Frame} {meth : Method} {c : Code} {H : Heap} {locs : List Loc} {cells slots : Nat} {Q : State → Prop} {cc : ByteArray} {nL pc : Nat} {ls : Array Slot} {st : List Value} {X : CX} {rest : va_W}
noncomputable def fC_far (x0 : Int32) (x1 : Int32) : Option (Int32) :=
  some ((iabs ((x0 / 10) - (x1 / 10))) + (iabs ((irem x0 10) - (irem x1 10))))

set_option maxHeartbeats 4000000 in
theorem wC_far (B : CallFix p m c cX0_far 2 s args lw_all RX0) {x0 : Int32} {x1 : Int32} {res : Int32} (hf : fC_far x0 x1 = some res) (kr : ∀ (r : Int32), res = r → ∀ (pc : Nat) (ls : Array Slot), decode cX0_far pc = .ok (.ireturn, 1) → W p l e (RM 1 21) s m args below meth c s.heap [] 0 0 Q (F0 m pc ls [.int r])) {ls : Array Slot} (hl : lv_has ls 2 [(0, .int x0), (1, .int x1)]) : W p l e (RM 1 21) s m args below meth c s.heap [] 0 0 Q (F0 m 0 ls []) := by
  have hx := B.1
  have hb := B.2.1
  unfold fC_far at hf
  refine lv_iload_n hx hb dX0_far_0 rfl (lv_at hl 0 rfl) ?_
  refine lv_bipush (v := 10) hx hb dX0_far_1 (by decide) ?_
  refine lv_idiv hx hb dX0_far_3 (by decide) ?_
  refine lv_iload_n hx hb dX0_far_4 rfl (lv_at hl 1 rfl) ?_
  refine lv_bipush (v := 10) hx hb dX0_far_5 (by decide) ?_
  refine lv_idiv hx hb dX0_far_7 (by decide) ?_
  refine lv_isub hx hb dX0_far_8 ?_
  refine w_abs B hl.1 q530 q531 q104 q532 (Nat.le_of_ble_eq_true rfl) (Nat.le_of_ble_eq_true rfl) (Nat.le_of_ble_eq_true rfl) (Nat.zero_le _) (Nat.zero_le _) dX0_far_9 ?_
  refine lv_iload_n hx hb dX0_far_12 rfl (lv_at hl 0 rfl) ?_
  refine lv_bipush (v := 10) hx hb dX0_far_13 (by decide) ?_
  refine w_irem hx hb dX0_far_15 (by decide) ?_
  refine lv_iload_n hx hb dX0_far_16 rfl (lv_at hl 1 rfl) ?_
  refine lv_bipush (v := 10) hx hb dX0_far_17 (by decide) ?_
  refine w_irem hx hb dX0_far_19 (by decide) ?_
  refine lv_isub hx hb dX0_far_20 ?_
  refine w_abs B hl.1 q530 q531 q104 q532 (Nat.le_of_ble_eq_true rfl) (Nat.le_of_ble_eq_true rfl) (Nat.le_of_ble_eq_true rfl) (Nat.zero_le _) (Nat.zero_le _) dX0_far_21 ?_
  refine lv_iadd hx hb dX0_far_24 ?_
  exact kr _ (Option.some.inj hf).symm _ _ dX0_far_25

theorem tC_far (l : Launch) (x0 : Int32) (x1 : Int32) (r : Int32) (hf : fC_far x0 x1 = some r) : ST l yX0_far cX0_far 2 (some .int) 1 21 [.int x0, .int x1] (.int r) := by
  refine ST.mk (by decide) (Nat.le_of_ble_eq_true rfl) ?_
  intro p e s m below meth c B hr hlk ls hl
  exact wC_far B hf (fun r h pc ls hd => by cases h; exact w_iretR B hr hlk rfl hd) hl
end S_C_far

section S_C_wayBy
variable {p : Program} {l : Launch} {e : Env} {R : Room} {s : State} {m : MethodId} {args : Array Value} {below : List Frame} {meth : Method} {c : Code} {H : Heap} {locs : List Loc} {cells slots : Nat} {Q : State → Prop} {cc : ByteArray} {nL pc : Nat} {ls : Array Slot} {st : List Value} {X : CX} {rest : va_W}
noncomputable def fC_wayBy_J11 (x0 : Int32) (x1 : Int32) : Option (Int32) :=
  if (iabs x0) ≤ (2 * (iabs x1)) then
    if (iabs x1) ≤ (2 * (iabs x0)) then
      if 0 ≤ x0 then
        if x1 ≤ 0 then
          some 5
        else
          some 3
      else
        if x1 ≤ 0 then
          some 7
        else
          some 1
    else
      if x1 ≤ 0 then
        some 6
      else
        some 2
  else
    if 0 ≤ x0 then
      some 4
    else
      some 0

set_option maxHeartbeats 4000000 in
theorem wC_wayBy_J11 (B : CallFix p m c cX0_wayBy 2 s args lw_all RX0) {x0 : Int32} {x1 : Int32} {res : Int32} (hf : fC_wayBy_J11 x0 x1 = some res) (kr : ∀ (r : Int32), res = r → ∀ (pc : Nat) (ls : Array Slot), decode cX0_wayBy pc = .ok (.ireturn, 1) → W p l e (RM 1 21) s m args below meth c s.heap [] 0 0 Q (F0 m pc ls [.int r])) {ls : Array Slot} (hl : lv_has ls 2 [(0, .int x0), (1, .int x1)]) : W p l e (RM 1 21) s m args below meth c s.heap [] 0 0 Q (F0 m 11 ls []) := by
  have hx := B.1
  have hb := B.2.1
  unfold fC_wayBy_J11 at hf
  refine lv_iconst (v := 2) hx hb dX0_wayBy_11 (by decide) ?_
  refine lv_iload_n hx hb dX0_wayBy_12 rfl (lv_at hl 1 rfl) ?_
  refine w_abs B hl.1 q530 q531 q104 q532 (Nat.le_of_ble_eq_true rfl) (Nat.le_of_ble_eq_true rfl) (Nat.le_of_ble_eq_true rfl) (Nat.zero_le _) (Nat.zero_le _) dX0_wayBy_13 ?_
  refine lv_imul hx hb dX0_wayBy_16 ?_
  refine lv_iload_n hx hb dX0_wayBy_17 rfl (lv_at hl 0 rfl) ?_
  refine w_abs B hl.1 q530 q531 q104 q532 (Nat.le_of_ble_eq_true rfl) (Nat.le_of_ble_eq_true rfl) (Nat.le_of_ble_eq_true rfl) (Nat.zero_le _) (Nat.zero_le _) dX0_wayBy_18 ?_
  refine lv_icmp_ge (tgt := 34) hx hb dX0_wayBy_21 (by decide) (fun c_1 => ?_) (fun c_1 => ?_)
  · have hf := ifp c_1 hf
    refine lv_iconst (v := 2) hx hb dX0_wayBy_34 (by decide) ?_
    refine lv_iload_n hx hb dX0_wayBy_35 rfl (lv_at hl 0 rfl) ?_
    refine w_abs B hl.1 q530 q531 q104 q532 (Nat.le_of_ble_eq_true rfl) (Nat.le_of_ble_eq_true rfl) (Nat.le_of_ble_eq_true rfl) (Nat.zero_le _) (Nat.zero_le _) dX0_wayBy_36 ?_
    refine lv_imul hx hb dX0_wayBy_39 ?_
    refine lv_iload_n hx hb dX0_wayBy_40 rfl (lv_at hl 1 rfl) ?_
    refine w_abs B hl.1 q530 q531 q104 q532 (Nat.le_of_ble_eq_true rfl) (Nat.le_of_ble_eq_true rfl) (Nat.le_of_ble_eq_true rfl) (Nat.zero_le _) (Nat.zero_le _) dX0_wayBy_41 ?_
    refine lv_icmp_ge (tgt := 58) hx hb dX0_wayBy_44 (by decide) (fun c_2 => ?_) (fun c_2 => ?_)
    · have hf := ifp c_2 hf
      refine lv_iload_n hx hb dX0_wayBy_58 rfl (lv_at hl 0 rfl) ?_
      refine lv_if_ge (tgt := 75) hx hb dX0_wayBy_59 (by decide) (fun c_3 => ?_) (fun c_3 => ?_)
      · have hf := ifp c_3 hf
        refine lv_iload_n hx hb dX0_wayBy_75 rfl (lv_at hl 1 rfl) ?_
        refine lv_if_le (tgt := 83) hx hb dX0_wayBy_76 (by decide) (fun c_4 => ?_) (fun c_4 => ?_)
        · have hf := ifp c_4 hf
          refine lv_iconst (v := 5) hx hb dX0_wayBy_83 (by decide) ?_
          exact kr _ (Option.some.inj hf).symm _ _ dX0_wayBy_84
        · have hf := ifn c_4 hf
          refine lv_iconst (v := 3) hx hb dX0_wayBy_79 (by decide) ?_
          refine lv_goto (tgt := 84) hx hb dX0_wayBy_80 (by decide) ?_
          exact kr _ (Option.some.inj hf).symm _ _ dX0_wayBy_84
      · have hf := ifn c_3 hf
        refine lv_iload_n hx hb dX0_wayBy_62 rfl (lv_at hl 1 rfl) ?_
        refine lv_if_le (tgt := 70) hx hb dX0_wayBy_63 (by decide) (fun c_5 => ?_) (fun c_5 => ?_)
        · have hf := ifp c_5 hf
          refine lv_bipush (v := 7) hx hb dX0_wayBy_70 (by decide) ?_
          refine lv_goto (tgt := 84) hx hb dX0_wayBy_72 (by decide) ?_
          exact kr _ (Option.some.inj hf).symm _ _ dX0_wayBy_84
        · have hf := ifn c_5 hf
          refine lv_iconst (v := 1) hx hb dX0_wayBy_66 (by decide) ?_
          refine lv_goto (tgt := 84) hx hb dX0_wayBy_67 (by decide) ?_
          exact kr _ (Option.some.inj hf).symm _ _ dX0_wayBy_84
    · have hf := ifn c_2 hf
      refine lv_iload_n hx hb dX0_wayBy_47 rfl (lv_at hl 1 rfl) ?_
      refine lv_if_le (tgt := 55) hx hb dX0_wayBy_48 (by decide) (fun c_6 => ?_) (fun c_6 => ?_)
      · have hf := ifp c_6 hf
        refine lv_bipush (v := 6) hx hb dX0_wayBy_55 (by decide) ?_
        exact kr _ (Option.some.inj hf).symm _ _ dX0_wayBy_57
      · have hf := ifn c_6 hf
        refine lv_iconst (v := 2) hx hb dX0_wayBy_51 (by decide) ?_
        refine lv_goto (tgt := 57) hx hb dX0_wayBy_52 (by decide) ?_
        exact kr _ (Option.some.inj hf).symm _ _ dX0_wayBy_57
  · have hf := ifn c_1 hf
    refine lv_iload_n hx hb dX0_wayBy_24 rfl (lv_at hl 0 rfl) ?_
    refine lv_if_ge (tgt := 32) hx hb dX0_wayBy_25 (by decide) (fun c_7 => ?_) (fun c_7 => ?_)
    · have hf := ifp c_7 hf
      refine lv_iconst (v := 4) hx hb dX0_wayBy_32 (by decide) ?_
      exact kr _ (Option.some.inj hf).symm _ _ dX0_wayBy_33
    · have hf := ifn c_7 hf
      refine lv_iconst (v := 0) hx hb dX0_wayBy_28 (by decide) ?_
      refine lv_goto (tgt := 33) hx hb dX0_wayBy_29 (by decide) ?_
      exact kr _ (Option.some.inj hf).symm _ _ dX0_wayBy_33

noncomputable def fC_wayBy (x0 : Int32) (x1 : Int32) : Option (Int32) :=
  if x0 = 0 then
    if x1 = 0 then
      some 8
    else
      fC_wayBy_J11 x0 x1
  else
    fC_wayBy_J11 x0 x1

set_option maxHeartbeats 4000000 in
theorem wC_wayBy (B : CallFix p m c cX0_wayBy 2 s args lw_all RX0) {x0 : Int32} {x1 : Int32} {res : Int32} (hf : fC_wayBy x0 x1 = some res) (kr : ∀ (r : Int32), res = r → ∀ (pc : Nat) (ls : Array Slot), decode cX0_wayBy pc = .ok (.ireturn, 1) → W p l e (RM 1 21) s m args below meth c s.heap [] 0 0 Q (F0 m pc ls [.int r])) {ls : Array Slot} (hl : lv_has ls 2 [(0, .int x0), (1, .int x1)]) : W p l e (RM 1 21) s m args below meth c s.heap [] 0 0 Q (F0 m 0 ls []) := by
  have hx := B.1
  have hb := B.2.1
  unfold fC_wayBy at hf
  refine lv_iload_n hx hb dX0_wayBy_0 rfl (lv_at hl 0 rfl) ?_
  refine lv_if_ne (tgt := 11) hx hb dX0_wayBy_1 (by decide) (fun c_1 => ?_) (fun c_1 => ?_)
  · have hf := ifn c_1 hf
    exact wC_wayBy_J11 B hf kr hl
  · have hf := ifp c_1 hf
    refine lv_iload_n hx hb dX0_wayBy_4 rfl (lv_at hl 1 rfl) ?_
    refine lv_if_ne (tgt := 11) hx hb dX0_wayBy_5 (by decide) (fun c_2 => ?_) (fun c_2 => ?_)
    · have hf := ifn c_2 hf
      exact wC_wayBy_J11 B hf kr hl
    · have hf := ifp c_2 hf
      refine lv_bipush (v := 8) hx hb dX0_wayBy_8 (by decide) ?_
      exact kr _ (Option.some.inj hf).symm _ _ dX0_wayBy_10

theorem tC_wayBy (l : Launch) (x0 : Int32) (x1 : Int32) (r : Int32) (hf : fC_wayBy x0 x1 = some r) : ST l yX0_wayBy cX0_wayBy 2 (some .int) 1 21 [.int x0, .int x1] (.int r) := by
  refine ST.mk (by decide) (Nat.le_of_ble_eq_true rfl) ?_
  intro p e s m below meth c B hr hlk ls hl
  exact wC_wayBy B hf (fun r h pc ls hd => by cases h; exact w_iretR B hr hlk rfl hd) hl
end S_C_wayBy

section K_cC_wayBy
variable {p : Program} {l : Launch} {e : Env} {R : Room} {s : State} {m : MethodId} {args : Array Value} {below : List Frame} {meth : Method} {c : Code} {H : Heap} {locs : List Loc} {cells slots : Nat} {Q : State → Prop} {cc : ByteArray} {nL pc : Nat} {ls : Array Slot} {st : List Value} {X : CX} {rest : va_W}
theorem cC_wayBy (B : CallFix p m c cc nL s args lw_all RX0) {x0 : Int32} {x1 : Int32} {r : Int32} (hf : fC_wayBy x0 x1 = some r) (hR : 1 + 1 ≤ R.frames ∧ 42 ≤ R.locals) (hcs : cells ≤ R.cells ∧ slots ≤ R.slots) (hl : ls.size = nL) (hcat : (st.map fun v => v.category).sum ≤ 8) (hdg : decode cc pc = .ok (.invokestatic 9, 3)) (kk : W p l e R s m args below meth c H locs cells slots Q (F0 m (pc + 3) ls (.int r :: st))) : W p l e R s m args below meth c H locs cells slots Q (F0 m pc ls (.int x1 :: .int x0 :: st)) :=
  w_afterR (w_rS_ST (As := [.int x0, .int x1]) B (tC_wayBy l x0 x1 r hf) (lw_S q536 q537 q87 q538) (n := 2) (by decide +kernel) hR hcs rfl hl rfl hcat hdg) kk
end K_cC_wayBy

section S_C_wayOf
variable {p : Program} {l : Launch} {e : Env} {R : Room} {s : State} {m : MethodId} {args : Array Value} {below : List Frame} {meth : Method} {c : Code} {H : Heap} {locs : List Loc} {cells slots : Nat} {Q : State → Prop} {cc : ByteArray} {nL pc : Nat} {ls : Array Slot} {st : List Value} {X : CX} {rest : va_W}
noncomputable def fC_wayOf (x0 : Int32) (x1 : Int32) : Option (Int32) :=
  (fC_wayBy ((x1 / 10) - (x0 / 10)) ((irem x1 10) - (irem x0 10))).bind fun r_1 =>
  some r_1

set_option maxHeartbeats 4000000 in
theorem wC_wayOf (B : CallFix p m c cX0_wayOf 2 s args lw_all RX0) {x0 : Int32} {x1 : Int32} {res : Int32} (hf : fC_wayOf x0 x1 = some res) (kr : ∀ (r : Int32), res = r → ∀ (pc : Nat) (ls : Array Slot), decode cX0_wayOf pc = .ok (.ireturn, 1) → W p l e (RM 2 42) s m args below meth c s.heap [] 0 0 Q (F0 m pc ls [.int r])) {ls : Array Slot} (hl : lv_has ls 2 [(0, .int x0), (1, .int x1)]) : W p l e (RM 2 42) s m args below meth c s.heap [] 0 0 Q (F0 m 0 ls []) := by
  have hx := B.1
  have hb := B.2.1
  unfold fC_wayOf at hf
  refine lv_iload_n hx hb dX0_wayOf_0 rfl (lv_at hl 1 rfl) ?_
  refine lv_bipush (v := 10) hx hb dX0_wayOf_1 (by decide) ?_
  refine lv_idiv hx hb dX0_wayOf_3 (by decide) ?_
  refine lv_iload_n hx hb dX0_wayOf_4 rfl (lv_at hl 0 rfl) ?_
  refine lv_bipush (v := 10) hx hb dX0_wayOf_5 (by decide) ?_
  refine lv_idiv hx hb dX0_wayOf_7 (by decide) ?_
  refine lv_isub hx hb dX0_wayOf_8 ?_
  refine lv_iload_n hx hb dX0_wayOf_9 rfl (lv_at hl 1 rfl) ?_
  refine lv_bipush (v := 10) hx hb dX0_wayOf_10 (by decide) ?_
  refine w_irem hx hb dX0_wayOf_12 (by decide) ?_
  refine lv_iload_n hx hb dX0_wayOf_13 rfl (lv_at hl 0 rfl) ?_
  refine lv_bipush (v := 10) hx hb dX0_wayOf_14 (by decide) ?_
  refine w_irem hx hb dX0_wayOf_16 (by decide) ?_
  refine lv_isub hx hb dX0_wayOf_17 ?_
  obtain ⟨r_1, e_2, hf⟩ := bo hf
  refine cC_wayBy B e_2 ⟨Nat.le_of_ble_eq_true rfl, Nat.le_of_ble_eq_true rfl⟩ ⟨Nat.zero_le _, Nat.zero_le _⟩ hl.1 (Nat.le_of_ble_eq_true rfl) dX0_wayOf_18 ?_
  exact kr _ (Option.some.inj hf).symm _ _ dX0_wayOf_21

theorem tC_wayOf (l : Launch) (x0 : Int32) (x1 : Int32) (r : Int32) (hf : fC_wayOf x0 x1 = some r) : ST l yX0_wayOf cX0_wayOf 2 (some .int) 2 42 [.int x0, .int x1] (.int r) := by
  refine ST.mk (by decide) (Nat.le_of_ble_eq_true rfl) ?_
  intro p e s m below meth c B hr hlk ls hl
  exact wC_wayOf B hf (fun r h pc ls hd => by cases h; exact w_iretR B hr hlk rfl hd) hl
end S_C_wayOf

section S_C_turned
variable {p : Program} {l : Launch} {e : Env} {R : Room} {s : State} {m : MethodId} {args : Array Value} {below : List Frame} {meth : Method} {c : Code} {H : Heap} {locs : List Loc} {cells slots : Nat} {Q : State → Prop} {cc : ByteArray} {nL pc : Nat} {ls : Array Slot} {st : List Value} {X : CX} {rest : va_W}
noncomputable def fC_turned (x0 : Int32) (x1 : Int32) : Option (Int32) :=
  if x0 = (-1) then
    some x0
  else
    if x0 = 8 then
      some x0
    else
      some (irem (x0 + x1) 8)

set_option maxHeartbeats 4000000 in
theorem wC_turned (B : CallFix p m c cX0_turned 2 s args lw_all RX0) {x0 : Int32} {x1 : Int32} {res : Int32} (hf : fC_turned x0 x1 = some res) (kr : ∀ (r : Int32), res = r → ∀ (pc : Nat) (ls : Array Slot), decode cX0_turned pc = .ok (.ireturn, 1) → W p l e (RM 0 0) s m args below meth c s.heap [] 0 0 Q (F0 m pc ls [.int r])) {ls : Array Slot} (hl : lv_has ls 2 [(0, .int x0), (1, .int x1)]) : W p l e (RM 0 0) s m args below meth c s.heap [] 0 0 Q (F0 m 0 ls []) := by
  have hx := B.1
  have hb := B.2.1
  unfold fC_turned at hf
  refine lv_iload_n hx hb dX0_turned_0 rfl (lv_at hl 0 rfl) ?_
  refine lv_iconst (v := (-1)) hx hb dX0_turned_1 (by decide) ?_
  refine lv_icmp_eq (tgt := 11) hx hb dX0_turned_2 (by decide) (fun c_1 => ?_) (fun c_1 => ?_)
  · have hf := ifp c_1 hf
    refine lv_iload_n hx hb dX0_turned_11 rfl (lv_at hl 0 rfl) ?_
    refine lv_goto (tgt := 21) hx hb dX0_turned_12 (by decide) ?_
    exact kr _ (Option.some.inj hf).symm _ _ dX0_turned_21
  · have hf := ifn c_1 hf
    refine lv_iload_n hx hb dX0_turned_5 rfl (lv_at hl 0 rfl) ?_
    refine lv_bipush (v := 8) hx hb dX0_turned_6 (by decide) ?_
    refine lv_icmp_ne (tgt := 15) hx hb dX0_turned_8 (by decide) (fun c_2 => ?_) (fun c_2 => ?_)
    · have hf := ifn c_2 hf
      refine lv_iload_n hx hb dX0_turned_15 rfl (lv_at hl 0 rfl) ?_
      refine lv_iload_n hx hb dX0_turned_16 rfl (lv_at hl 1 rfl) ?_
      refine lv_iadd hx hb dX0_turned_17 ?_
      refine lv_bipush (v := 8) hx hb dX0_turned_18 (by decide) ?_
      refine w_irem hx hb dX0_turned_20 (by decide) ?_
      exact kr _ (Option.some.inj hf).symm _ _ dX0_turned_21
    · have hf := ifp c_2 hf
      refine lv_iload_n hx hb dX0_turned_11 rfl (lv_at hl 0 rfl) ?_
      refine lv_goto (tgt := 21) hx hb dX0_turned_12 (by decide) ?_
      exact kr _ (Option.some.inj hf).symm _ _ dX0_turned_21

theorem tC_turned (l : Launch) (x0 : Int32) (x1 : Int32) (r : Int32) (hf : fC_turned x0 x1 = some r) : ST l yX0_turned cX0_turned 2 (some .int) 0 0 [.int x0, .int x1] (.int r) := by
  refine ST.mk (by decide) (Nat.le_of_ble_eq_true rfl) ?_
  intro p e s m below meth c B hr hlk ls hl
  exact wC_turned B hf (fun r h pc ls hd => by cases h; exact w_iretR B hr hlk rfl hd) hl
end S_C_turned

section K_cC_isIn
variable {p : Program} {l : Launch} {e : Env} {R : Room} {s : State} {m : MethodId} {args : Array Value} {below : List Frame} {meth : Method} {c : Code} {H : Heap} {locs : List Loc} {cells slots : Nat} {Q : State → Prop} {cc : ByteArray} {nL pc : Nat} {ls : Array Slot} {st : List Value} {X : CX} {rest : va_W}
theorem cC_isIn (B : CallFix p m c cc nL s args lw_all RX0) {x0 : Int32} {x1 : Int32} {x2 : Int32} {r : Int32} (hf : fC_isIn x0 x1 x2 = some r) (hR : 0 + 1 ≤ R.frames ∧ 22 ≤ R.locals) (hcs : cells ≤ R.cells ∧ slots ≤ R.slots) (hl : ls.size = nL) (hcat : (st.map fun v => v.category).sum ≤ 8) (hdg : decode cc pc = .ok (.invokestatic 71, 3)) (kk : W p l e R s m args below meth c H locs cells slots Q (F0 m (pc + 3) ls (.int r :: st))) : W p l e R s m args below meth c H locs cells slots Q (F0 m pc ls (.int x2 :: .int x1 :: .int x0 :: st)) :=
  w_afterR (w_rS_ST (As := [.int x0, .int x1, .int x2]) B (tC_isIn l x0 x1 x2 r hf) (lw_S q341 q342 q87 q343) (n := 3) (by decide +kernel) hR hcs rfl hl rfl hcat hdg) kk
end K_cC_isIn

section S_C_isShelf
variable {p : Program} {l : Launch} {e : Env} {R : Room} {s : State} {m : MethodId} {args : Array Value} {below : List Frame} {meth : Method} {c : Code} {H : Heap} {locs : List Loc} {cells slots : Nat} {Q : State → Prop} {cc : ByteArray} {nL pc : Nat} {ls : Array Slot} {st : List Value} {X : CX} {rest : va_W}
noncomputable def fC_isShelf (x0 : Int32) : Option (Int32) :=
  (fC_isIn x0 0 7).bind fun r_1 =>
  (bz r_1).bind fun z_3 =>
  some z_3

set_option maxHeartbeats 4000000 in
theorem wC_isShelf (B : CallFix p m c cX0_isShelf 1 s args lw_all RX0) {x0 : Int32} {res : Int32} (hf : fC_isShelf x0 = some res) (kr : ∀ (r : Int32), res = r → narrow .boolean (.int r) = .int r → ∀ (pc : Nat) (ls : Array Slot), decode cX0_isShelf pc = .ok (.ireturn, 1) → W p l e (RM 1 22) s m args below meth c s.heap [] 0 0 Q (F0 m pc ls [.int r])) {ls : Array Slot} (hl : lv_has ls 1 [(0, .int x0)]) : W p l e (RM 1 22) s m args below meth c s.heap [] 0 0 Q (F0 m 0 ls []) := by
  have hx := B.1
  have hb := B.2.1
  unfold fC_isShelf at hf
  refine lv_iload_n hx hb dX0_isShelf_0 rfl (lv_at hl 0 rfl) ?_
  refine lv_iconst (v := 0) hx hb dX0_isShelf_1 (by decide) ?_
  refine lv_bipush (v := 7) hx hb dX0_isShelf_2 (by decide) ?_
  obtain ⟨r_1, e_2, hf⟩ := bo hf
  refine cC_isIn B e_2 ⟨Nat.le_of_ble_eq_true rfl, Nat.le_of_ble_eq_true rfl⟩ ⟨Nat.zero_le _, Nat.zero_le _⟩ hl.1 (Nat.le_of_ble_eq_true rfl) dX0_isShelf_4 ?_
  obtain ⟨z_3, e_4, hf⟩ := bo hf
  obtain ⟨n_5, hz⟩ := bz_in e_4
  rw [← hz] at hf
  exact kr _ (Option.some.inj hf).symm n_5 _ _ dX0_isShelf_7

theorem tC_isShelf (l : Launch) (x0 : Int32) (r : Int32) (hf : fC_isShelf x0 = some r) : ST l yX0_isShelf cX0_isShelf 1 (some .boolean) 1 22 [.int x0] (.int r) := by
  refine ST.mk (by decide) (Nat.le_of_ble_eq_true rfl) ?_
  intro p e s m below meth c B hr hlk ls hl
  exact wC_isShelf B hf (fun r h hn pc ls hd => by cases h; exact w_zretR B hr hlk hn rfl hd) hl
end S_C_isShelf

section S_J_bitCount
variable {p : Program} {l : Launch} {e : Env} {R : Room} {s : State} {m : MethodId} {args : Array Value} {below : List Frame} {meth : Method} {c : Code} {H : Heap} {locs : List Loc} {cells slots : Nat} {Q : State → Prop} {cc : ByteArray} {nL pc : Nat} {ls : Array Slot} {st : List Value} {X : CX} {rest : va_W}
noncomputable def fJ_bitCount (x0 : Int32) : Option (Int32) :=
  (some (x0 - ((iushr x0 1) &&& 1431655765))).bind fun x_1 =>
  (some ((x_1 &&& 858993459) + ((iushr x_1 2) &&& 858993459))).bind fun x_3 =>
  (some ((x_3 + (iushr x_3 4)) &&& 252645135)).bind fun x_5 =>
  (some (x_5 + (iushr x_5 8))).bind fun x_7 =>
  (some (x_7 + (iushr x_7 16))).bind fun x_9 =>
  some (x_9 &&& 63)

set_option maxHeartbeats 4000000 in
theorem wJ_bitCount (B : CallFix p m c cJ18_bitCount 1 s args lw_all RJ18) {x0 : Int32} {res : Int32} (hf : fJ_bitCount x0 = some res) (kr : ∀ (r : Int32), res = r → ∀ (pc : Nat) (ls : Array Slot), decode cJ18_bitCount pc = .ok (.ireturn, 1) → W p l e (RM 0 0) s m args below meth c s.heap [] 0 0 Q (F0 m pc ls [.int r])) {ls : Array Slot} (hl : lv_has ls 1 [(0, .int x0)]) : W p l e (RM 0 0) s m args below meth c s.heap [] 0 0 Q (F0 m 0 ls []) := by
  have hx := B.1
  have hb := B.2.1
  unfold fJ_bitCount at hf
  refine lv_iload_n hx hb dJ18_bitCount_0 rfl (lv_at hl 0 rfl) ?_
  refine lv_iload_n hx hb dJ18_bitCount_1 rfl (lv_at hl 0 rfl) ?_
  refine lv_iconst (v := 1) hx hb dJ18_bitCount_2 (by decide) ?_
  refine w_iushr hx hb dJ18_bitCount_3 ?_
  refine lv_ldcw (v := 1431655765) hx hb B.2.2.2.1 (B.2.2.2.2 _ q1262) dJ18_bitCount_4 ?_
  refine lv_iand hx hb dJ18_bitCount_7 ?_
  refine lv_isub hx hb dJ18_bitCount_8 ?_
  obtain ⟨x_1, e_2, hf⟩ := bo hf
  refine w_istore_n (lv' := [(0, .int x_1)]) e_2 hx hb dJ18_bitCount_9 rfl hl (by decide) rfl (fun ls hl => ?_)
  refine lv_iload_n hx hb dJ18_bitCount_10 rfl (lv_at hl 0 rfl) ?_
  refine lv_ldcw (v := 858993459) hx hb B.2.2.2.1 (B.2.2.2.2 _ q1263) dJ18_bitCount_11 ?_
  refine lv_iand hx hb dJ18_bitCount_14 ?_
  refine lv_iload_n hx hb dJ18_bitCount_15 rfl (lv_at hl 0 rfl) ?_
  refine lv_iconst (v := 2) hx hb dJ18_bitCount_16 (by decide) ?_
  refine w_iushr hx hb dJ18_bitCount_17 ?_
  refine lv_ldcw (v := 858993459) hx hb B.2.2.2.1 (B.2.2.2.2 _ q1263) dJ18_bitCount_18 ?_
  refine lv_iand hx hb dJ18_bitCount_21 ?_
  refine lv_iadd hx hb dJ18_bitCount_22 ?_
  obtain ⟨x_3, e_4, hf⟩ := bo hf
  refine w_istore_n (lv' := [(0, .int x_3)]) e_4 hx hb dJ18_bitCount_23 rfl hl (by decide) rfl (fun ls hl => ?_)
  refine lv_iload_n hx hb dJ18_bitCount_24 rfl (lv_at hl 0 rfl) ?_
  refine lv_iload_n hx hb dJ18_bitCount_25 rfl (lv_at hl 0 rfl) ?_
  refine lv_iconst (v := 4) hx hb dJ18_bitCount_26 (by decide) ?_
  refine w_iushr hx hb dJ18_bitCount_27 ?_
  refine lv_iadd hx hb dJ18_bitCount_28 ?_
  refine lv_ldcw (v := 252645135) hx hb B.2.2.2.1 (B.2.2.2.2 _ q1264) dJ18_bitCount_29 ?_
  refine lv_iand hx hb dJ18_bitCount_32 ?_
  obtain ⟨x_5, e_6, hf⟩ := bo hf
  refine w_istore_n (lv' := [(0, .int x_5)]) e_6 hx hb dJ18_bitCount_33 rfl hl (by decide) rfl (fun ls hl => ?_)
  refine lv_iload_n hx hb dJ18_bitCount_34 rfl (lv_at hl 0 rfl) ?_
  refine lv_iload_n hx hb dJ18_bitCount_35 rfl (lv_at hl 0 rfl) ?_
  refine lv_bipush (v := 8) hx hb dJ18_bitCount_36 (by decide) ?_
  refine w_iushr hx hb dJ18_bitCount_38 ?_
  refine lv_iadd hx hb dJ18_bitCount_39 ?_
  obtain ⟨x_7, e_8, hf⟩ := bo hf
  refine w_istore_n (lv' := [(0, .int x_7)]) e_8 hx hb dJ18_bitCount_40 rfl hl (by decide) rfl (fun ls hl => ?_)
  refine lv_iload_n hx hb dJ18_bitCount_41 rfl (lv_at hl 0 rfl) ?_
  refine lv_iload_n hx hb dJ18_bitCount_42 rfl (lv_at hl 0 rfl) ?_
  refine lv_bipush (v := 16) hx hb dJ18_bitCount_43 (by decide) ?_
  refine w_iushr hx hb dJ18_bitCount_45 ?_
  refine lv_iadd hx hb dJ18_bitCount_46 ?_
  obtain ⟨x_9, e_10, hf⟩ := bo hf
  refine w_istore_n (lv' := [(0, .int x_9)]) e_10 hx hb dJ18_bitCount_47 rfl hl (by decide) rfl (fun ls hl => ?_)
  refine lv_iload_n hx hb dJ18_bitCount_48 rfl (lv_at hl 0 rfl) ?_
  refine lv_bipush (v := 63) hx hb dJ18_bitCount_49 (by decide) ?_
  refine lv_iand hx hb dJ18_bitCount_51 ?_
  exact kr _ (Option.some.inj hf).symm _ _ dJ18_bitCount_52

theorem tJ_bitCount (l : Launch) (x0 : Int32) (r : Int32) (hf : fJ_bitCount x0 = some r) : ST l yJ18_bitCount cJ18_bitCount 1 (some .int) 0 0 [.int x0] (.int r) := by
  refine ST.mk (by decide) (Nat.le_of_ble_eq_true rfl) ?_
  intro p e s m below meth c B hr hlk ls hl
  exact wJ_bitCount B hf (fun r h pc ls hd => by cases h; exact w_iretR B hr hlk rfl hd) hl
end S_J_bitCount
