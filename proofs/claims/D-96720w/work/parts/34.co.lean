set_option maxRecDepth 100000
section A_co
variable {p : Program} {l : Launch} {e : Env} {R : Room} {s : State} {m : MethodId} {args : Array Value} {below : List Frame} {meth : Method} {c : Code} {H : Heap} {locs : List Loc} {cells slots : Nat} {Q : State → Prop} {cc : ByteArray} {nL pc : Nat} {ls : Array Slot} {st : List Value} {X : CX} {rest : va_W} {ca fa : Nat → Nat}
theorem co_fen_g1 (B : CallFix p m c cc nL s args lw_all RX0) (hK : KK X s) {w : CW} (hP : va_P X.2.2.1 vwCl (CP X ca fa w ++ rest) H) (hdg : decode cc pc = .ok (.getfield 146, 3)) (kk : W p l e R s m args below meth c H locs cells slots Q (F0 m (pc + 3) ls (.ref (fa 2) :: st))) : W p l e R s m args below meth c H locs cells slots Q (F0 m pc ls (.ref (fa 0) :: st)) := w_get B hK hP 0 1 rfl rfl in_X1 (by decide) q162 rfl rfl hdg kk
theorem co_fen_g2 (B : CallFix p m c cc nL s args lw_all RX0) (hK : KK X s) {w : CW} (hP : va_P X.2.2.1 vwCl (CP X ca fa w ++ rest) H) (hdg : decode cc pc = .ok (.getfield 239, 3)) (kk : W p l e R s m args below meth c H locs cells slots Q (F0 m (pc + 3) ls (.ref (fa 3) :: st))) : W p l e R s m args below meth c H locs cells slots Q (F0 m pc ls (.ref (fa 0) :: st)) := w_get B hK hP 0 2 rfl rfl in_X1 (by decide) q164 rfl rfl hdg kk
theorem co_fen_g3 (B : CallFix p m c cc nL s args lw_all RX0) (hK : KK X s) {w : CW} (hP : va_P X.2.2.1 vwCl (CP X ca fa w ++ rest) H) (hdg : decode cc pc = .ok (.getfield 202, 3)) (kk : W p l e R s m args below meth c H locs cells slots Q (F0 m (pc + 3) ls (.ref (fa 4) :: st))) : W p l e R s m args below meth c H locs cells slots Q (F0 m pc ls (.ref (fa 0) :: st)) := w_get B hK hP 0 3 rfl rfl in_X1 (by decide) q166 rfl rfl hdg kk
theorem co_fen_g5 (B : CallFix p m c cc nL s args lw_all RX0) (hK : KK X s) {w : CW} (hP : va_P X.2.2.1 vwCl (CP X ca fa w ++ rest) H) (hdg : decode cc pc = .ok (.getfield 345, 3)) (kk : W p l e R s m args below meth c H locs cells slots Q (F0 m (pc + 3) ls (.ref (fa 6) :: st))) : W p l e R s m args below meth c H locs cells slots Q (F0 m pc ls (.ref (fa 0) :: st)) := w_get B hK hP 0 5 rfl rfl in_X1 (by decide) q169 rfl rfl hdg kk
theorem co_fen_g6 (B : CallFix p m c cc nL s args lw_all RX0) (hK : KK X s) {w : CW} (hP : va_P X.2.2.1 vwCl (CP X ca fa w ++ rest) H) (hdg : decode cc pc = .ok (.getfield 167, 3)) (kk : W p l e R s m args below meth c H locs cells slots Q (F0 m (pc + 3) ls (.int ((cfe w).1 6) :: st))) : W p l e R s m args below meth c H locs cells slots Q (F0 m pc ls (.ref (fa 0) :: st)) := w_get B hK hP 0 6 rfl rfl in_X1 (by decide) q172 rfl rfl hdg kk
theorem co_fen_p6 (B : CallFix p m c cc nL s args lw_all RX0) (hK : KK X s) {w : CW} (hG : GG X (CP X ca fa w ++ rest) s.heap H locs) {x : Int32} {w' : CW} (hw : some (cnf w (fpt (cfe w) 6 x)) = some w') (hdg : decode cc pc = .ok (.putfield 167, 3)) (kk : ∀ (H1 : Heap) (locs1 : List Loc), GG X (CP X ca fa (w') ++ rest) s.heap H1 locs1 → W p l e R s m args below meth c H1 locs1 cells slots Q (F0 m (pc + 3) ls st)) : W p l e R s m args below meth c H locs cells slots Q (F0 m pc ls (.int x :: .ref (fa 0) :: st)) := by
  cases hw
  exact w_put B hK hG 0 6 rfl rfl in_X1 tyX1 tyX1_ok nmX1 (by decide) q172 rfl rfl rfl rfl (Nat.le_of_ble_eq_true rfl) hdg kk
theorem co_fen_g7 (B : CallFix p m c cc nL s args lw_all RX0) (hK : KK X s) {w : CW} (hP : va_P X.2.2.1 vwCl (CP X ca fa w ++ rest) H) (hdg : decode cc pc = .ok (.getfield 183, 3)) (kk : W p l e R s m args below meth c H locs cells slots Q (F0 m (pc + 3) ls (.int ((cfe w).1 7) :: st))) : W p l e R s m args below meth c H locs cells slots Q (F0 m pc ls (.ref (fa 0) :: st)) := w_get B hK hP 0 7 rfl rfl in_X1 (by decide) q175 rfl rfl hdg kk
theorem co_fen_p7 (B : CallFix p m c cc nL s args lw_all RX0) (hK : KK X s) {w : CW} (hG : GG X (CP X ca fa w ++ rest) s.heap H locs) {x : Int32} {w' : CW} (hw : some (cnf w (fpt (cfe w) 7 x)) = some w') (hdg : decode cc pc = .ok (.putfield 183, 3)) (kk : ∀ (H1 : Heap) (locs1 : List Loc), GG X (CP X ca fa (w') ++ rest) s.heap H1 locs1 → W p l e R s m args below meth c H1 locs1 cells slots Q (F0 m (pc + 3) ls st)) : W p l e R s m args below meth c H locs cells slots Q (F0 m pc ls (.int x :: .ref (fa 0) :: st)) := by
  cases hw
  exact w_put B hK hG 0 7 rfl rfl in_X1 tyX1 tyX1_ok nmX1 (by decide) q175 rfl rfl rfl rfl (Nat.le_of_ble_eq_true rfl) hdg kk
theorem co_fen_g8 (B : CallFix p m c cc nL s args lw_all RX0) (hK : KK X s) {w : CW} (hP : va_P X.2.2.1 vwCl (CP X ca fa w ++ rest) H) (hdg : decode cc pc = .ok (.getfield 186, 3)) (kk : W p l e R s m args below meth c H locs cells slots Q (F0 m (pc + 3) ls (.int ((cfe w).1 8) :: st))) : W p l e R s m args below meth c H locs cells slots Q (F0 m pc ls (.ref (fa 0) :: st)) := w_get B hK hP 0 8 rfl rfl in_X1 (by decide) q178 rfl rfl hdg kk
theorem co_fen_p8 (B : CallFix p m c cc nL s args lw_all RX0) (hK : KK X s) {w : CW} (hG : GG X (CP X ca fa w ++ rest) s.heap H locs) {x : Int32} {w' : CW} (hw : some (cnf w (fpt (cfe w) 8 x)) = some w') (hdg : decode cc pc = .ok (.putfield 186, 3)) (kk : ∀ (H1 : Heap) (locs1 : List Loc), GG X (CP X ca fa (w') ++ rest) s.heap H1 locs1 → W p l e R s m args below meth c H1 locs1 cells slots Q (F0 m (pc + 3) ls st)) : W p l e R s m args below meth c H locs cells slots Q (F0 m pc ls (.int x :: .ref (fa 0) :: st)) := by
  cases hw
  exact w_put B hK hG 0 8 rfl rfl in_X1 tyX1 tyX1_ok nmX1 (by decide) q178 rfl rfl rfl rfl (Nat.le_of_ble_eq_true rfl) hdg kk
theorem co_fen_g9 (B : CallFix p m c cc nL s args lw_all RX0) (hK : KK X s) {w : CW} (hP : va_P X.2.2.1 vwCl (CP X ca fa w ++ rest) H) (hdg : decode cc pc = .ok (.getfield 193, 3)) (kk : W p l e R s m args below meth c H locs cells slots Q (F0 m (pc + 3) ls (.int ((cfe w).1 9) :: st))) : W p l e R s m args below meth c H locs cells slots Q (F0 m pc ls (.ref (fa 0) :: st)) := w_get B hK hP 0 9 rfl rfl in_X1 (by decide) q181 rfl rfl hdg kk
theorem co_fen_p9 (B : CallFix p m c cc nL s args lw_all RX0) (hK : KK X s) {w : CW} (hG : GG X (CP X ca fa w ++ rest) s.heap H locs) {x : Int32} {w' : CW} (hw : some (cnf w (fpt (cfe w) 9 x)) = some w') (hdg : decode cc pc = .ok (.putfield 193, 3)) (kk : ∀ (H1 : Heap) (locs1 : List Loc), GG X (CP X ca fa (w') ++ rest) s.heap H1 locs1 → W p l e R s m args below meth c H1 locs1 cells slots Q (F0 m (pc + 3) ls st)) : W p l e R s m args below meth c H locs cells slots Q (F0 m pc ls (.int x :: .ref (fa 0) :: st)) := by
  cases hw
  exact w_put B hK hG 0 9 rfl rfl in_X1 tyX1 tyX1_ok nmX1 (by decide) q181 rfl rfl rfl rfl (Nat.le_of_ble_eq_true rfl) hdg kk
theorem co_fen_g10 (B : CallFix p m c cc nL s args lw_all RX0) (hK : KK X s) {w : CW} (hP : va_P X.2.2.1 vwCl (CP X ca fa w ++ rest) H) (hdg : decode cc pc = .ok (.getfield 373, 3)) (kk : W p l e R s m args below meth c H locs cells slots Q (F0 m (pc + 3) ls (.int ((cfe w).1 10) :: st))) : W p l e R s m args below meth c H locs cells slots Q (F0 m pc ls (.ref (fa 0) :: st)) := w_get B hK hP 0 10 rfl rfl in_X1 (by decide) q183 rfl rfl hdg kk
theorem co_fen_p10 (B : CallFix p m c cc nL s args lw_all RX0) (hK : KK X s) {w : CW} (hG : GG X (CP X ca fa w ++ rest) s.heap H locs) {x : Int32} {w' : CW} (hw : some (cnf w (fpt (cfe w) 10 x)) = some w') (hdg : decode cc pc = .ok (.putfield 373, 3)) (kk : ∀ (H1 : Heap) (locs1 : List Loc), GG X (CP X ca fa (w') ++ rest) s.heap H1 locs1 → W p l e R s m args below meth c H1 locs1 cells slots Q (F0 m (pc + 3) ls st)) : W p l e R s m args below meth c H locs cells slots Q (F0 m pc ls (.int x :: .ref (fa 0) :: st)) := by
  cases hw
  exact w_put B hK hG 0 10 rfl rfl in_X1 tyX1 tyX1_ok nmX1 (by decide) q183 rfl rfl rfl rfl (Nat.le_of_ble_eq_true rfl) hdg kk
theorem co_lost_g1 (B : CallFix p m c cc nL s args lw_all RX0) (hK : KK X s) {w : CW} (hP : va_P X.2.2.1 vwCl (CP X ca fa w ++ rest) H) (hdg : decode cc pc = .ok (.getfield 365, 3)) (kk : W p l e R s m args below meth c H locs cells slots Q (F0 m (pc + 3) ls (.int ((cfe w).1 11) :: st))) : W p l e R s m args below meth c H locs cells slots Q (F0 m pc ls (.ref (fa 5) :: st)) := w_get B hK hP 4 1 rfl rfl in_X2 (by decide) q153 rfl rfl hdg kk
theorem co_lost_p1 (B : CallFix p m c cc nL s args lw_all RX0) (hK : KK X s) {w : CW} (hG : GG X (CP X ca fa w ++ rest) s.heap H locs) {x : Int32} {w' : CW} (hw : some (cnf w (fpt (cfe w) 11 x)) = some w') (hdg : decode cc pc = .ok (.putfield 365, 3)) (kk : ∀ (H1 : Heap) (locs1 : List Loc), GG X (CP X ca fa (w') ++ rest) s.heap H1 locs1 → W p l e R s m args below meth c H1 locs1 cells slots Q (F0 m (pc + 3) ls st)) : W p l e R s m args below meth c H locs cells slots Q (F0 m pc ls (.int x :: .ref (fa 5) :: st)) := by
  cases hw
  exact w_put B hK hG 4 1 rfl rfl in_X2 tyX2 tyX2_ok nmX2 (by decide) q153 rfl rfl rfl rfl (Nat.le_of_ble_eq_true rfl) hdg kk
theorem co_this_g0 (B : CallFix p m c cc nL s args lw_all RX0) (hK : KK X s) {w : CW} (hP : va_P X.2.2.1 vwCl (CP X ca fa w ++ rest) H) (hdg : decode cc pc = .ok (.getfield 42, 3)) (kk : W p l e R s m args below meth c H locs cells slots Q (F0 m (pc + 3) ls (.ref (fa 0) :: st))) : W p l e R s m args below meth c H locs cells slots Q (F0 m pc ls (.ref (ca 0) :: st)) := w_get B hK hP 8 0 rfl rfl in_X0 (by decide) q221 rfl rfl hdg kk
theorem co_this_g2 (B : CallFix p m c cc nL s args lw_all RX0) (hK : KK X s) {w : CW} (hP : va_P X.2.2.1 vwCl (CP X ca fa w ++ rest) H) (hdg : decode cc pc = .ok (.getfield 49, 3)) (kk : W p l e R s m args below meth c H locs cells slots Q (F0 m (pc + 3) ls (.ref (ca 3) :: st))) : W p l e R s m args below meth c H locs cells slots Q (F0 m pc ls (.ref (ca 0) :: st)) := w_get B hK hP 8 2 rfl rfl in_X0 (by decide) q223 rfl rfl hdg kk
theorem co_this_g3 (B : CallFix p m c cc nL s args lw_all RX0) (hK : KK X s) {w : CW} (hP : va_P X.2.2.1 vwCl (CP X ca fa w ++ rest) H) (hdg : decode cc pc = .ok (.getfield 53, 3)) (kk : W p l e R s m args below meth c H locs cells slots Q (F0 m (pc + 3) ls (.ref (ca 4) :: st))) : W p l e R s m args below meth c H locs cells slots Q (F0 m pc ls (.ref (ca 0) :: st)) := w_get B hK hP 8 3 rfl rfl in_X0 (by decide) q224 rfl rfl hdg kk
theorem co_this_g4 (B : CallFix p m c cc nL s args lw_all RX0) (hK : KK X s) {w : CW} (hP : va_P X.2.2.1 vwCl (CP X ca fa w ++ rest) H) (hdg : decode cc pc = .ok (.getfield 59, 3)) (kk : W p l e R s m args below meth c H locs cells slots Q (F0 m (pc + 3) ls (.ref (ca 5) :: st))) : W p l e R s m args below meth c H locs cells slots Q (F0 m pc ls (.ref (ca 0) :: st)) := w_get B hK hP 8 4 rfl rfl in_X0 (by decide) q225 rfl rfl hdg kk
theorem co_this_g5 (B : CallFix p m c cc nL s args lw_all RX0) (hK : KK X s) {w : CW} (hP : va_P X.2.2.1 vwCl (CP X ca fa w ++ rest) H) (hdg : decode cc pc = .ok (.getfield 63, 3)) (kk : W p l e R s m args below meth c H locs cells slots Q (F0 m (pc + 3) ls (.ref (ca 6) :: st))) : W p l e R s m args below meth c H locs cells slots Q (F0 m pc ls (.ref (ca 0) :: st)) := w_get B hK hP 8 5 rfl rfl in_X0 (by decide) q226 rfl rfl hdg kk
theorem co_this_g6 (B : CallFix p m c cc nL s args lw_all RX0) (hK : KK X s) {w : CW} (hP : va_P X.2.2.1 vwCl (CP X ca fa w ++ rest) H) (hdg : decode cc pc = .ok (.getfield 205, 3)) (kk : W p l e R s m args below meth c H locs cells slots Q (F0 m (pc + 3) ls (.int (w.1 6) :: st))) : W p l e R s m args below meth c H locs cells slots Q (F0 m pc ls (.ref (ca 0) :: st)) := w_get B hK hP 8 6 rfl rfl in_X0 (by decide) q227 rfl rfl hdg kk
theorem co_this_p6 (B : CallFix p m c cc nL s args lw_all RX0) (hK : KK X s) {w : CW} (hG : GG X (CP X ca fa w ++ rest) s.heap H locs) {x : Int32} {w' : CW} (hw : some (cpt w 6 x) = some w') (hdg : decode cc pc = .ok (.putfield 205, 3)) (kk : ∀ (H1 : Heap) (locs1 : List Loc), GG X (CP X ca fa (w') ++ rest) s.heap H1 locs1 → W p l e R s m args below meth c H1 locs1 cells slots Q (F0 m (pc + 3) ls st)) : W p l e R s m args below meth c H locs cells slots Q (F0 m pc ls (.int x :: .ref (ca 0) :: st)) := by
  cases hw
  exact w_put B hK hG 8 6 rfl rfl in_X0 tyX0 tyX0_ok nmX0 (by decide) q227 rfl rfl rfl rfl (Nat.le_of_ble_eq_true rfl) hdg kk
theorem co_this_g7 (B : CallFix p m c cc nL s args lw_all RX0) (hK : KK X s) {w : CW} (hP : va_P X.2.2.1 vwCl (CP X ca fa w ++ rest) H) (hdg : decode cc pc = .ok (.getfield 67, 3)) (kk : W p l e R s m args below meth c H locs cells slots Q (F0 m (pc + 3) ls (.ref (ca 8) :: st))) : W p l e R s m args below meth c H locs cells slots Q (F0 m pc ls (.ref (ca 0) :: st)) := w_get B hK hP 8 7 rfl rfl in_X0 (by decide) q228 rfl rfl hdg kk
theorem co_bog_l (B : CallFix p m c cc nL s args lw_all RX0) (hK : KK X s) {w : CW} (hP : va_P X.2.2.1 vwCl (CP X ca fa w ++ rest) H) {i : Int32} {v : Int32} (hv : rd ((cfe w).2.1 0) 7 i = some v) (hdg : decode cc pc = .ok (.iaload, 1)) (kk : W p l e R s m args below meth c H locs cells slots Q (F0 m (pc + 1) ls (.int v :: st))) : W p l e R s m args below meth c H locs cells slots Q (F0 m pc ls (.int i :: .ref (fa 1) :: st)) := by
  obtain ⟨h1, h2⟩ := rd_in hv
  subst h2
  exact va_iald B.1 B.2.1 hK.k hP 1 0 rfl rfl h1 hdg kk
theorem co_bog_n (B : CallFix p m c cc nL s args lw_all RX0) (hK : KK X s) {w : CW} (hP : va_P X.2.2.1 vwCl (CP X ca fa w ++ rest) H) (hdg : decode cc pc = .ok (.arraylength, 1)) (kk : W p l e R s m args below meth c H locs cells slots Q (F0 m (pc + 1) ls (.int 7 :: st))) : W p l e R s m args below meth c H locs cells slots Q (F0 m pc ls (.ref (fa 1) :: st)) := va_alen B.1 B.2.1 hK.k hP 1 0 rfl rfl rfl hdg kk
theorem co_bog_s (B : CallFix p m c cc nL s args lw_all RX0) (hK : KK X s) {w : CW} (hG : GG X (CP X ca fa w ++ rest) s.heap H locs) {i : Int32} {x : Int32} {w' : CW} (hw : (sto ((cfe w).2.1 0) 7 i x).map (fun g => cnf w (fau (cfe w) 0 g)) = some w') (hdg : decode cc pc = .ok (.iastore, 1)) (kk : ∀ (H1 : Heap) (locs1 : List Loc), GG X (CP X ca fa (w') ++ rest) s.heap H1 locs1 → W p l e R s m args below meth c H1 locs1 cells slots Q (F0 m (pc + 1) ls st)) : W p l e R s m args below meth c H locs cells slots Q (F0 m pc ls (.int x :: .int i :: .ref (fa 1) :: st)) := by
  obtain ⟨h1, h2⟩ := sto_in hw
  subst h2
  exact va_iast B.1 B.2.1 hK.k hG.1 hG.2.1 hG.2.2 1 0 rfl rfl h1 hdg (fun H1 l1 g1 g2 g3 => kk H1 l1 ⟨g1, g2, g3⟩)
theorem co_cell_l (B : CallFix p m c cc nL s args lw_all RX0) (hK : KK X s) {w : CW} (hP : va_P X.2.2.1 vwCl (CP X ca fa w ++ rest) H) {i : Int32} {v : Int32} (hv : rd ((cfe w).2.1 2) 4 i = some v) (hdg : decode cc pc = .ok (.iaload, 1)) (kk : W p l e R s m args below meth c H locs cells slots Q (F0 m (pc + 1) ls (.int v :: st))) : W p l e R s m args below meth c H locs cells slots Q (F0 m pc ls (.int i :: .ref (fa 3) :: st)) := by
  obtain ⟨h1, h2⟩ := rd_in hv
  subst h2
  exact va_iald B.1 B.2.1 hK.k hP 2 0 rfl rfl h1 hdg kk
theorem co_cell_n (B : CallFix p m c cc nL s args lw_all RX0) (hK : KK X s) {w : CW} (hP : va_P X.2.2.1 vwCl (CP X ca fa w ++ rest) H) (hdg : decode cc pc = .ok (.arraylength, 1)) (kk : W p l e R s m args below meth c H locs cells slots Q (F0 m (pc + 1) ls (.int 4 :: st))) : W p l e R s m args below meth c H locs cells slots Q (F0 m pc ls (.ref (fa 3) :: st)) := va_alen B.1 B.2.1 hK.k hP 2 0 rfl rfl rfl hdg kk
theorem co_cell_s (B : CallFix p m c cc nL s args lw_all RX0) (hK : KK X s) {w : CW} (hG : GG X (CP X ca fa w ++ rest) s.heap H locs) {i : Int32} {x : Int32} {w' : CW} (hw : (sto ((cfe w).2.1 2) 4 i x).map (fun g => cnf w (fau (cfe w) 2 g)) = some w') (hdg : decode cc pc = .ok (.iastore, 1)) (kk : ∀ (H1 : Heap) (locs1 : List Loc), GG X (CP X ca fa (w') ++ rest) s.heap H1 locs1 → W p l e R s m args below meth c H1 locs1 cells slots Q (F0 m (pc + 1) ls st)) : W p l e R s m args below meth c H locs cells slots Q (F0 m pc ls (.int x :: .int i :: .ref (fa 3) :: st)) := by
  obtain ⟨h1, h2⟩ := sto_in hw
  subst h2
  exact va_iast B.1 B.2.1 hK.k hG.1 hG.2.1 hG.2.2 2 0 rfl rfl h1 hdg (fun H1 l1 g1 g2 g3 => kk H1 l1 ⟨g1, g2, g3⟩)
theorem co_sure_l (B : CallFix p m c cc nL s args lw_all RX0) (hK : KK X s) {w : CW} (hP : va_P X.2.2.1 vwCl (CP X ca fa w ++ rest) H) {i : Int32} {v : Int32} (hv : rd ((cfe w).2.1 3) 4 i = some v) (hdg : decode cc pc = .ok (.iaload, 1)) (kk : W p l e R s m args below meth c H locs cells slots Q (F0 m (pc + 1) ls (.int v :: st))) : W p l e R s m args below meth c H locs cells slots Q (F0 m pc ls (.int i :: .ref (fa 4) :: st)) := by
  obtain ⟨h1, h2⟩ := rd_in hv
  subst h2
  exact va_iald B.1 B.2.1 hK.k hP 3 0 rfl rfl h1 hdg kk
theorem co_sure_n (B : CallFix p m c cc nL s args lw_all RX0) (hK : KK X s) {w : CW} (hP : va_P X.2.2.1 vwCl (CP X ca fa w ++ rest) H) (hdg : decode cc pc = .ok (.arraylength, 1)) (kk : W p l e R s m args below meth c H locs cells slots Q (F0 m (pc + 1) ls (.int 4 :: st))) : W p l e R s m args below meth c H locs cells slots Q (F0 m pc ls (.ref (fa 4) :: st)) := va_alen B.1 B.2.1 hK.k hP 3 0 rfl rfl rfl hdg kk
theorem co_sure_s (B : CallFix p m c cc nL s args lw_all RX0) (hK : KK X s) {w : CW} (hG : GG X (CP X ca fa w ++ rest) s.heap H locs) {i : Int32} {x : Int32} {w' : CW} (hw : (sto ((cfe w).2.1 3) 4 i x).map (fun g => cnf w (fau (cfe w) 3 g)) = some w') (hdg : decode cc pc = .ok (.iastore, 1)) (kk : ∀ (H1 : Heap) (locs1 : List Loc), GG X (CP X ca fa (w') ++ rest) s.heap H1 locs1 → W p l e R s m args below meth c H1 locs1 cells slots Q (F0 m (pc + 1) ls st)) : W p l e R s m args below meth c H locs cells slots Q (F0 m pc ls (.int x :: .int i :: .ref (fa 4) :: st)) := by
  obtain ⟨h1, h2⟩ := sto_in hw
  subst h2
  exact va_iast B.1 B.2.1 hK.k hG.1 hG.2.1 hG.2.2 3 0 rfl rfl h1 hdg (fun H1 l1 g1 g2 g3 => kk H1 l1 ⟨g1, g2, g3⟩)
theorem co_away_l (B : CallFix p m c cc nL s args lw_all RX0) (hK : KK X s) {w : CW} (hP : va_P X.2.2.1 vwCl (CP X ca fa w ++ rest) H) {i : Int32} {v : Int32} (hv : rd ((cfe w).2.1 5) 70 i = some v) (hdg : decode cc pc = .ok (.iaload, 1)) (kk : W p l e R s m args below meth c H locs cells slots Q (F0 m (pc + 1) ls (.int v :: st))) : W p l e R s m args below meth c H locs cells slots Q (F0 m pc ls (.int i :: .ref (fa 6) :: st)) := by
  obtain ⟨h1, h2⟩ := rd_in hv
  subst h2
  exact va_iald B.1 B.2.1 hK.k hP 5 0 rfl rfl h1 hdg kk
theorem co_away_n (B : CallFix p m c cc nL s args lw_all RX0) (hK : KK X s) {w : CW} (hP : va_P X.2.2.1 vwCl (CP X ca fa w ++ rest) H) (hdg : decode cc pc = .ok (.arraylength, 1)) (kk : W p l e R s m args below meth c H locs cells slots Q (F0 m (pc + 1) ls (.int 70 :: st))) : W p l e R s m args below meth c H locs cells slots Q (F0 m pc ls (.ref (fa 6) :: st)) := va_alen B.1 B.2.1 hK.k hP 5 0 rfl rfl rfl hdg kk
theorem co_away_s (B : CallFix p m c cc nL s args lw_all RX0) (hK : KK X s) {w : CW} (hG : GG X (CP X ca fa w ++ rest) s.heap H locs) {i : Int32} {x : Int32} {w' : CW} (hw : (sto ((cfe w).2.1 5) 70 i x).map (fun g => cnf w (fau (cfe w) 5 g)) = some w') (hdg : decode cc pc = .ok (.iastore, 1)) (kk : ∀ (H1 : Heap) (locs1 : List Loc), GG X (CP X ca fa (w') ++ rest) s.heap H1 locs1 → W p l e R s m args below meth c H1 locs1 cells slots Q (F0 m (pc + 1) ls st)) : W p l e R s m args below meth c H locs cells slots Q (F0 m pc ls (.int x :: .int i :: .ref (fa 6) :: st)) := by
  obtain ⟨h1, h2⟩ := sto_in hw
  subst h2
  exact va_iast B.1 B.2.1 hK.k hG.1 hG.2.1 hG.2.2 5 0 rfl rfl h1 hdg (fun H1 l1 g1 g2 g3 => kk H1 l1 ⟨g1, g2, g3⟩)
theorem co_lcell_l (B : CallFix p m c cc nL s args lw_all RX0) (hK : KK X s) {w : CW} (hP : va_P X.2.2.1 vwCl (CP X ca fa w ++ rest) H) {i : Int32} {v : Int32} (hv : rd ((cfe w).2.1 11) 4 i = some v) (hdg : decode cc pc = .ok (.iaload, 1)) (kk : W p l e R s m args below meth c H locs cells slots Q (F0 m (pc + 1) ls (.int v :: st))) : W p l e R s m args below meth c H locs cells slots Q (F0 m pc ls (.int i :: .ref (fa 7) :: st)) := by
  obtain ⟨h1, h2⟩ := rd_in hv
  subst h2
  exact va_iald B.1 B.2.1 hK.k hP 6 0 rfl rfl h1 hdg kk
theorem co_lcell_n (B : CallFix p m c cc nL s args lw_all RX0) (hK : KK X s) {w : CW} (hP : va_P X.2.2.1 vwCl (CP X ca fa w ++ rest) H) (hdg : decode cc pc = .ok (.arraylength, 1)) (kk : W p l e R s m args below meth c H locs cells slots Q (F0 m (pc + 1) ls (.int 4 :: st))) : W p l e R s m args below meth c H locs cells slots Q (F0 m pc ls (.ref (fa 7) :: st)) := va_alen B.1 B.2.1 hK.k hP 6 0 rfl rfl rfl hdg kk
theorem co_lcell_s (B : CallFix p m c cc nL s args lw_all RX0) (hK : KK X s) {w : CW} (hG : GG X (CP X ca fa w ++ rest) s.heap H locs) {i : Int32} {x : Int32} {w' : CW} (hw : (sto ((cfe w).2.1 11) 4 i x).map (fun g => cnf w (fau (cfe w) 11 g)) = some w') (hdg : decode cc pc = .ok (.iastore, 1)) (kk : ∀ (H1 : Heap) (locs1 : List Loc), GG X (CP X ca fa (w') ++ rest) s.heap H1 locs1 → W p l e R s m args below meth c H1 locs1 cells slots Q (F0 m (pc + 1) ls st)) : W p l e R s m args below meth c H locs cells slots Q (F0 m pc ls (.int x :: .int i :: .ref (fa 7) :: st)) := by
  obtain ⟨h1, h2⟩ := sto_in hw
  subst h2
  exact va_iast B.1 B.2.1 hK.k hG.1 hG.2.1 hG.2.2 6 0 rfl rfl h1 hdg (fun H1 l1 g1 g2 g3 => kk H1 l1 ⟨g1, g2, g3⟩)
theorem co_told_l (B : CallFix p m c cc nL s args lw_all RX0) (hK : KK X s) {w : CW} (hP : va_P X.2.2.1 vwCl (CP X ca fa w ++ rest) H) {i : Int32} {v : Int64} (hv : rd w.2.2.1 70 i = some v) (hdg : decode cc pc = .ok (.laload, 1)) (kk : W p l e R s m args below meth c H locs cells slots Q (F0 m (pc + 1) ls (.long v :: st))) : W p l e R s m args below meth c H locs cells slots Q (F0 m pc ls (.int i :: .ref (ca 4) :: st)) := by
  obtain ⟨h1, h2⟩ := rd_in hv
  subst h2
  exact va_lald B.1 B.2.1 hK.k hP 11 1 rfl rfl h1 hdg kk
theorem co_told_n (B : CallFix p m c cc nL s args lw_all RX0) (hK : KK X s) {w : CW} (hP : va_P X.2.2.1 vwCl (CP X ca fa w ++ rest) H) (hdg : decode cc pc = .ok (.arraylength, 1)) (kk : W p l e R s m args below meth c H locs cells slots Q (F0 m (pc + 1) ls (.int 70 :: st))) : W p l e R s m args below meth c H locs cells slots Q (F0 m pc ls (.ref (ca 4) :: st)) := va_alen B.1 B.2.1 hK.k hP 11 1 rfl rfl rfl hdg kk
theorem co_told_s (B : CallFix p m c cc nL s args lw_all RX0) (hK : KK X s) {w : CW} (hG : GG X (CP X ca fa w ++ rest) s.heap H locs) {i : Int32} {x : Int64} {w' : CW} (hw : (stoL w.2.2.1 70 i x).map (fun g => ctl w g) = some w') (hdg : decode cc pc = .ok (.lastore, 1)) (kk : ∀ (H1 : Heap) (locs1 : List Loc), GG X (CP X ca fa (w') ++ rest) s.heap H1 locs1 → W p l e R s m args below meth c H1 locs1 cells slots Q (F0 m (pc + 1) ls st)) : W p l e R s m args below meth c H locs cells slots Q (F0 m pc ls (.long x :: .int i :: .ref (ca 4) :: st)) := by
  obtain ⟨h1, h2⟩ := stoL_in hw
  subst h2
  exact va_last B.1 B.2.1 hK.k hG.1 hG.2.1 hG.2.2 11 1 rfl rfl h1 hdg (fun H1 l1 g1 g2 g3 => kk H1 l1 ⟨g1, g2, g3⟩)
theorem co_tape_l (B : CallFix p m c cc nL s args lw_all RX0) (hK : KK X s) {w : CW} (hP : va_P X.2.2.1 vwCl (CP X ca fa w ++ rest) H) {i : Int32} {v : Int32} (hv : rd (w.2.1 5) 250 i = some v) (hdg : decode cc pc = .ok (.iaload, 1)) (kk : W p l e R s m args below meth c H locs cells slots Q (F0 m (pc + 1) ls (.int v :: st))) : W p l e R s m args below meth c H locs cells slots Q (F0 m pc ls (.int i :: .ref (ca 6) :: st)) := by
  obtain ⟨h1, h2⟩ := rd_in hv
  subst h2
  exact va_iald B.1 B.2.1 hK.k hP 12 0 rfl rfl h1 hdg kk
theorem co_tape_n (B : CallFix p m c cc nL s args lw_all RX0) (hK : KK X s) {w : CW} (hP : va_P X.2.2.1 vwCl (CP X ca fa w ++ rest) H) (hdg : decode cc pc = .ok (.arraylength, 1)) (kk : W p l e R s m args below meth c H locs cells slots Q (F0 m (pc + 1) ls (.int 250 :: st))) : W p l e R s m args below meth c H locs cells slots Q (F0 m pc ls (.ref (ca 6) :: st)) := va_alen B.1 B.2.1 hK.k hP 12 0 rfl rfl rfl hdg kk
theorem co_tape_s (B : CallFix p m c cc nL s args lw_all RX0) (hK : KK X s) {w : CW} (hG : GG X (CP X ca fa w ++ rest) s.heap H locs) {i : Int32} {x : Int32} {w' : CW} (hw : (sto (w.2.1 5) 250 i x).map (fun g => cau w 5 g) = some w') (hdg : decode cc pc = .ok (.iastore, 1)) (kk : ∀ (H1 : Heap) (locs1 : List Loc), GG X (CP X ca fa (w') ++ rest) s.heap H1 locs1 → W p l e R s m args below meth c H1 locs1 cells slots Q (F0 m (pc + 1) ls st)) : W p l e R s m args below meth c H locs cells slots Q (F0 m pc ls (.int x :: .int i :: .ref (ca 6) :: st)) := by
  obtain ⟨h1, h2⟩ := sto_in hw
  subst h2
  exact va_iast B.1 B.2.1 hK.k hG.1 hG.2.1 hG.2.2 12 0 rfl rfl h1 hdg (fun H1 l1 g1 g2 g3 => kk H1 l1 ⟨g1, g2, g3⟩)
theorem co_refused_l (B : CallFix p m c cc nL s args lw_all RX0) (hK : KK X s) {w : CW} (hP : va_P X.2.2.1 vwCl (CP X ca fa w ++ rest) H) {i : Int32} {v : Int32} (hv : rd (w.2.1 7) 7 i = some v) (hdg : decode cc pc = .ok (.iaload, 1)) (kk : W p l e R s m args below meth c H locs cells slots Q (F0 m (pc + 1) ls (.int v :: st))) : W p l e R s m args below meth c H locs cells slots Q (F0 m pc ls (.int i :: .ref (ca 8) :: st)) := by
  obtain ⟨h1, h2⟩ := rd_in hv
  subst h2
  exact va_iald B.1 B.2.1 hK.k hP 13 0 rfl rfl h1 hdg kk
theorem co_refused_n (B : CallFix p m c cc nL s args lw_all RX0) (hK : KK X s) {w : CW} (hP : va_P X.2.2.1 vwCl (CP X ca fa w ++ rest) H) (hdg : decode cc pc = .ok (.arraylength, 1)) (kk : W p l e R s m args below meth c H locs cells slots Q (F0 m (pc + 1) ls (.int 7 :: st))) : W p l e R s m args below meth c H locs cells slots Q (F0 m pc ls (.ref (ca 8) :: st)) := va_alen B.1 B.2.1 hK.k hP 13 0 rfl rfl rfl hdg kk
theorem co_refused_s (B : CallFix p m c cc nL s args lw_all RX0) (hK : KK X s) {w : CW} (hG : GG X (CP X ca fa w ++ rest) s.heap H locs) {i : Int32} {x : Int32} {w' : CW} (hw : (sto (w.2.1 7) 7 i x).map (fun g => cau w 7 g) = some w') (hdg : decode cc pc = .ok (.iastore, 1)) (kk : ∀ (H1 : Heap) (locs1 : List Loc), GG X (CP X ca fa (w') ++ rest) s.heap H1 locs1 → W p l e R s m args below meth c H1 locs1 cells slots Q (F0 m (pc + 1) ls st)) : W p l e R s m args below meth c H locs cells slots Q (F0 m pc ls (.int x :: .int i :: .ref (ca 8) :: st)) := by
  obtain ⟨h1, h2⟩ := sto_in hw
  subst h2
  exact va_iast B.1 B.2.1 hK.k hG.1 hG.2.1 hG.2.2 13 0 rfl rfl h1 hdg (fun H1 l1 g1 g2 g3 => kk H1 l1 ⟨g1, g2, g3⟩)
end A_co
section S_C_no
variable {p : Program} {l : Launch} {e : Env} {R : Room} {s : State} {m : MethodId} {args : Array Value} {below : List Frame} {meth : Method} {c : Code} {H : Heap} {locs : List Loc} {cells slots : Nat} {Q : State → Prop} {cc : ByteArray} {nL pc : Nat} {ls : Array Slot} {st : List Value} {X : CX} {rest : va_W} {ca fa : Nat → Nat}
noncomputable def fC_no (w : CW) (x1 : Int32) : Option (Int32 × CW) :=
  (rd (w.2.1 7) 7 (-x1)).bind fun v_1 =>
  ((sto (w.2.1 7) 7 (-x1) (v_1 + 1)).map (fun g_5 => cau w 7 g_5)).bind fun w_3 =>
  some (x1, w_3)

set_option maxHeartbeats 4000000 in
theorem wC_no (B : CallFix p m c cX0_no 2 s args lw_all RX0) (hK : KK X s) {w : CW} {x1 : Int32} {res : Int32 × CW} (hf : fC_no w x1 = some res) (kr : ∀ (r : Int32) (w1 : CW), res = (r, w1) → ∀ (H : Heap) (locs : List Loc), GG X (CP X ca fa w1 ++ rest) s.heap H locs → ∀ (pc : Nat) (ls : Array Slot), decode cX0_no pc = .ok (.ireturn, 1) → W p l e (RMw 0 0 0 0) s m args below meth c H locs 0 0 Q (F0 m pc ls [.int r])) {H : Heap} {locs : List Loc} (hG : GG X (CP X ca fa w ++ rest) s.heap H locs) {ls : Array Slot} (hl : lv_has ls 2 [(0, .ref (ca 0)), (1, .int x1)]) : W p l e (RMw 0 0 0 0) s m args below meth c H locs 0 0 Q (F0 m 0 ls []) := by
  have hx := B.1
  have hb := B.2.1
  unfold fC_no at hf
  refine lv_aload_n hx hb dX0_no_0 rfl (lv_at hl 0 rfl) ?_
  refine co_this_g7 B hK hG.1 dX0_no_1 ?_
  refine lv_iload_n hx hb dX0_no_4 rfl (lv_at hl 1 rfl) ?_
  refine lv_ineg hx hb dX0_no_5 ?_
  refine lv_dup2_11 hx hb dX0_no_6 rfl rfl ?_
  obtain ⟨v_1, e_2, hf⟩ := bo hf
  refine co_refused_l B hK hG.1 e_2 dX0_no_7 ?_
  refine lv_iconst (v := 1) hx hb dX0_no_8 (by decide) ?_
  refine lv_iadd hx hb dX0_no_9 ?_
  obtain ⟨w_3, e_4, hf⟩ := bo hf
  refine co_refused_s B hK hG e_4 dX0_no_10 (fun H locs hG => ?_)
  refine lv_iload_n hx hb dX0_no_11 rfl (lv_at hl 1 rfl) ?_
  exact kr _ _ (Option.some.inj hf).symm _ _ hG _ _ dX0_no_12

theorem tC_no (l : Launch) (X : CX) (ca fa : Nat → Nat) (rest : va_W) (w w' : CW) (x1 : Int32) (r : Int32) (hf : fC_no w x1 = some (r, w')) : RW l yX0_no cX0_no 2 (some .int) 0 0 0 0 [.ref (ca 0), .int x1] X (CP X ca fa w ++ rest) (CP X ca fa (w') ++ rest) (some (.int r)) := by
  refine RW.mk (by decide) (Nat.le_of_ble_eq_true rfl) ?_
  intro p e s m below meth c B hr hlk hK hG ls hl
  exact wC_no B hK hf (fun r w h H locs hG pc ls hd => by cases h; exact w_iretW B hr hlk hG hd) hG hl
end S_C_no

section K_cC_no
variable {p : Program} {l : Launch} {e : Env} {R : Room} {s : State} {m : MethodId} {args : Array Value} {below : List Frame} {meth : Method} {c : Code} {H : Heap} {locs : List Loc} {cells slots : Nat} {Q : State → Prop} {cc : ByteArray} {nL pc : Nat} {ls : Array Slot} {st : List Value} {X : CX} {rest : va_W} {ca fa : Nat → Nat}
theorem cC_no (B : CallFix p m c cc nL s args lw_all RX0) (hK : KK X s) {w : CW} (hG : GG X (CP X ca fa w ++ rest) s.heap H locs) {x1 : Int32} {r : Int32} {f1 : CW} {w' : CW} (hf : fC_no w x1 = some (r, f1)) (hw : some (f1) = some w') (hR : 0 + 1 ≤ R.frames ∧ 21 ≤ R.locals) (hcs : cells ≤ R.cells ∧ slots ≤ R.slots) (hl : ls.size = nL) (hcat : (st.map fun v => v.category).sum ≤ 8) (hdg : decode cc pc = .ok (.invokevirtual 91, 3)) (kk : ∀ (H1 : Heap) (locs1 : List Loc), GG X (CP X ca fa (w') ++ rest) s.heap H1 locs1 → W p l e R s m args below meth c H1 locs1 cells slots Q (F0 m (pc + 3) ls (.int r :: st))) : W p l e R s m args below meth c H locs cells slots Q (F0 m pc ls (.int x1 :: .ref (ca 0) :: st)) := by
  cases hw
  exact w_afterW (w_rV_RW (ws := CP X ca fa w ++ rest) (As := [.int x1]) B hK hG (tC_no l X ca fa rest w f1 x1 r hf) (lw_V q344 q346 qs2 q87 q347) 8 rfl rfl (n := 1) (by decide +kernel) hR hcs rfl hl rfl hcat hdg) hG.2.2 kk
end K_cC_no

section S_C_side
variable {p : Program} {l : Launch} {e : Env} {R : Room} {s : State} {m : MethodId} {args : Array Value} {below : List Frame} {meth : Method} {c : Code} {H : Heap} {locs : List Loc} {cells slots : Nat} {Q : State → Prop} {cc : ByteArray} {nL pc : Nat} {ls : Array Slot} {st : List Value} {X : CX} {rest : va_W} {ca fa : Nat → Nat}
noncomputable def fC_side (w : CW) (x1 : Int32) : Option (Int32 × CW) :=
  (fC_isIn x1 ((cfe w).1 6) 7).bind fun r_1 =>
  if r_1 = 0 then
    b2 (fC_no w (-2)) fun r_12 f_9 =>
    (some (f_9)).bind fun w_10 =>
    some (r_12, w_10)
  else
    (some ((cfe w).1 6)).bind fun x_4 =>
    (some (cnf w (fpt (cfe w) 6 x1))).bind fun w_6 =>
    some (x_4, w_6)

set_option maxHeartbeats 4000000 in
theorem wC_side (B : CallFix p m c cX0_side 3 s args lw_all RX0) (hK : KK X s) {w : CW} {x1 : Int32} {res : Int32 × CW} (hf : fC_side w x1 = some res) (kr : ∀ (r : Int32) (w1 : CW), res = (r, w1) → ∀ (H : Heap) (locs : List Loc), GG X (CP X ca fa w1 ++ rest) s.heap H locs → ∀ (pc : Nat) (ls : Array Slot), decode cX0_side pc = .ok (.ireturn, 1) → W p l e (RMw 1 0 0 22) s m args below meth c H locs 0 0 Q (F0 m pc ls [.int r])) {H : Heap} {locs : List Loc} (hG : GG X (CP X ca fa w ++ rest) s.heap H locs) {ls : Array Slot} (hl : lv_has ls 3 [(0, .ref (ca 0)), (1, .int x1)]) : W p l e (RMw 1 0 0 22) s m args below meth c H locs 0 0 Q (F0 m 0 ls []) := by
  have hx := B.1
  have hb := B.2.1
  unfold fC_side at hf
  refine lv_iload_n hx hb dX0_side_0 rfl (lv_at hl 1 rfl) ?_
  refine lv_aload_n hx hb dX0_side_1 rfl (lv_at hl 0 rfl) ?_
  refine co_this_g0 B hK hG.1 dX0_side_2 ?_
  refine co_fen_g6 B hK hG.1 dX0_side_5 ?_
  refine lv_bipush (v := 7) hx hb dX0_side_8 (by decide) ?_
  obtain ⟨r_1, e_2, hf⟩ := bo hf
  refine cC_isIn B e_2 ⟨Nat.le_of_ble_eq_true rfl, Nat.le_of_ble_eq_true rfl⟩ ⟨Nat.zero_le _, Nat.zero_le _⟩ hl.1 (Nat.le_of_ble_eq_true rfl) dX0_side_10 ?_
  refine lv_if_ne (tgt := 23) hx hb dX0_side_13 (by decide) (fun c_3 => ?_) (fun c_3 => ?_)
  · have hf := ifn c_3 hf
    refine lv_aload_n hx hb dX0_side_23 rfl (lv_at hl 0 rfl) ?_
    refine co_this_g0 B hK hG.1 dX0_side_24 ?_
    refine co_fen_g6 B hK hG.1 dX0_side_27 ?_
    obtain ⟨x_4, e_5, hf⟩ := bo hf
    refine w_istore_n (lv' := [(2, .int x_4), (0, .ref (ca 0)), (1, .int x1)]) e_5 hx hb dX0_side_30 rfl hl (by decide) rfl (fun ls hl => ?_)
    refine lv_aload_n hx hb dX0_side_31 rfl (lv_at hl 1 rfl) ?_
    refine co_this_g0 B hK hG.1 dX0_side_32 ?_
    refine lv_iload_n hx hb dX0_side_35 rfl (lv_at hl 2 rfl) ?_
    obtain ⟨w_6, e_7, hf⟩ := bo hf
    refine co_fen_p6 B hK hG e_7 dX0_side_36 (fun H locs hG => ?_)
    refine lv_iload_n hx hb dX0_side_39 rfl (lv_at hl 0 rfl) ?_
    exact kr _ _ (Option.some.inj hf).symm _ _ hG _ _ dX0_side_40
  · have hf := ifp c_3 hf
    refine lv_aload_n hx hb dX0_side_16 rfl (lv_at hl 0 rfl) ?_
    refine lv_bipush (v := (-2)) hx hb dX0_side_17 (by decide) ?_
    obtain ⟨r_12, f_9, e_8, hf⟩ := b2s hf
    obtain ⟨w_10, e_11, hf⟩ := bo hf
    refine cC_no B hK hG e_8 e_11 ⟨Nat.le_of_ble_eq_true rfl, Nat.le_of_ble_eq_true rfl⟩ ⟨Nat.zero_le _, Nat.zero_le _⟩ hl.1 (Nat.le_of_ble_eq_true rfl) dX0_side_19 (fun H locs hG => ?_)
    exact kr _ _ (Option.some.inj hf).symm _ _ hG _ _ dX0_side_22

theorem tC_side (l : Launch) (X : CX) (ca fa : Nat → Nat) (rest : va_W) (w w' : CW) (x1 : Int32) (r : Int32) (hf : fC_side w x1 = some (r, w')) : RW l yX0_side cX0_side 3 (some .int) 1 0 0 22 [.ref (ca 0), .int x1] X (CP X ca fa w ++ rest) (CP X ca fa (w') ++ rest) (some (.int r)) := by
  refine RW.mk (by decide) (Nat.le_of_ble_eq_true rfl) ?_
  intro p e s m below meth c B hr hlk hK hG ls hl
  exact wC_side B hK hf (fun r w h H locs hG pc ls hd => by cases h; exact w_iretW B hr hlk hG hd) hG hl
end S_C_side

section K_cCF_isCell
variable {p : Program} {l : Launch} {e : Env} {R : Room} {s : State} {m : MethodId} {args : Array Value} {below : List Frame} {meth : Method} {c : Code} {H : Heap} {locs : List Loc} {cells slots : Nat} {Q : State → Prop} {cc : ByteArray} {nL pc : Nat} {ls : Array Slot} {st : List Value} {X : CX} {rest : va_W} {ca fa : Nat → Nat}
theorem cCF_isCell (B : CallFix p m c cc nL s args lw_all RX0) (hK : KK X s) (hS : va_S (Az X) s.heap H locs) {w : CW} (hP : va_P X.2.2.1 vwCl (CP X ca fa w ++ rest) H) {x1 : Int64} {r : Int32} (hf : fF_isCell (cfe w) x1 = some r) (hR : 0 + 1 ≤ R.frames ∧ 22 ≤ R.locals) (hcs : cells ≤ R.cells ∧ slots ≤ R.slots) (hl : ls.size = nL) (hcat : (st.map fun v => v.category).sum ≤ 8) (hdg : decode cc pc = .ok (.invokevirtual 170, 3)) (kk : W p l e R s m args below meth c H locs cells slots Q (F0 m (pc + 3) ls (.int r :: st))) : W p l e R s m args below meth c H locs cells slots Q (F0 m pc ls (.long x1 :: .ref (fa 0) :: st)) :=
  w_afterR (w_rV_RO (ws := FP X fa (cfe w) ++ (CPr X ca fa w ++ rest)) (As := [.long x1]) B hK hS hP (tF_isCell l X fa (CPr X ca fa w ++ rest) (cfe w) x1 r hf) (lw_V q577 q578 q579 q88 q580) 0 rfl rfl (n := 1) (by decide +kernel) hR hcs rfl hl rfl hcat hdg) kk
end K_cCF_isCell

section K_cCF_isBog
variable {p : Program} {l : Launch} {e : Env} {R : Room} {s : State} {m : MethodId} {args : Array Value} {below : List Frame} {meth : Method} {c : Code} {H : Heap} {locs : List Loc} {cells slots : Nat} {Q : State → Prop} {cc : ByteArray} {nL pc : Nat} {ls : Array Slot} {st : List Value} {X : CX} {rest : va_W} {ca fa : Nat → Nat}
theorem cCF_isBog (B : CallFix p m c cc nL s args lw_all RX0) (hK : KK X s) (hS : va_S (Az X) s.heap H locs) {w : CW} (hP : va_P X.2.2.1 vwCl (CP X ca fa w ++ rest) H) {x1 : Int32} {r : Int32} (hf : fF_isBog (cfe w) x1 = some r) (hR : 1 + 1 ≤ R.frames ∧ 42 ≤ R.locals) (hcs : cells ≤ R.cells ∧ slots ≤ R.slots) (hl : ls.size = nL) (hcat : (st.map fun v => v.category).sum ≤ 8) (hdg : decode cc pc = .ok (.invokevirtual 176, 3)) (kk : W p l e R s m args below meth c H locs cells slots Q (F0 m (pc + 3) ls (.int r :: st))) : W p l e R s m args below meth c H locs cells slots Q (F0 m pc ls (.int x1 :: .ref (fa 0) :: st)) :=
  w_afterR (w_rV_RO (ws := FP X fa (cfe w) ++ (CPr X ca fa w ++ rest)) (As := [.int x1]) B hK hS hP (tF_isBog l X fa (CPr X ca fa w ++ rest) (cfe w) x1 r hf) (lw_V q586 q587 q588 q88 q589) 0 rfl rfl (n := 1) (by decide +kernel) hR hcs rfl hl rfl hcat hdg) kk
end K_cCF_isBog

section K_cCF_bog
variable {p : Program} {l : Launch} {e : Env} {R : Room} {s : State} {m : MethodId} {args : Array Value} {below : List Frame} {meth : Method} {c : Code} {H : Heap} {locs : List Loc} {cells slots : Nat} {Q : State → Prop} {cc : ByteArray} {nL pc : Nat} {ls : Array Slot} {st : List Value} {X : CX} {rest : va_W} {ca fa : Nat → Nat}
theorem cCF_bog (B : CallFix p m c cc nL s args lw_all RX0) (hK : KK X s) {w : CW} (hG : GG X (CP X ca fa w ++ rest) s.heap H locs) {x1 : Int32} {x2 : Int32} {f1 : FW} {w' : CW} (hf : fF_bog (cfe w) x1 x2 = some f1) (hw : some (cnf w f1) = some w') (hR : 0 + 1 ≤ R.frames ∧ 22 ≤ R.locals) (hcs : cells ≤ R.cells ∧ slots ≤ R.slots) (hl : ls.size = nL) (hcat : (st.map fun v => v.category).sum ≤ 8) (hdg : decode cc pc = .ok (.invokevirtual 179, 3)) (kk : ∀ (H1 : Heap) (locs1 : List Loc), GG X (CP X ca fa (w') ++ rest) s.heap H1 locs1 → W p l e R s m args below meth c H1 locs1 cells slots Q (F0 m (pc + 3) ls st)) : W p l e R s m args below meth c H locs cells slots Q (F0 m pc ls (.int x2 :: .int x1 :: .ref (fa 0) :: st)) := by
  cases hw
  exact w_afterWv (w_rV_RW (ws := FP X fa (cfe w) ++ (CPr X ca fa w ++ rest)) (As := [.int x1, .int x2]) B hK hG (tF_bog l X fa (CPr X ca fa w ++ rest) (cfe w) f1 x1 x2 hf) (lw_V q593 q594 q595 q88 q596) 0 rfl rfl (n := 2) (by decide +kernel) hR hcs rfl hl rfl hcat hdg) hG.2.2 kk
end K_cCF_bog

section K_cCF_mayBog
variable {p : Program} {l : Launch} {e : Env} {R : Room} {s : State} {m : MethodId} {args : Array Value} {below : List Frame} {meth : Method} {c : Code} {H : Heap} {locs : List Loc} {cells slots : Nat} {Q : State → Prop} {cc : ByteArray} {nL pc : Nat} {ls : Array Slot} {st : List Value} {X : CX} {rest : va_W} {ca fa : Nat → Nat}
theorem cCF_mayBog (B : CallFix p m c cc nL s args lw_all RX0) (hK : KK X s) (hS : va_S (Az X) s.heap H locs) {w : CW} (hP : va_P X.2.2.1 vwCl (CP X ca fa w ++ rest) H) {x1 : Int32} {r : Int32} (hf : fF_mayBog (cfe w) x1 = some r) (hR : 0 + 1 ≤ R.frames ∧ 23 ≤ R.locals) (hcs : cells ≤ R.cells ∧ slots ≤ R.slots) (hl : ls.size = nL) (hcat : (st.map fun v => v.category).sum ≤ 8) (hdg : decode cc pc = .ok (.invokevirtual 173, 3)) (kk : W p l e R s m args below meth c H locs cells slots Q (F0 m (pc + 3) ls (.int r :: st))) : W p l e R s m args below meth c H locs cells slots Q (F0 m pc ls (.int x1 :: .ref (fa 0) :: st)) :=
  w_afterR (w_rV_RO (ws := FP X fa (cfe w) ++ (CPr X ca fa w ++ rest)) (As := [.int x1]) B hK hS hP (tF_mayBog l X fa (CPr X ca fa w ++ rest) (cfe w) x1 r hf) (lw_V q582 q583 q584 q88 q585) 0 rfl rfl (n := 1) (by decide +kernel) hR hcs rfl hl rfl hcat hdg) kk
end K_cCF_mayBog

section S_C_bog
variable {p : Program} {l : Launch} {e : Env} {R : Room} {s : State} {m : MethodId} {args : Array Value} {below : List Frame} {meth : Method} {c : Code} {H : Heap} {locs : List Loc} {cells slots : Nat} {Q : State → Prop} {cc : ByteArray} {nL pc : Nat} {ls : Array Slot} {st : List Value} {X : CX} {rest : va_W} {ca fa : Nat → Nat}
noncomputable def fC_bog_J57 (w : CW) (x1 : Int32) (x2 : Int32) (t0 : Int32) : Option (Int32 × CW) :=
  (fF_bog (cfe w) x1 x2).bind fun f_2 =>
  (some (cnf w f_2)).bind fun w_3 =>
  some (t0, w_3)

set_option maxHeartbeats 4000000 in
theorem wC_bog_J57 (B : CallFix p m c cX0_bog 4 s args lw_all RX0) (hK : KK X s) {w : CW} {x1 : Int32} {x2 : Int32} {t0 : Int32} {res : Int32 × CW} (hf : fC_bog_J57 w x1 x2 t0 = some res) (kr : ∀ (r : Int32) (w1 : CW), res = (r, w1) → ∀ (H : Heap) (locs : List Loc), GG X (CP X ca fa w1 ++ rest) s.heap H locs → ∀ (pc : Nat) (ls : Array Slot), decode cX0_bog pc = .ok (.ireturn, 1) → W p l e (RMw 2 0 0 42) s m args below meth c H locs 0 0 Q (F0 m pc ls [.int r])) {H : Heap} {locs : List Loc} (hG : GG X (CP X ca fa w ++ rest) s.heap H locs) {ls : Array Slot} (hl : lv_has ls 4 [(0, .ref (ca 0)), (1, .int x1), (2, .int x2)]) : W p l e (RMw 2 0 0 42) s m args below meth c H locs 0 0 Q (F0 m 57 ls [.int t0]) := by
  have hx := B.1
  have hb := B.2.1
  unfold fC_bog_J57 at hf
  refine lv_istore_n (lv' := [(3, .int t0), (0, .ref (ca 0)), (1, .int x1), (2, .int x2)]) hx hb dX0_bog_57 rfl hl (by decide) rfl (fun ls hl => ?_)
  refine lv_aload_n hx hb dX0_bog_58 rfl (lv_at hl 1 rfl) ?_
  refine co_this_g0 B hK hG.1 dX0_bog_59 ?_
  refine lv_iload_n hx hb dX0_bog_62 rfl (lv_at hl 2 rfl) ?_
  refine lv_iload_n hx hb dX0_bog_63 rfl (lv_at hl 3 rfl) ?_
  obtain ⟨f_2, e_1, hf⟩ := bo hf
  obtain ⟨w_3, e_4, hf⟩ := bo hf
  refine cCF_bog B hK hG e_1 e_4 ⟨Nat.le_of_ble_eq_true rfl, Nat.le_of_ble_eq_true rfl⟩ ⟨Nat.zero_le _, Nat.zero_le _⟩ hl.1 (Nat.le_of_ble_eq_true rfl) dX0_bog_64 (fun H locs hG => ?_)
  refine lv_iload_n hx hb dX0_bog_67 rfl (lv_at hl 0 rfl) ?_
  exact kr _ _ (Option.some.inj hf).symm _ _ hG _ _ dX0_bog_68

noncomputable def fC_bog_J41 (w : CW) (x1 : Int32) (x2 : Int32) : Option (Int32 × CW) :=
  (fF_isBog (cfe w) x1).bind fun r_1 =>
  if r_1 = 0 then
    fC_bog_J57 w x1 x2 0
  else
    fC_bog_J57 w x1 x2 1

set_option maxHeartbeats 4000000 in
theorem wC_bog_J41 (B : CallFix p m c cX0_bog 4 s args lw_all RX0) (hK : KK X s) {w : CW} {x1 : Int32} {x2 : Int32} {res : Int32 × CW} (hf : fC_bog_J41 w x1 x2 = some res) (kr : ∀ (r : Int32) (w1 : CW), res = (r, w1) → ∀ (H : Heap) (locs : List Loc), GG X (CP X ca fa w1 ++ rest) s.heap H locs → ∀ (pc : Nat) (ls : Array Slot), decode cX0_bog pc = .ok (.ireturn, 1) → W p l e (RMw 2 0 0 42) s m args below meth c H locs 0 0 Q (F0 m pc ls [.int r])) {H : Heap} {locs : List Loc} (hG : GG X (CP X ca fa w ++ rest) s.heap H locs) {ls : Array Slot} (hl : lv_has ls 4 [(0, .ref (ca 0)), (1, .int x1), (2, .int x2)]) : W p l e (RMw 2 0 0 42) s m args below meth c H locs 0 0 Q (F0 m 41 ls []) := by
  have hx := B.1
  have hb := B.2.1
  unfold fC_bog_J41 at hf
  refine lv_aload_n hx hb dX0_bog_41 rfl (lv_at hl 0 rfl) ?_
  refine co_this_g0 B hK hG.1 dX0_bog_42 ?_
  refine lv_iload_n hx hb dX0_bog_45 rfl (lv_at hl 1 rfl) ?_
  obtain ⟨r_1, e_2, hf⟩ := bo hf
  refine cCF_isBog B hK hG.2.2 hG.1 e_2 ⟨Nat.le_of_ble_eq_true rfl, Nat.le_of_ble_eq_true rfl⟩ ⟨Nat.zero_le _, Nat.zero_le _⟩ hl.1 (Nat.le_of_ble_eq_true rfl) dX0_bog_46 ?_
  refine lv_if_eq (tgt := 56) hx hb dX0_bog_49 (by decide) (fun c_3 => ?_) (fun c_3 => ?_)
  · have hf := ifp c_3 hf
    refine lv_iconst (v := 0) hx hb dX0_bog_56 (by decide) ?_
    exact wC_bog_J57 B hK hf kr hG hl
  · have hf := ifn c_3 hf
    refine lv_iconst (v := 1) hx hb dX0_bog_52 (by decide) ?_
    refine lv_goto (tgt := 57) hx hb dX0_bog_53 (by decide) ?_
    exact wC_bog_J57 B hK hf kr hG hl

noncomputable def fC_bog (w : CW) (x1 : Int32) (x2 : Int32) : Option (Int32 × CW) :=
  (fF_isCell (cfe w) (x1.toInt64)).bind fun r_1 =>
  if r_1 = 0 then
    b2 (fC_no w (-2)) fun r_17 f_14 =>
    (some (f_14)).bind fun w_15 =>
    some (r_17, w_15)
  else
    if x2 = 0 then
      fC_bog_J41 w x1 x2
    else
      (fF_mayBog (cfe w) x1).bind fun r_5 =>
      if r_5 = 0 then
        b2 (fC_no w (-5)) fun r_12 f_9 =>
        (some (f_9)).bind fun w_10 =>
        some (r_12, w_10)
      else
        fC_bog_J41 w x1 x2

set_option maxHeartbeats 4000000 in
theorem wC_bog (B : CallFix p m c cX0_bog 4 s args lw_all RX0) (hK : KK X s) {w : CW} {x1 : Int32} {x2 : Int32} {res : Int32 × CW} (hf : fC_bog w x1 x2 = some res) (kr : ∀ (r : Int32) (w1 : CW), res = (r, w1) → ∀ (H : Heap) (locs : List Loc), GG X (CP X ca fa w1 ++ rest) s.heap H locs → ∀ (pc : Nat) (ls : Array Slot), decode cX0_bog pc = .ok (.ireturn, 1) → W p l e (RMw 2 0 0 42) s m args below meth c H locs 0 0 Q (F0 m pc ls [.int r])) {H : Heap} {locs : List Loc} (hG : GG X (CP X ca fa w ++ rest) s.heap H locs) {ls : Array Slot} (hl : lv_has ls 4 [(0, .ref (ca 0)), (1, .int x1), (2, .int x2)]) : W p l e (RMw 2 0 0 42) s m args below meth c H locs 0 0 Q (F0 m 0 ls []) := by
  have hx := B.1
  have hb := B.2.1
  unfold fC_bog at hf
  refine lv_aload_n hx hb dX0_bog_0 rfl (lv_at hl 0 rfl) ?_
  refine co_this_g0 B hK hG.1 dX0_bog_1 ?_
  refine lv_iload_n hx hb dX0_bog_4 rfl (lv_at hl 1 rfl) ?_
  refine lv_i2l hx hb dX0_bog_5 rfl ?_
  obtain ⟨r_1, e_2, hf⟩ := bo hf
  refine cCF_isCell B hK hG.2.2 hG.1 e_2 ⟨Nat.le_of_ble_eq_true rfl, Nat.le_of_ble_eq_true rfl⟩ ⟨Nat.zero_le _, Nat.zero_le _⟩ hl.1 (Nat.le_of_ble_eq_true rfl) dX0_bog_6 ?_
  refine lv_if_ne (tgt := 19) hx hb dX0_bog_9 (by decide) (fun c_3 => ?_) (fun c_3 => ?_)
  · have hf := ifn c_3 hf
    refine lv_iload_n hx hb dX0_bog_19 rfl (lv_at hl 2 rfl) ?_
    refine lv_if_eq (tgt := 41) hx hb dX0_bog_20 (by decide) (fun c_4 => ?_) (fun c_4 => ?_)
    · have hf := ifp c_4 hf
      exact wC_bog_J41 B hK hf kr hG hl
    · have hf := ifn c_4 hf
      refine lv_aload_n hx hb dX0_bog_23 rfl (lv_at hl 0 rfl) ?_
      refine co_this_g0 B hK hG.1 dX0_bog_24 ?_
      refine lv_iload_n hx hb dX0_bog_27 rfl (lv_at hl 1 rfl) ?_
      obtain ⟨r_5, e_6, hf⟩ := bo hf
      refine cCF_mayBog B hK hG.2.2 hG.1 e_6 ⟨Nat.le_of_ble_eq_true rfl, Nat.le_of_ble_eq_true rfl⟩ ⟨Nat.zero_le _, Nat.zero_le _⟩ hl.1 (Nat.le_of_ble_eq_true rfl) dX0_bog_28 ?_
      refine lv_if_ne (tgt := 41) hx hb dX0_bog_31 (by decide) (fun c_7 => ?_) (fun c_7 => ?_)
      · have hf := ifn c_7 hf
        exact wC_bog_J41 B hK hf kr hG hl
      · have hf := ifp c_7 hf
        refine lv_aload_n hx hb dX0_bog_34 rfl (lv_at hl 0 rfl) ?_
        refine lv_bipush (v := (-5)) hx hb dX0_bog_35 (by decide) ?_
        obtain ⟨r_12, f_9, e_8, hf⟩ := b2s hf
        obtain ⟨w_10, e_11, hf⟩ := bo hf
        refine cC_no B hK hG e_8 e_11 ⟨Nat.le_of_ble_eq_true rfl, Nat.le_of_ble_eq_true rfl⟩ ⟨Nat.zero_le _, Nat.zero_le _⟩ hl.1 (Nat.le_of_ble_eq_true rfl) dX0_bog_37 (fun H locs hG => ?_)
        exact kr _ _ (Option.some.inj hf).symm _ _ hG _ _ dX0_bog_40
  · have hf := ifp c_3 hf
    refine lv_aload_n hx hb dX0_bog_12 rfl (lv_at hl 0 rfl) ?_
    refine lv_bipush (v := (-2)) hx hb dX0_bog_13 (by decide) ?_
    obtain ⟨r_17, f_14, e_13, hf⟩ := b2s hf
    obtain ⟨w_15, e_16, hf⟩ := bo hf
    refine cC_no B hK hG e_13 e_16 ⟨Nat.le_of_ble_eq_true rfl, Nat.le_of_ble_eq_true rfl⟩ ⟨Nat.zero_le _, Nat.zero_le _⟩ hl.1 (Nat.le_of_ble_eq_true rfl) dX0_bog_15 (fun H locs hG => ?_)
    exact kr _ _ (Option.some.inj hf).symm _ _ hG _ _ dX0_bog_18

theorem tC_bog (l : Launch) (X : CX) (ca fa : Nat → Nat) (rest : va_W) (w w' : CW) (x1 : Int32) (x2 : Int32) (r : Int32) (hf : fC_bog w x1 x2 = some (r, w')) : RW l yX0_bog cX0_bog 4 (some .int) 2 0 0 42 [.ref (ca 0), .int x1, .int x2] X (CP X ca fa w ++ rest) (CP X ca fa (w') ++ rest) (some (.int r)) := by
  refine RW.mk (by decide) (Nat.le_of_ble_eq_true rfl) ?_
  intro p e s m below meth c B hr hlk hK hG ls hl
  exact wC_bog B hK hf (fun r w h H locs hG pc ls hd => by cases h; exact w_iretW B hr hlk hG hd) hG hl
end S_C_bog

section S_C_home
variable {p : Program} {l : Launch} {e : Env} {R : Room} {s : State} {m : MethodId} {args : Array Value} {below : List Frame} {meth : Method} {c : Code} {H : Heap} {locs : List Loc} {cells slots : Nat} {Q : State → Prop} {cc : ByteArray} {nL pc : Nat} {ls : Array Slot} {st : List Value} {X : CX} {rest : va_W} {ca fa : Nat → Nat}
noncomputable def fC_home (w : CW) (x1 : Int32) : Option (Int32 × CW) :=
  (fF_isCell (cfe w) (x1.toInt64)).bind fun r_1 =>
  if r_1 = 0 then
    b2 (fC_no w (-2)) fun r_20 f_17 =>
    (some (f_17)).bind fun w_18 =>
    some (r_20, w_18)
  else
    (fF_isBog (cfe w) x1).bind fun r_4 =>
    if r_4 = 0 then
      (some ((cfe w).1 7)).bind fun x_7 =>
      (some (cnf w (fpt (cfe w) 7 x1))).bind fun w_9 =>
      some (x_7, w_9)
    else
      b2 (fC_no w (-5)) fun r_15 f_12 =>
      (some (f_12)).bind fun w_13 =>
      some (r_15, w_13)

set_option maxHeartbeats 4000000 in
theorem wC_home (B : CallFix p m c cX0_home 3 s args lw_all RX0) (hK : KK X s) {w : CW} {x1 : Int32} {res : Int32 × CW} (hf : fC_home w x1 = some res) (kr : ∀ (r : Int32) (w1 : CW), res = (r, w1) → ∀ (H : Heap) (locs : List Loc), GG X (CP X ca fa w1 ++ rest) s.heap H locs → ∀ (pc : Nat) (ls : Array Slot), decode cX0_home pc = .ok (.ireturn, 1) → W p l e (RMw 2 0 0 42) s m args below meth c H locs 0 0 Q (F0 m pc ls [.int r])) {H : Heap} {locs : List Loc} (hG : GG X (CP X ca fa w ++ rest) s.heap H locs) {ls : Array Slot} (hl : lv_has ls 3 [(0, .ref (ca 0)), (1, .int x1)]) : W p l e (RMw 2 0 0 42) s m args below meth c H locs 0 0 Q (F0 m 0 ls []) := by
  have hx := B.1
  have hb := B.2.1
  unfold fC_home at hf
  refine lv_aload_n hx hb dX0_home_0 rfl (lv_at hl 0 rfl) ?_
  refine co_this_g0 B hK hG.1 dX0_home_1 ?_
  refine lv_iload_n hx hb dX0_home_4 rfl (lv_at hl 1 rfl) ?_
  refine lv_i2l hx hb dX0_home_5 rfl ?_
  obtain ⟨r_1, e_2, hf⟩ := bo hf
  refine cCF_isCell B hK hG.2.2 hG.1 e_2 ⟨Nat.le_of_ble_eq_true rfl, Nat.le_of_ble_eq_true rfl⟩ ⟨Nat.zero_le _, Nat.zero_le _⟩ hl.1 (Nat.le_of_ble_eq_true rfl) dX0_home_6 ?_
  refine lv_if_ne (tgt := 19) hx hb dX0_home_9 (by decide) (fun c_3 => ?_) (fun c_3 => ?_)
  · have hf := ifn c_3 hf
    refine lv_aload_n hx hb dX0_home_19 rfl (lv_at hl 0 rfl) ?_
    refine co_this_g0 B hK hG.1 dX0_home_20 ?_
    refine lv_iload_n hx hb dX0_home_23 rfl (lv_at hl 1 rfl) ?_
    obtain ⟨r_4, e_5, hf⟩ := bo hf
    refine cCF_isBog B hK hG.2.2 hG.1 e_5 ⟨Nat.le_of_ble_eq_true rfl, Nat.le_of_ble_eq_true rfl⟩ ⟨Nat.zero_le _, Nat.zero_le _⟩ hl.1 (Nat.le_of_ble_eq_true rfl) dX0_home_24 ?_
    refine lv_if_eq (tgt := 37) hx hb dX0_home_27 (by decide) (fun c_6 => ?_) (fun c_6 => ?_)
    · have hf := ifp c_6 hf
      refine lv_aload_n hx hb dX0_home_37 rfl (lv_at hl 0 rfl) ?_
      refine co_this_g0 B hK hG.1 dX0_home_38 ?_
      refine co_fen_g7 B hK hG.1 dX0_home_41 ?_
      obtain ⟨x_7, e_8, hf⟩ := bo hf
      refine w_istore_n (lv' := [(2, .int x_7), (0, .ref (ca 0)), (1, .int x1)]) e_8 hx hb dX0_home_44 rfl hl (by decide) rfl (fun ls hl => ?_)
      refine lv_aload_n hx hb dX0_home_45 rfl (lv_at hl 1 rfl) ?_
      refine co_this_g0 B hK hG.1 dX0_home_46 ?_
      refine lv_iload_n hx hb dX0_home_49 rfl (lv_at hl 2 rfl) ?_
      obtain ⟨w_9, e_10, hf⟩ := bo hf
      refine co_fen_p7 B hK hG e_10 dX0_home_50 (fun H locs hG => ?_)
      refine lv_iload_n hx hb dX0_home_53 rfl (lv_at hl 0 rfl) ?_
      exact kr _ _ (Option.some.inj hf).symm _ _ hG _ _ dX0_home_54
    · have hf := ifn c_6 hf
      refine lv_aload_n hx hb dX0_home_30 rfl (lv_at hl 0 rfl) ?_
      refine lv_bipush (v := (-5)) hx hb dX0_home_31 (by decide) ?_
      obtain ⟨r_15, f_12, e_11, hf⟩ := b2s hf
      obtain ⟨w_13, e_14, hf⟩ := bo hf
      refine cC_no B hK hG e_11 e_14 ⟨Nat.le_of_ble_eq_true rfl, Nat.le_of_ble_eq_true rfl⟩ ⟨Nat.zero_le _, Nat.zero_le _⟩ hl.1 (Nat.le_of_ble_eq_true rfl) dX0_home_33 (fun H locs hG => ?_)
      exact kr _ _ (Option.some.inj hf).symm _ _ hG _ _ dX0_home_36
  · have hf := ifp c_3 hf
    refine lv_aload_n hx hb dX0_home_12 rfl (lv_at hl 0 rfl) ?_
    refine lv_bipush (v := (-2)) hx hb dX0_home_13 (by decide) ?_
    obtain ⟨r_20, f_17, e_16, hf⟩ := b2s hf
    obtain ⟨w_18, e_19, hf⟩ := bo hf
    refine cC_no B hK hG e_16 e_19 ⟨Nat.le_of_ble_eq_true rfl, Nat.le_of_ble_eq_true rfl⟩ ⟨Nat.zero_le _, Nat.zero_le _⟩ hl.1 (Nat.le_of_ble_eq_true rfl) dX0_home_15 (fun H locs hG => ?_)
    exact kr _ _ (Option.some.inj hf).symm _ _ hG _ _ dX0_home_18

theorem tC_home (l : Launch) (X : CX) (ca fa : Nat → Nat) (rest : va_W) (w w' : CW) (x1 : Int32) (r : Int32) (hf : fC_home w x1 = some (r, w')) : RW l yX0_home cX0_home 3 (some .int) 2 0 0 42 [.ref (ca 0), .int x1] X (CP X ca fa w ++ rest) (CP X ca fa (w') ++ rest) (some (.int r)) := by
  refine RW.mk (by decide) (Nat.le_of_ble_eq_true rfl) ?_
  intro p e s m below meth c B hr hlk hK hG ls hl
  exact wC_home B hK hf (fun r w h H locs hG pc ls hd => by cases h; exact w_iretW B hr hlk hG hd) hG hl
end S_C_home

section K_cCF_addsWalker
variable {p : Program} {l : Launch} {e : Env} {R : Room} {s : State} {m : MethodId} {args : Array Value} {below : List Frame} {meth : Method} {c : Code} {H : Heap} {locs : List Loc} {cells slots : Nat} {Q : State → Prop} {cc : ByteArray} {nL pc : Nat} {ls : Array Slot} {st : List Value} {X : CX} {rest : va_W} {ca fa : Nat → Nat}
theorem cCF_addsWalker (B : CallFix p m c cc nL s args lw_all RX0) (hK : KK X s) {w : CW} (hG : GG X (CP X ca fa w ++ rest) s.heap H locs) {x1 : Int32} {x2 : Int32} {r : Int32} {f1 : FW} {w' : CW} (hf : fF_addsWalker (cfe w) x1 x2 = some (r, f1)) (hw : some (cnf w f1) = some w') (hR : 0 + 1 ≤ R.frames ∧ 22 ≤ R.locals) (hcs : cells ≤ R.cells ∧ slots ≤ R.slots) (hl : ls.size = nL) (hcat : (st.map fun v => v.category).sum ≤ 8) (hdg : decode cc pc = .ok (.invokevirtual 196, 3)) (kk : ∀ (H1 : Heap) (locs1 : List Loc), GG X (CP X ca fa (w') ++ rest) s.heap H1 locs1 → W p l e R s m args below meth c H1 locs1 cells slots Q (F0 m (pc + 3) ls (.int r :: st))) : W p l e R s m args below meth c H locs cells slots Q (F0 m pc ls (.int x2 :: .int x1 :: .ref (fa 0) :: st)) := by
  cases hw
  exact w_afterW (w_rV_RW (ws := FP X fa (cfe w) ++ (CPr X ca fa w ++ rest)) (As := [.int x1, .int x2]) B hK hG (tF_addsWalker l X fa (CPr X ca fa w ++ rest) (cfe w) f1 x1 x2 r hf) (lw_V q684 q685 q686 q88 q687) 0 rfl rfl (n := 2) (by decide +kernel) hR hcs rfl hl rfl hcat hdg) hG.2.2 kk
end K_cCF_addsWalker

section S_C_walker
variable {p : Program} {l : Launch} {e : Env} {R : Room} {s : State} {m : MethodId} {args : Array Value} {below : List Frame} {meth : Method} {c : Code} {H : Heap} {locs : List Loc} {cells slots : Nat} {Q : State → Prop} {cc : ByteArray} {nL pc : Nat} {ls : Array Slot} {st : List Value} {X : CX} {rest : va_W} {ca fa : Nat → Nat}
noncomputable def fC_walker_J22 (w : CW)  : Option (Int32 × CW) :=
  b2 (fC_no w (-2)) fun r_5 f_2 =>
  (some (f_2)).bind fun w_3 =>
  some (r_5, w_3)

set_option maxHeartbeats 4000000 in
theorem wC_walker_J22 (B : CallFix p m c cX0_walker 3 s args lw_all RX0) (hK : KK X s) {w : CW}  {res : Int32 × CW} (hf : fC_walker_J22 w  = some res) (kr : ∀ (r : Int32) (w1 : CW), res = (r, w1) → ∀ (H : Heap) (locs : List Loc), GG X (CP X ca fa w1 ++ rest) s.heap H locs → ∀ (pc : Nat) (ls : Array Slot), decode cX0_walker pc = .ok (.ireturn, 1) → W p l e (RMw 2 0 0 42) s m args below meth c H locs 0 0 Q (F0 m pc ls [.int r])) {H : Heap} {locs : List Loc} (hG : GG X (CP X ca fa w ++ rest) s.heap H locs) {ls : Array Slot} (hl : lv_has ls 3 [(0, .ref (ca 0))]) : W p l e (RMw 2 0 0 42) s m args below meth c H locs 0 0 Q (F0 m 22 ls []) := by
  have hx := B.1
  have hb := B.2.1
  unfold fC_walker_J22 at hf
  refine lv_aload_n hx hb dX0_walker_22 rfl (lv_at hl 0 rfl) ?_
  refine lv_bipush (v := (-2)) hx hb dX0_walker_23 (by decide) ?_
  obtain ⟨r_5, f_2, e_1, hf⟩ := b2s hf
  obtain ⟨w_3, e_4, hf⟩ := bo hf
  refine cC_no B hK hG e_1 e_4 ⟨Nat.le_of_ble_eq_true rfl, Nat.le_of_ble_eq_true rfl⟩ ⟨Nat.zero_le _, Nat.zero_le _⟩ hl.1 (Nat.le_of_ble_eq_true rfl) dX0_walker_25 (fun H locs hG => ?_)
  exact kr _ _ (Option.some.inj hf).symm _ _ hG _ _ dX0_walker_28

noncomputable def fC_walker (w : CW) (x1 : Int32) (x2 : Int32) : Option (Int32 × CW) :=
  (fF_isCell (cfe w) (x1.toInt64)).bind fun r_1 =>
  if r_1 = 0 then
    fC_walker_J22 w 
  else
    (fC_isIn x2 0 9).bind fun r_4 =>
    if r_4 = 0 then
      fC_walker_J22 w 
    else
      (fF_isBog (cfe w) x1).bind fun r_7 =>
      if r_7 = 0 then
        if ((cfe w).1 9) = 4 then
          b2 (fC_no w (-6)) fun r_20 f_17 =>
          (some (f_17)).bind fun w_18 =>
          some (r_20, w_18)
        else
          b2 (fF_addsWalker (cfe w) x1 x2) fun r_15 f_12 =>
          (some (cnf w f_12)).bind fun w_13 =>
          some (r_15, w_13)
      else
        b2 (fC_no w (-5)) fun r_25 f_22 =>
        (some (f_22)).bind fun w_23 =>
        some (r_25, w_23)

set_option maxHeartbeats 4000000 in
theorem wC_walker (B : CallFix p m c cX0_walker 3 s args lw_all RX0) (hK : KK X s) {w : CW} {x1 : Int32} {x2 : Int32} {res : Int32 × CW} (hf : fC_walker w x1 x2 = some res) (kr : ∀ (r : Int32) (w1 : CW), res = (r, w1) → ∀ (H : Heap) (locs : List Loc), GG X (CP X ca fa w1 ++ rest) s.heap H locs → ∀ (pc : Nat) (ls : Array Slot), decode cX0_walker pc = .ok (.ireturn, 1) → W p l e (RMw 2 0 0 42) s m args below meth c H locs 0 0 Q (F0 m pc ls [.int r])) {H : Heap} {locs : List Loc} (hG : GG X (CP X ca fa w ++ rest) s.heap H locs) {ls : Array Slot} (hl : lv_has ls 3 [(0, .ref (ca 0)), (1, .int x1), (2, .int x2)]) : W p l e (RMw 2 0 0 42) s m args below meth c H locs 0 0 Q (F0 m 0 ls []) := by
  have hx := B.1
  have hb := B.2.1
  unfold fC_walker at hf
  refine lv_aload_n hx hb dX0_walker_0 rfl (lv_at hl 0 rfl) ?_
  refine co_this_g0 B hK hG.1 dX0_walker_1 ?_
  refine lv_iload_n hx hb dX0_walker_4 rfl (lv_at hl 1 rfl) ?_
  refine lv_i2l hx hb dX0_walker_5 rfl ?_
  obtain ⟨r_1, e_2, hf⟩ := bo hf
  refine cCF_isCell B hK hG.2.2 hG.1 e_2 ⟨Nat.le_of_ble_eq_true rfl, Nat.le_of_ble_eq_true rfl⟩ ⟨Nat.zero_le _, Nat.zero_le _⟩ hl.1 (Nat.le_of_ble_eq_true rfl) dX0_walker_6 ?_
  refine lv_if_eq (tgt := 22) hx hb dX0_walker_9 (by decide) (fun c_3 => ?_) (fun c_3 => ?_)
  · have hf := ifp c_3 hf
    exact wC_walker_J22 B hK hf kr hG (lv_sub hl [0] rfl)
  · have hf := ifn c_3 hf
    refine lv_iload_n hx hb dX0_walker_12 rfl (lv_at hl 2 rfl) ?_
    refine lv_iconst (v := 0) hx hb dX0_walker_13 (by decide) ?_
    refine lv_bipush (v := 9) hx hb dX0_walker_14 (by decide) ?_
    obtain ⟨r_4, e_5, hf⟩ := bo hf
    refine cC_isIn B e_5 ⟨Nat.le_of_ble_eq_true rfl, Nat.le_of_ble_eq_true rfl⟩ ⟨Nat.zero_le _, Nat.zero_le _⟩ hl.1 (Nat.le_of_ble_eq_true rfl) dX0_walker_16 ?_
    refine lv_if_ne (tgt := 29) hx hb dX0_walker_19 (by decide) (fun c_6 => ?_) (fun c_6 => ?_)
    · have hf := ifn c_6 hf
      refine lv_aload_n hx hb dX0_walker_29 rfl (lv_at hl 0 rfl) ?_
      refine co_this_g0 B hK hG.1 dX0_walker_30 ?_
      refine lv_iload_n hx hb dX0_walker_33 rfl (lv_at hl 1 rfl) ?_
      obtain ⟨r_7, e_8, hf⟩ := bo hf
      refine cCF_isBog B hK hG.2.2 hG.1 e_8 ⟨Nat.le_of_ble_eq_true rfl, Nat.le_of_ble_eq_true rfl⟩ ⟨Nat.zero_le _, Nat.zero_le _⟩ hl.1 (Nat.le_of_ble_eq_true rfl) dX0_walker_34 ?_
      refine lv_if_eq (tgt := 47) hx hb dX0_walker_37 (by decide) (fun c_9 => ?_) (fun c_9 => ?_)
      · have hf := ifp c_9 hf
        refine lv_aload_n hx hb dX0_walker_47 rfl (lv_at hl 0 rfl) ?_
        refine co_this_g0 B hK hG.1 dX0_walker_48 ?_
        refine co_fen_g9 B hK hG.1 dX0_walker_51 ?_
        refine lv_iconst (v := 4) hx hb dX0_walker_54 (by decide) ?_
        refine lv_icmp_ne (tgt := 67) hx hb dX0_walker_55 (by decide) (fun c_10 => ?_) (fun c_10 => ?_)
        · have hf := ifn c_10 hf
          refine lv_aload_n hx hb dX0_walker_67 rfl (lv_at hl 0 rfl) ?_
          refine co_this_g0 B hK hG.1 dX0_walker_68 ?_
          refine lv_iload_n hx hb dX0_walker_71 rfl (lv_at hl 1 rfl) ?_
          refine lv_iload_n hx hb dX0_walker_72 rfl (lv_at hl 2 rfl) ?_
          obtain ⟨r_15, f_12, e_11, hf⟩ := b2s hf
          obtain ⟨w_13, e_14, hf⟩ := bo hf
          refine cCF_addsWalker B hK hG e_11 e_14 ⟨Nat.le_of_ble_eq_true rfl, Nat.le_of_ble_eq_true rfl⟩ ⟨Nat.zero_le _, Nat.zero_le _⟩ hl.1 (Nat.le_of_ble_eq_true rfl) dX0_walker_73 (fun H locs hG => ?_)
          exact kr _ _ (Option.some.inj hf).symm _ _ hG _ _ dX0_walker_76
        · have hf := ifp c_10 hf
          refine lv_aload_n hx hb dX0_walker_58 rfl (lv_at hl 0 rfl) ?_
          refine lv_bipush (v := (-6)) hx hb dX0_walker_59 (by decide) ?_
          obtain ⟨r_20, f_17, e_16, hf⟩ := b2s hf
          obtain ⟨w_18, e_19, hf⟩ := bo hf
          refine cC_no B hK hG e_16 e_19 ⟨Nat.le_of_ble_eq_true rfl, Nat.le_of_ble_eq_true rfl⟩ ⟨Nat.zero_le _, Nat.zero_le _⟩ hl.1 (Nat.le_of_ble_eq_true rfl) dX0_walker_61 (fun H locs hG => ?_)
          refine lv_goto (tgt := 76) hx hb dX0_walker_64 (by decide) ?_
          exact kr _ _ (Option.some.inj hf).symm _ _ hG _ _ dX0_walker_76
      · have hf := ifn c_9 hf
        refine lv_aload_n hx hb dX0_walker_40 rfl (lv_at hl 0 rfl) ?_
        refine lv_bipush (v := (-5)) hx hb dX0_walker_41 (by decide) ?_
        obtain ⟨r_25, f_22, e_21, hf⟩ := b2s hf
        obtain ⟨w_23, e_24, hf⟩ := bo hf
        refine cC_no B hK hG e_21 e_24 ⟨Nat.le_of_ble_eq_true rfl, Nat.le_of_ble_eq_true rfl⟩ ⟨Nat.zero_le _, Nat.zero_le _⟩ hl.1 (Nat.le_of_ble_eq_true rfl) dX0_walker_43 (fun H locs hG => ?_)
        exact kr _ _ (Option.some.inj hf).symm _ _ hG _ _ dX0_walker_46
    · have hf := ifp c_6 hf
      exact wC_walker_J22 B hK hf kr hG (lv_sub hl [0] rfl)

theorem tC_walker (l : Launch) (X : CX) (ca fa : Nat → Nat) (rest : va_W) (w w' : CW) (x1 : Int32) (x2 : Int32) (r : Int32) (hf : fC_walker w x1 x2 = some (r, w')) : RW l yX0_walker cX0_walker 3 (some .int) 2 0 0 42 [.ref (ca 0), .int x1, .int x2] X (CP X ca fa w ++ rest) (CP X ca fa (w') ++ rest) (some (.int r)) := by
  refine RW.mk (by decide) (Nat.le_of_ble_eq_true rfl) ?_
  intro p e s m below meth c B hr hlk hK hG ls hl
  exact wC_walker B hK hf (fun r w h H locs hG pc ls hd => by cases h; exact w_iretW B hr hlk hG hd) hG hl
end S_C_walker

section K_cCF_isWalker
variable {p : Program} {l : Launch} {e : Env} {R : Room} {s : State} {m : MethodId} {args : Array Value} {below : List Frame} {meth : Method} {c : Code} {H : Heap} {locs : List Loc} {cells slots : Nat} {Q : State → Prop} {cc : ByteArray} {nL pc : Nat} {ls : Array Slot} {st : List Value} {X : CX} {rest : va_W} {ca fa : Nat → Nat}
theorem cCF_isWalker (B : CallFix p m c cc nL s args lw_all RX0) (hK : KK X s) (hS : va_S (Az X) s.heap H locs) {w : CW} (hP : va_P X.2.2.1 vwCl (CP X ca fa w ++ rest) H) {x1 : Int32} {r : Int32} (hf : fF_isWalker (cfe w) x1 = some r) (hR : 1 + 1 ≤ R.frames ∧ 43 ≤ R.locals) (hcs : cells ≤ R.cells ∧ slots ≤ R.slots) (hl : ls.size = nL) (hcat : (st.map fun v => v.category).sum ≤ 8) (hdg : decode cc pc = .ok (.invokevirtual 199, 3)) (kk : W p l e R s m args below meth c H locs cells slots Q (F0 m (pc + 3) ls (.int r :: st))) : W p l e R s m args below meth c H locs cells slots Q (F0 m pc ls (.int x1 :: .ref (fa 0) :: st)) :=
  w_afterR (w_rV_RO (ws := FP X fa (cfe w) ++ (CPr X ca fa w ++ rest)) (As := [.int x1]) B hK hS hP (tF_isWalker l X fa (CPr X ca fa w ++ rest) (cfe w) x1 r hf) (lw_V q692 q693 q694 q88 q695) 0 rfl rfl (n := 1) (by decide +kernel) hR hcs rfl hl rfl hcat hdg) kk
end K_cCF_isWalker

section S_C_sure
variable {p : Program} {l : Launch} {e : Env} {R : Room} {s : State} {m : MethodId} {args : Array Value} {below : List Frame} {meth : Method} {c : Code} {H : Heap} {locs : List Loc} {cells slots : Nat} {Q : State → Prop} {cc : ByteArray} {nL pc : Nat} {ls : Array Slot} {st : List Value} {X : CX} {rest : va_W} {ca fa : Nat → Nat}
noncomputable def fC_sure_J21 (w : CW)  : Option (Int32 × CW) :=
  b2 (fC_no w (-2)) fun r_5 f_2 =>
  (some (f_2)).bind fun w_3 =>
  some (r_5, w_3)

set_option maxHeartbeats 4000000 in
theorem wC_sure_J21 (B : CallFix p m c cX0_sure 4 s args lw_all RX0) (hK : KK X s) {w : CW}  {res : Int32 × CW} (hf : fC_sure_J21 w  = some res) (kr : ∀ (r : Int32) (w1 : CW), res = (r, w1) → ∀ (H : Heap) (locs : List Loc), GG X (CP X ca fa w1 ++ rest) s.heap H locs → ∀ (pc : Nat) (ls : Array Slot), decode cX0_sure pc = .ok (.ireturn, 1) → W p l e (RMw 2 0 0 43) s m args below meth c H locs 0 0 Q (F0 m pc ls [.int r])) {H : Heap} {locs : List Loc} (hG : GG X (CP X ca fa w ++ rest) s.heap H locs) {ls : Array Slot} (hl : lv_has ls 4 [(0, .ref (ca 0))]) : W p l e (RMw 2 0 0 43) s m args below meth c H locs 0 0 Q (F0 m 21 ls []) := by
  have hx := B.1
  have hb := B.2.1
  unfold fC_sure_J21 at hf
  refine lv_aload_n hx hb dX0_sure_21 rfl (lv_at hl 0 rfl) ?_
  refine lv_bipush (v := (-2)) hx hb dX0_sure_22 (by decide) ?_
  obtain ⟨r_5, f_2, e_1, hf⟩ := b2s hf
  obtain ⟨w_3, e_4, hf⟩ := bo hf
  refine cC_no B hK hG e_1 e_4 ⟨Nat.le_of_ble_eq_true rfl, Nat.le_of_ble_eq_true rfl⟩ ⟨Nat.zero_le _, Nat.zero_le _⟩ hl.1 (Nat.le_of_ble_eq_true rfl) dX0_sure_24 (fun H locs hG => ?_)
  exact kr _ _ (Option.some.inj hf).symm _ _ hG _ _ dX0_sure_27

noncomputable def fC_sure (w : CW) (x1 : Int32) (x2 : Int32) : Option (Int32 × CW) :=
  (fF_isWalker (cfe w) x1).bind fun r_1 =>
  if r_1 = 0 then
    fC_sure_J21 w 
  else
    (fC_isIn x2 0 9).bind fun r_4 =>
    if r_4 = 0 then
      fC_sure_J21 w 
    else
      (rd ((cfe w).2.1 3) 4 x1).bind fun v_7 =>
      ((sto ((cfe w).2.1 3) 4 x1 x2).map (fun g_11 => cnf w (fau (cfe w) 3 g_11))).bind fun w_9 =>
      some (v_7, w_9)

set_option maxHeartbeats 4000000 in
theorem wC_sure (B : CallFix p m c cX0_sure 4 s args lw_all RX0) (hK : KK X s) {w : CW} {x1 : Int32} {x2 : Int32} {res : Int32 × CW} (hf : fC_sure w x1 x2 = some res) (kr : ∀ (r : Int32) (w1 : CW), res = (r, w1) → ∀ (H : Heap) (locs : List Loc), GG X (CP X ca fa w1 ++ rest) s.heap H locs → ∀ (pc : Nat) (ls : Array Slot), decode cX0_sure pc = .ok (.ireturn, 1) → W p l e (RMw 2 0 0 43) s m args below meth c H locs 0 0 Q (F0 m pc ls [.int r])) {H : Heap} {locs : List Loc} (hG : GG X (CP X ca fa w ++ rest) s.heap H locs) {ls : Array Slot} (hl : lv_has ls 4 [(0, .ref (ca 0)), (1, .int x1), (2, .int x2)]) : W p l e (RMw 2 0 0 43) s m args below meth c H locs 0 0 Q (F0 m 0 ls []) := by
  have hx := B.1
  have hb := B.2.1
  unfold fC_sure at hf
  refine lv_aload_n hx hb dX0_sure_0 rfl (lv_at hl 0 rfl) ?_
  refine co_this_g0 B hK hG.1 dX0_sure_1 ?_
  refine lv_iload_n hx hb dX0_sure_4 rfl (lv_at hl 1 rfl) ?_
  obtain ⟨r_1, e_2, hf⟩ := bo hf
  refine cCF_isWalker B hK hG.2.2 hG.1 e_2 ⟨Nat.le_of_ble_eq_true rfl, Nat.le_of_ble_eq_true rfl⟩ ⟨Nat.zero_le _, Nat.zero_le _⟩ hl.1 (Nat.le_of_ble_eq_true rfl) dX0_sure_5 ?_
  refine lv_if_eq (tgt := 21) hx hb dX0_sure_8 (by decide) (fun c_3 => ?_) (fun c_3 => ?_)
  · have hf := ifp c_3 hf
    exact wC_sure_J21 B hK hf kr hG (lv_sub hl [0] rfl)
  · have hf := ifn c_3 hf
    refine lv_iload_n hx hb dX0_sure_11 rfl (lv_at hl 2 rfl) ?_
    refine lv_iconst (v := 0) hx hb dX0_sure_12 (by decide) ?_
    refine lv_bipush (v := 9) hx hb dX0_sure_13 (by decide) ?_
    obtain ⟨r_4, e_5, hf⟩ := bo hf
    refine cC_isIn B e_5 ⟨Nat.le_of_ble_eq_true rfl, Nat.le_of_ble_eq_true rfl⟩ ⟨Nat.zero_le _, Nat.zero_le _⟩ hl.1 (Nat.le_of_ble_eq_true rfl) dX0_sure_15 ?_
    refine lv_if_ne (tgt := 28) hx hb dX0_sure_18 (by decide) (fun c_6 => ?_) (fun c_6 => ?_)
    · have hf := ifn c_6 hf
      refine lv_aload_n hx hb dX0_sure_28 rfl (lv_at hl 0 rfl) ?_
      refine co_this_g0 B hK hG.1 dX0_sure_29 ?_
      refine co_fen_g3 B hK hG.1 dX0_sure_32 ?_
      refine lv_iload_n hx hb dX0_sure_35 rfl (lv_at hl 1 rfl) ?_
      obtain ⟨v_7, e_8, hf⟩ := bo hf
      refine co_sure_l B hK hG.1 e_8 dX0_sure_36 ?_
      refine lv_istore_n (lv' := [(3, .int v_7), (0, .ref (ca 0)), (1, .int x1), (2, .int x2)]) hx hb dX0_sure_37 rfl hl (by decide) rfl (fun ls hl => ?_)
      refine lv_aload_n hx hb dX0_sure_38 rfl (lv_at hl 1 rfl) ?_
      refine co_this_g0 B hK hG.1 dX0_sure_39 ?_
      refine co_fen_g3 B hK hG.1 dX0_sure_42 ?_
      refine lv_iload_n hx hb dX0_sure_45 rfl (lv_at hl 2 rfl) ?_
      refine lv_iload_n hx hb dX0_sure_46 rfl (lv_at hl 3 rfl) ?_
      obtain ⟨w_9, e_10, hf⟩ := bo hf
      refine co_sure_s B hK hG e_10 dX0_sure_47 (fun H locs hG => ?_)
      refine lv_iload_n hx hb dX0_sure_48 rfl (lv_at hl 0 rfl) ?_
      exact kr _ _ (Option.some.inj hf).symm _ _ hG _ _ dX0_sure_49
    · have hf := ifp c_6 hf
      exact wC_sure_J21 B hK hf kr hG (lv_sub hl [0] rfl)

theorem tC_sure (l : Launch) (X : CX) (ca fa : Nat → Nat) (rest : va_W) (w w' : CW) (x1 : Int32) (x2 : Int32) (r : Int32) (hf : fC_sure w x1 x2 = some (r, w')) : RW l yX0_sure cX0_sure 4 (some .int) 2 0 0 43 [.ref (ca 0), .int x1, .int x2] X (CP X ca fa w ++ rest) (CP X ca fa (w') ++ rest) (some (.int r)) := by
  refine RW.mk (by decide) (Nat.le_of_ble_eq_true rfl) ?_
  intro p e s m below meth c B hr hlk hK hG ls hl
  exact wC_sure B hK hf (fun r w h H locs hG pc ls hd => by cases h; exact w_iretW B hr hlk hG hd) hG hl
end S_C_sure

section S_C_feed
variable {p : Program} {l : Launch} {e : Env} {R : Room} {s : State} {m : MethodId} {args : Array Value} {below : List Frame} {meth : Method} {c : Code} {H : Heap} {locs : List Loc} {cells slots : Nat} {Q : State → Prop} {cc : ByteArray} {nL pc : Nat} {ls : Array Slot} {st : List Value} {X : CX} {rest : va_W} {ca fa : Nat → Nat}
noncomputable def fC_feed (w : CW) (x1 : Int32) : Option (Int32 × CW) :=
  (fC_isIn x1 0 255).bind fun r_1 =>
  if r_1 = 0 then
    b2 (fC_no w (-2)) fun r_19 f_16 =>
    (some (f_16)).bind fun w_17 =>
    some (r_19, w_17)
  else
    if (w.1 6) = 250 then
      b2 (fC_no w (-6)) fun r_14 f_11 =>
      (some (f_11)).bind fun w_12 =>
      some (r_14, w_12)
    else
      ((sto (w.2.1 5) 250 (w.1 6) x1).map (fun g_7 => cau w 5 g_7)).bind fun w_5 =>
      (some (cpt w_5 6 ((w_5.1 6) + 1))).bind fun w_8 =>
      some ((w_8.1 6), w_8)

set_option maxHeartbeats 4000000 in
theorem wC_feed (B : CallFix p m c cX0_feed 2 s args lw_all RX0) (hK : KK X s) {w : CW} {x1 : Int32} {res : Int32 × CW} (hf : fC_feed w x1 = some res) (kr : ∀ (r : Int32) (w1 : CW), res = (r, w1) → ∀ (H : Heap) (locs : List Loc), GG X (CP X ca fa w1 ++ rest) s.heap H locs → ∀ (pc : Nat) (ls : Array Slot), decode cX0_feed pc = .ok (.ireturn, 1) → W p l e (RMw 1 0 0 22) s m args below meth c H locs 0 0 Q (F0 m pc ls [.int r])) {H : Heap} {locs : List Loc} (hG : GG X (CP X ca fa w ++ rest) s.heap H locs) {ls : Array Slot} (hl : lv_has ls 2 [(0, .ref (ca 0)), (1, .int x1)]) : W p l e (RMw 1 0 0 22) s m args below meth c H locs 0 0 Q (F0 m 0 ls []) := by
  have hx := B.1
  have hb := B.2.1
  unfold fC_feed at hf
  refine lv_iload_n hx hb dX0_feed_0 rfl (lv_at hl 1 rfl) ?_
  refine lv_iconst (v := 0) hx hb dX0_feed_1 (by decide) ?_
  refine lv_sipush (v := 255) hx hb dX0_feed_2 (by decide) ?_
  obtain ⟨r_1, e_2, hf⟩ := bo hf
  refine cC_isIn B e_2 ⟨Nat.le_of_ble_eq_true rfl, Nat.le_of_ble_eq_true rfl⟩ ⟨Nat.zero_le _, Nat.zero_le _⟩ hl.1 (Nat.le_of_ble_eq_true rfl) dX0_feed_5 ?_
  refine lv_if_ne (tgt := 18) hx hb dX0_feed_8 (by decide) (fun c_3 => ?_) (fun c_3 => ?_)
  · have hf := ifn c_3 hf
    refine lv_aload_n hx hb dX0_feed_18 rfl (lv_at hl 0 rfl) ?_
    refine co_this_g6 B hK hG.1 dX0_feed_19 ?_
    refine lv_sipush (v := 250) hx hb dX0_feed_22 (by decide) ?_
    refine lv_icmp_ne (tgt := 35) hx hb dX0_feed_25 (by decide) (fun c_4 => ?_) (fun c_4 => ?_)
    · have hf := ifn c_4 hf
      refine lv_aload_n hx hb dX0_feed_35 rfl (lv_at hl 0 rfl) ?_
      refine co_this_g5 B hK hG.1 dX0_feed_36 ?_
      refine lv_aload_n hx hb dX0_feed_39 rfl (lv_at hl 0 rfl) ?_
      refine co_this_g6 B hK hG.1 dX0_feed_40 ?_
      refine lv_iload_n hx hb dX0_feed_43 rfl (lv_at hl 1 rfl) ?_
      obtain ⟨w_5, e_6, hf⟩ := bo hf
      refine co_tape_s B hK hG e_6 dX0_feed_44 (fun H locs hG => ?_)
      refine lv_aload_n hx hb dX0_feed_45 rfl (lv_at hl 0 rfl) ?_
      refine lv_dup hx hb dX0_feed_46 rfl ?_
      refine co_this_g6 B hK hG.1 dX0_feed_47 ?_
      refine lv_iconst (v := 1) hx hb dX0_feed_50 (by decide) ?_
      refine lv_iadd hx hb dX0_feed_51 ?_
      obtain ⟨w_8, e_9, hf⟩ := bo hf
      refine co_this_p6 B hK hG e_9 dX0_feed_52 (fun H locs hG => ?_)
      refine lv_aload_n hx hb dX0_feed_55 rfl (lv_at hl 0 rfl) ?_
      refine co_this_g6 B hK hG.1 dX0_feed_56 ?_
      exact kr _ _ (Option.some.inj hf).symm _ _ hG _ _ dX0_feed_59
    · have hf := ifp c_4 hf
      refine lv_aload_n hx hb dX0_feed_28 rfl (lv_at hl 0 rfl) ?_
      refine lv_bipush (v := (-6)) hx hb dX0_feed_29 (by decide) ?_
      obtain ⟨r_14, f_11, e_10, hf⟩ := b2s hf
      obtain ⟨w_12, e_13, hf⟩ := bo hf
      refine cC_no B hK hG e_10 e_13 ⟨Nat.le_of_ble_eq_true rfl, Nat.le_of_ble_eq_true rfl⟩ ⟨Nat.zero_le _, Nat.zero_le _⟩ hl.1 (Nat.le_of_ble_eq_true rfl) dX0_feed_31 (fun H locs hG => ?_)
      exact kr _ _ (Option.some.inj hf).symm _ _ hG _ _ dX0_feed_34
  · have hf := ifp c_3 hf
    refine lv_aload_n hx hb dX0_feed_11 rfl (lv_at hl 0 rfl) ?_
    refine lv_bipush (v := (-2)) hx hb dX0_feed_12 (by decide) ?_
    obtain ⟨r_19, f_16, e_15, hf⟩ := b2s hf
    obtain ⟨w_17, e_18, hf⟩ := bo hf
    refine cC_no B hK hG e_15 e_18 ⟨Nat.le_of_ble_eq_true rfl, Nat.le_of_ble_eq_true rfl⟩ ⟨Nat.zero_le _, Nat.zero_le _⟩ hl.1 (Nat.le_of_ble_eq_true rfl) dX0_feed_14 (fun H locs hG => ?_)
    exact kr _ _ (Option.some.inj hf).symm _ _ hG _ _ dX0_feed_17

theorem tC_feed (l : Launch) (X : CX) (ca fa : Nat → Nat) (rest : va_W) (w w' : CW) (x1 : Int32) (r : Int32) (hf : fC_feed w x1 = some (r, w')) : RW l yX0_feed cX0_feed 2 (some .int) 1 0 0 22 [.ref (ca 0), .int x1] X (CP X ca fa w ++ rest) (CP X ca fa (w') ++ rest) (some (.int r)) := by
  refine RW.mk (by decide) (Nat.le_of_ble_eq_true rfl) ?_
  intro p e s m below meth c B hr hlk hK hG ls hl
  exact wC_feed B hK hf (fun r w h H locs hG pc ls hd => by cases h; exact w_iretW B hr hlk hG hd) hG hl
end S_C_feed

section S_C_wipe
variable {p : Program} {l : Launch} {e : Env} {R : Room} {s : State} {m : MethodId} {args : Array Value} {below : List Frame} {meth : Method} {c : Code} {H : Heap} {locs : List Loc} {cells slots : Nat} {Q : State → Prop} {cc : ByteArray} {nL pc : Nat} {ls : Array Slot} {st : List Value} {X : CX} {rest : va_W} {ca fa : Nat → Nat}
noncomputable def fC_wipe (w : CW)  : Option (Int32 × CW) :=
  (some (w.1 6)).bind fun x_1 =>
  (some (cpt w 6 0)).bind fun w_3 =>
  some (x_1, w_3)

set_option maxHeartbeats 4000000 in
theorem wC_wipe (B : CallFix p m c cX0_wipe 2 s args lw_all RX0) (hK : KK X s) {w : CW}  {res : Int32 × CW} (hf : fC_wipe w  = some res) (kr : ∀ (r : Int32) (w1 : CW), res = (r, w1) → ∀ (H : Heap) (locs : List Loc), GG X (CP X ca fa w1 ++ rest) s.heap H locs → ∀ (pc : Nat) (ls : Array Slot), decode cX0_wipe pc = .ok (.ireturn, 1) → W p l e (RMw 0 0 0 0) s m args below meth c H locs 0 0 Q (F0 m pc ls [.int r])) {H : Heap} {locs : List Loc} (hG : GG X (CP X ca fa w ++ rest) s.heap H locs) {ls : Array Slot} (hl : lv_has ls 2 [(0, .ref (ca 0))]) : W p l e (RMw 0 0 0 0) s m args below meth c H locs 0 0 Q (F0 m 0 ls []) := by
  have hx := B.1
  have hb := B.2.1
  unfold fC_wipe at hf
  refine lv_aload_n hx hb dX0_wipe_0 rfl (lv_at hl 0 rfl) ?_
  refine co_this_g6 B hK hG.1 dX0_wipe_1 ?_
  obtain ⟨x_1, e_2, hf⟩ := bo hf
  refine w_istore_n (lv' := [(1, .int x_1), (0, .ref (ca 0))]) e_2 hx hb dX0_wipe_4 rfl hl (by decide) rfl (fun ls hl => ?_)
  refine lv_aload_n hx hb dX0_wipe_5 rfl (lv_at hl 1 rfl) ?_
  refine lv_iconst (v := 0) hx hb dX0_wipe_6 (by decide) ?_
  obtain ⟨w_3, e_4, hf⟩ := bo hf
  refine co_this_p6 B hK hG e_4 dX0_wipe_7 (fun H locs hG => ?_)
  refine lv_iload_n hx hb dX0_wipe_10 rfl (lv_at hl 0 rfl) ?_
  exact kr _ _ (Option.some.inj hf).symm _ _ hG _ _ dX0_wipe_11

theorem tC_wipe (l : Launch) (X : CX) (ca fa : Nat → Nat) (rest : va_W) (w w' : CW)  (r : Int32) (hf : fC_wipe w  = some (r, w')) : RW l yX0_wipe cX0_wipe 2 (some .int) 0 0 0 0 [.ref (ca 0)] X (CP X ca fa w ++ rest) (CP X ca fa (w') ++ rest) (some (.int r)) := by
  refine RW.mk (by decide) (Nat.le_of_ble_eq_true rfl) ?_
  intro p e s m below meth c B hr hlk hK hG ls hl
  exact wC_wipe B hK hf (fun r w h H locs hG pc ls hd => by cases h; exact w_iretW B hr hlk hG hd) hG hl
end S_C_wipe

section K_cCF_isLost
variable {p : Program} {l : Launch} {e : Env} {R : Room} {s : State} {m : MethodId} {args : Array Value} {below : List Frame} {meth : Method} {c : Code} {H : Heap} {locs : List Loc} {cells slots : Nat} {Q : State → Prop} {cc : ByteArray} {nL pc : Nat} {ls : Array Slot} {st : List Value} {X : CX} {rest : va_W} {ca fa : Nat → Nat}
theorem cCF_isLost (B : CallFix p m c cc nL s args lw_all RX0) (hK : KK X s) (hS : va_S (Az X) s.heap H locs) {w : CW} (hP : va_P X.2.2.1 vwCl (CP X ca fa w ++ rest) H) {x1 : Int32} {r : Int32} (hf : fF_isLost (cfe w) x1 = some r) (hR : 0 + 1 ≤ R.frames ∧ 21 ≤ R.locals) (hcs : cells ≤ R.cells ∧ slots ≤ R.slots) (hl : ls.size = nL) (hcat : (st.map fun v => v.category).sum ≤ 8) (hdg : decode cc pc = .ok (.invokevirtual 241, 3)) (kk : W p l e R s m args below meth c H locs cells slots Q (F0 m (pc + 3) ls (.int r :: st))) : W p l e R s m args below meth c H locs cells slots Q (F0 m pc ls (.int x1 :: .ref (fa 0) :: st)) :=
  w_afterR (w_rV_RO (ws := FP X fa (cfe w) ++ (CPr X ca fa w ++ rest)) (As := [.int x1]) B hK hS hP (tF_isLost l X fa (CPr X ca fa w ++ rest) (cfe w) x1 r hf) (lw_V q1095 q513 q514 q88 q515) 0 rfl rfl (n := 1) (by decide +kernel) hR hcs rfl hl rfl hcat hdg) kk
end K_cCF_isLost

section K_cCF_path
variable {p : Program} {l : Launch} {e : Env} {R : Room} {s : State} {m : MethodId} {args : Array Value} {below : List Frame} {meth : Method} {c : Code} {H : Heap} {locs : List Loc} {cells slots : Nat} {Q : State → Prop} {cc : ByteArray} {nL pc : Nat} {ls : Array Slot} {st : List Value} {X : CX} {rest : va_W} {ca fa : Nat → Nat}
theorem cCF_path (B : CallFix p m c cc nL s args lw_all RX0) (hK : KK X s) {w : CW} (hG : GG X (CP X ca fa w ++ rest) s.heap H locs) {x1 : Int32} {x2 : Int32} {r : Int32} {f1 : FW} {w' : CW} (hf : fF_path (cfe w) x1 x2 = some (r, f1)) (hw : some (cnf w f1) = some w') (hR : 4 + 1 ≤ R.frames ∧ 114 ≤ R.locals) (hcs : cells ≤ R.cells ∧ slots ≤ R.slots) (hl : ls.size = nL) (hcat : (st.map fun v => v.category).sum ≤ 8) (hdg : decode cc pc = .ok (.invokevirtual 244, 3)) (kk : ∀ (H1 : Heap) (locs1 : List Loc), GG X (CP X ca fa (w') ++ rest) s.heap H1 locs1 → W p l e R s m args below meth c H1 locs1 cells slots Q (F0 m (pc + 3) ls (.int r :: st))) : W p l e R s m args below meth c H locs cells slots Q (F0 m pc ls (.int x2 :: .int x1 :: .ref (fa 0) :: st)) := by
  cases hw
  exact w_afterW (w_rV_RW (ws := FP X fa (cfe w) ++ (CPr X ca fa w ++ rest)) (As := [.int x1, .int x2]) B hK hG (tF_path l X fa (CPr X ca fa w ++ rest) (cfe w) f1 x1 x2 r hf) (lw_V q1096 q1097 q1098 q88 q1099) 0 rfl rfl (n := 2) (by decide +kernel) hR hcs rfl hl rfl hcat hdg) hG.2.2 kk
end K_cCF_path

section S_C_walkerOf
variable {p : Program} {l : Launch} {e : Env} {R : Room} {s : State} {m : MethodId} {args : Array Value} {below : List Frame} {meth : Method} {c : Code} {H : Heap} {locs : List Loc} {cells slots : Nat} {Q : State → Prop} {cc : ByteArray} {nL pc : Nat} {ls : Array Slot} {st : List Value} {X : CX} {rest : va_W} {ca fa : Nat → Nat}
noncomputable def fC_walkerOf (w : CW) (x1 : Int32) (x2 : Int32) : Option (Int32 × CW) :=
  (fF_isWalker (cfe w) x1).bind fun r_1 =>
  if r_1 = 0 then
    b2 (fC_no w (-2)) fun r_31 f_28 =>
    (some (f_28)).bind fun w_29 =>
    some (r_31, w_29)
  else
    if x2 = 0 then
      (rd ((cfe w).2.1 2) 4 x1).bind fun v_5 =>
      some (v_5, w)
    else
      if x2 = 1 then
        (rd ((cfe w).2.1 3) 4 x1).bind fun v_8 =>
        some (v_8, w)
      else
        if x2 = 2 then
          (fF_isLost (cfe w) x1).bind fun r_11 =>
          if r_11 = 0 then
            some (0, w)
          else
            some (1, w)
        else
          if x2 = 3 then
            (rd ((cfe w).2.1 2) 4 x1).bind fun v_15 =>
            b2 (fF_path (cfe w) v_15 ((cfe w).1 7)) fun r_21 f_18 =>
            (some (cnf w f_18)).bind fun w_19 =>
            some (r_21, w_19)
          else
            b2 (fC_no w (-2)) fun r_26 f_23 =>
            (some (f_23)).bind fun w_24 =>
            some (r_26, w_24)

set_option maxHeartbeats 4000000 in
theorem wC_walkerOf (B : CallFix p m c cX0_walkerOf 3 s args lw_all RX0) (hK : KK X s) {w : CW} {x1 : Int32} {x2 : Int32} {res : Int32 × CW} (hf : fC_walkerOf w x1 x2 = some res) (kr : ∀ (r : Int32) (w1 : CW), res = (r, w1) → ∀ (H : Heap) (locs : List Loc), GG X (CP X ca fa w1 ++ rest) s.heap H locs → ∀ (pc : Nat) (ls : Array Slot), decode cX0_walkerOf pc = .ok (.ireturn, 1) → W p l e (RMw 5 0 0 114) s m args below meth c H locs 0 0 Q (F0 m pc ls [.int r])) {H : Heap} {locs : List Loc} (hG : GG X (CP X ca fa w ++ rest) s.heap H locs) {ls : Array Slot} (hl : lv_has ls 3 [(0, .ref (ca 0)), (1, .int x1), (2, .int x2)]) : W p l e (RMw 5 0 0 114) s m args below meth c H locs 0 0 Q (F0 m 0 ls []) := by
  have hx := B.1
  have hb := B.2.1
  unfold fC_walkerOf at hf
  refine lv_aload_n hx hb dX0_walkerOf_0 rfl (lv_at hl 0 rfl) ?_
  refine co_this_g0 B hK hG.1 dX0_walkerOf_1 ?_
  refine lv_iload_n hx hb dX0_walkerOf_4 rfl (lv_at hl 1 rfl) ?_
  obtain ⟨r_1, e_2, hf⟩ := bo hf
  refine cCF_isWalker B hK hG.2.2 hG.1 e_2 ⟨Nat.le_of_ble_eq_true rfl, Nat.le_of_ble_eq_true rfl⟩ ⟨Nat.zero_le _, Nat.zero_le _⟩ hl.1 (Nat.le_of_ble_eq_true rfl) dX0_walkerOf_5 ?_
  refine lv_if_ne (tgt := 18) hx hb dX0_walkerOf_8 (by decide) (fun c_3 => ?_) (fun c_3 => ?_)
  · have hf := ifn c_3 hf
    refine lv_iload_n hx hb dX0_walkerOf_18 rfl (lv_at hl 2 rfl) ?_
    by_cases c_4 : x2 = 0
    · have hf := ifp c_4 hf
      refine w_tab (tgt := 48) 0 c_4 hx hb dX0_walkerOf_19 (by decide) (by decide) rfl (by decide) ?_
      refine lv_aload_n hx hb dX0_walkerOf_48 rfl (lv_at hl 0 rfl) ?_
      refine co_this_g0 B hK hG.1 dX0_walkerOf_49 ?_
      refine co_fen_g2 B hK hG.1 dX0_walkerOf_52 ?_
      refine lv_iload_n hx hb dX0_walkerOf_55 rfl (lv_at hl 1 rfl) ?_
      obtain ⟨v_5, e_6, hf⟩ := bo hf
      refine co_cell_l B hK hG.1 e_6 dX0_walkerOf_56 ?_
      exact kr _ _ (Option.some.inj hf).symm _ _ hG _ _ dX0_walkerOf_57
    · have hf := ifn c_4 hf
      by_cases c_7 : x2 = 1
      · have hf := ifp c_7 hf
        refine w_tab (tgt := 58) 1 c_7 hx hb dX0_walkerOf_19 (by decide) (by decide) rfl (by decide) ?_
        refine lv_aload_n hx hb dX0_walkerOf_58 rfl (lv_at hl 0 rfl) ?_
        refine co_this_g0 B hK hG.1 dX0_walkerOf_59 ?_
        refine co_fen_g3 B hK hG.1 dX0_walkerOf_62 ?_
        refine lv_iload_n hx hb dX0_walkerOf_65 rfl (lv_at hl 1 rfl) ?_
        obtain ⟨v_8, e_9, hf⟩ := bo hf
        refine co_sure_l B hK hG.1 e_9 dX0_walkerOf_66 ?_
        exact kr _ _ (Option.some.inj hf).symm _ _ hG _ _ dX0_walkerOf_67
      · have hf := ifn c_7 hf
        by_cases c_10 : x2 = 2
        · have hf := ifp c_10 hf
          refine w_tab (tgt := 68) 2 c_10 hx hb dX0_walkerOf_19 (by decide) (by decide) rfl (by decide) ?_
          refine lv_aload_n hx hb dX0_walkerOf_68 rfl (lv_at hl 0 rfl) ?_
          refine co_this_g0 B hK hG.1 dX0_walkerOf_69 ?_
          refine lv_iload_n hx hb dX0_walkerOf_72 rfl (lv_at hl 1 rfl) ?_
          obtain ⟨r_11, e_12, hf⟩ := bo hf
          refine cCF_isLost B hK hG.2.2 hG.1 e_12 ⟨Nat.le_of_ble_eq_true rfl, Nat.le_of_ble_eq_true rfl⟩ ⟨Nat.zero_le _, Nat.zero_le _⟩ hl.1 (Nat.le_of_ble_eq_true rfl) dX0_walkerOf_73 ?_
          refine lv_if_eq (tgt := 83) hx hb dX0_walkerOf_76 (by decide) (fun c_13 => ?_) (fun c_13 => ?_)
          · have hf := ifp c_13 hf
            refine lv_iconst (v := 0) hx hb dX0_walkerOf_83 (by decide) ?_
            exact kr _ _ (Option.some.inj hf).symm _ _ hG _ _ dX0_walkerOf_84
          · have hf := ifn c_13 hf
            refine lv_iconst (v := 1) hx hb dX0_walkerOf_79 (by decide) ?_
            refine lv_goto (tgt := 84) hx hb dX0_walkerOf_80 (by decide) ?_
            exact kr _ _ (Option.some.inj hf).symm _ _ hG _ _ dX0_walkerOf_84
        · have hf := ifn c_10 hf
          by_cases c_14 : x2 = 3
          · have hf := ifp c_14 hf
            refine w_tab (tgt := 85) 3 c_14 hx hb dX0_walkerOf_19 (by decide) (by decide) rfl (by decide) ?_
            refine lv_aload_n hx hb dX0_walkerOf_85 rfl (lv_at hl 0 rfl) ?_
            refine co_this_g0 B hK hG.1 dX0_walkerOf_86 ?_
            refine lv_aload_n hx hb dX0_walkerOf_89 rfl (lv_at hl 0 rfl) ?_
            refine co_this_g0 B hK hG.1 dX0_walkerOf_90 ?_
            refine co_fen_g2 B hK hG.1 dX0_walkerOf_93 ?_
            refine lv_iload_n hx hb dX0_walkerOf_96 rfl (lv_at hl 1 rfl) ?_
            obtain ⟨v_15, e_16, hf⟩ := bo hf
            refine co_cell_l B hK hG.1 e_16 dX0_walkerOf_97 ?_
            refine lv_aload_n hx hb dX0_walkerOf_98 rfl (lv_at hl 0 rfl) ?_
            refine co_this_g0 B hK hG.1 dX0_walkerOf_99 ?_
            refine co_fen_g7 B hK hG.1 dX0_walkerOf_102 ?_
            obtain ⟨r_21, f_18, e_17, hf⟩ := b2s hf
            obtain ⟨w_19, e_20, hf⟩ := bo hf
            refine cCF_path B hK hG e_17 e_20 ⟨Nat.le_of_ble_eq_true rfl, Nat.le_of_ble_eq_true rfl⟩ ⟨Nat.zero_le _, Nat.zero_le _⟩ hl.1 (Nat.le_of_ble_eq_true rfl) dX0_walkerOf_105 (fun H locs hG => ?_)
            exact kr _ _ (Option.some.inj hf).symm _ _ hG _ _ dX0_walkerOf_108
          · have hf := ifn c_14 hf
            refine lv_tableOut (tgt := 109) hx hb dX0_walkerOf_19 (by have := lv_neT c_4 (a := 0) rfl; have := lv_neT c_7 (a := 1) rfl; have := lv_neT c_10 (a := 2) rfl; have := lv_neT c_14 (a := 3) rfl; omega) (by decide) ?_
            refine lv_aload_n hx hb dX0_walkerOf_109 rfl (lv_at hl 0 rfl) ?_
            refine lv_bipush (v := (-2)) hx hb dX0_walkerOf_110 (by decide) ?_
            obtain ⟨r_26, f_23, e_22, hf⟩ := b2s hf
            obtain ⟨w_24, e_25, hf⟩ := bo hf
            refine cC_no B hK hG e_22 e_25 ⟨Nat.le_of_ble_eq_true rfl, Nat.le_of_ble_eq_true rfl⟩ ⟨Nat.zero_le _, Nat.zero_le _⟩ hl.1 (Nat.le_of_ble_eq_true rfl) dX0_walkerOf_112 (fun H locs hG => ?_)
            exact kr _ _ (Option.some.inj hf).symm _ _ hG _ _ dX0_walkerOf_115
  · have hf := ifp c_3 hf
    refine lv_aload_n hx hb dX0_walkerOf_11 rfl (lv_at hl 0 rfl) ?_
    refine lv_bipush (v := (-2)) hx hb dX0_walkerOf_12 (by decide) ?_
    obtain ⟨r_31, f_28, e_27, hf⟩ := b2s hf
    obtain ⟨w_29, e_30, hf⟩ := bo hf
    refine cC_no B hK hG e_27 e_30 ⟨Nat.le_of_ble_eq_true rfl, Nat.le_of_ble_eq_true rfl⟩ ⟨Nat.zero_le _, Nat.zero_le _⟩ hl.1 (Nat.le_of_ble_eq_true rfl) dX0_walkerOf_14 (fun H locs hG => ?_)
    exact kr _ _ (Option.some.inj hf).symm _ _ hG _ _ dX0_walkerOf_17

theorem tC_walkerOf (l : Launch) (X : CX) (ca fa : Nat → Nat) (rest : va_W) (w w' : CW) (x1 : Int32) (x2 : Int32) (r : Int32) (hf : fC_walkerOf w x1 x2 = some (r, w')) : RW l yX0_walkerOf cX0_walkerOf 3 (some .int) 5 0 0 114 [.ref (ca 0), .int x1, .int x2] X (CP X ca fa w ++ rest) (CP X ca fa (w') ++ rest) (some (.int r)) := by
  refine RW.mk (by decide) (Nat.le_of_ble_eq_true rfl) ?_
  intro p e s m below meth c B hr hlk hK hG ls hl
  exact wC_walkerOf B hK hf (fun r w h H locs hG pc ls hd => by cases h; exact w_iretW B hr hlk hG hd) hG hl
end S_C_walkerOf

section S_C_isBog
variable {p : Program} {l : Launch} {e : Env} {R : Room} {s : State} {m : MethodId} {args : Array Value} {below : List Frame} {meth : Method} {c : Code} {H : Heap} {locs : List Loc} {cells slots : Nat} {Q : State → Prop} {cc : ByteArray} {nL pc : Nat} {ls : Array Slot} {st : List Value} {X : CX} {rest : va_W} {ca fa : Nat → Nat}
noncomputable def fC_isBog (w : CW) (x1 : Int32) : Option (Int32 × CW) :=
  (fF_isCell (cfe w) (x1.toInt64)).bind fun r_1 =>
  if r_1 = 0 then
    b2 (fC_no w (-2)) fun r_11 f_8 =>
    (some (f_8)).bind fun w_9 =>
    some (r_11, w_9)
  else
    (fF_isBog (cfe w) x1).bind fun r_4 =>
    if r_4 = 0 then
      some (0, w)
    else
      some (1, w)

set_option maxHeartbeats 4000000 in
theorem wC_isBog (B : CallFix p m c cX0_isBog 2 s args lw_all RX0) (hK : KK X s) {w : CW} {x1 : Int32} {res : Int32 × CW} (hf : fC_isBog w x1 = some res) (kr : ∀ (r : Int32) (w1 : CW), res = (r, w1) → ∀ (H : Heap) (locs : List Loc), GG X (CP X ca fa w1 ++ rest) s.heap H locs → ∀ (pc : Nat) (ls : Array Slot), decode cX0_isBog pc = .ok (.ireturn, 1) → W p l e (RMw 2 0 0 42) s m args below meth c H locs 0 0 Q (F0 m pc ls [.int r])) {H : Heap} {locs : List Loc} (hG : GG X (CP X ca fa w ++ rest) s.heap H locs) {ls : Array Slot} (hl : lv_has ls 2 [(0, .ref (ca 0)), (1, .int x1)]) : W p l e (RMw 2 0 0 42) s m args below meth c H locs 0 0 Q (F0 m 0 ls []) := by
  have hx := B.1
  have hb := B.2.1
  unfold fC_isBog at hf
  refine lv_aload_n hx hb dX0_isBog_0 rfl (lv_at hl 0 rfl) ?_
  refine co_this_g0 B hK hG.1 dX0_isBog_1 ?_
  refine lv_iload_n hx hb dX0_isBog_4 rfl (lv_at hl 1 rfl) ?_
  refine lv_i2l hx hb dX0_isBog_5 rfl ?_
  obtain ⟨r_1, e_2, hf⟩ := bo hf
  refine cCF_isCell B hK hG.2.2 hG.1 e_2 ⟨Nat.le_of_ble_eq_true rfl, Nat.le_of_ble_eq_true rfl⟩ ⟨Nat.zero_le _, Nat.zero_le _⟩ hl.1 (Nat.le_of_ble_eq_true rfl) dX0_isBog_6 ?_
  refine lv_if_ne (tgt := 21) hx hb dX0_isBog_9 (by decide) (fun c_3 => ?_) (fun c_3 => ?_)
  · have hf := ifn c_3 hf
    refine lv_aload_n hx hb dX0_isBog_21 rfl (lv_at hl 0 rfl) ?_
    refine co_this_g0 B hK hG.1 dX0_isBog_22 ?_
    refine lv_iload_n hx hb dX0_isBog_25 rfl (lv_at hl 1 rfl) ?_
    obtain ⟨r_4, e_5, hf⟩ := bo hf
    refine cCF_isBog B hK hG.2.2 hG.1 e_5 ⟨Nat.le_of_ble_eq_true rfl, Nat.le_of_ble_eq_true rfl⟩ ⟨Nat.zero_le _, Nat.zero_le _⟩ hl.1 (Nat.le_of_ble_eq_true rfl) dX0_isBog_26 ?_
    refine lv_if_eq (tgt := 36) hx hb dX0_isBog_29 (by decide) (fun c_6 => ?_) (fun c_6 => ?_)
    · have hf := ifp c_6 hf
      refine lv_iconst (v := 0) hx hb dX0_isBog_36 (by decide) ?_
      exact kr _ _ (Option.some.inj hf).symm _ _ hG _ _ dX0_isBog_37
    · have hf := ifn c_6 hf
      refine lv_iconst (v := 1) hx hb dX0_isBog_32 (by decide) ?_
      refine lv_goto (tgt := 37) hx hb dX0_isBog_33 (by decide) ?_
      exact kr _ _ (Option.some.inj hf).symm _ _ hG _ _ dX0_isBog_37
  · have hf := ifp c_3 hf
    refine lv_aload_n hx hb dX0_isBog_12 rfl (lv_at hl 0 rfl) ?_
    refine lv_bipush (v := (-2)) hx hb dX0_isBog_13 (by decide) ?_
    obtain ⟨r_11, f_8, e_7, hf⟩ := b2s hf
    obtain ⟨w_9, e_10, hf⟩ := bo hf
    refine cC_no B hK hG e_7 e_10 ⟨Nat.le_of_ble_eq_true rfl, Nat.le_of_ble_eq_true rfl⟩ ⟨Nat.zero_le _, Nat.zero_le _⟩ hl.1 (Nat.le_of_ble_eq_true rfl) dX0_isBog_15 (fun H locs hG => ?_)
    refine lv_goto (tgt := 37) hx hb dX0_isBog_18 (by decide) ?_
    exact kr _ _ (Option.some.inj hf).symm _ _ hG _ _ dX0_isBog_37

theorem tC_isBog (l : Launch) (X : CX) (ca fa : Nat → Nat) (rest : va_W) (w w' : CW) (x1 : Int32) (r : Int32) (hf : fC_isBog w x1 = some (r, w')) : RW l yX0_isBog cX0_isBog 2 (some .int) 2 0 0 42 [.ref (ca 0), .int x1] X (CP X ca fa w ++ rest) (CP X ca fa (w') ++ rest) (some (.int r)) := by
  refine RW.mk (by decide) (Nat.le_of_ble_eq_true rfl) ?_
  intro p e s m below meth c B hr hlk hK hG ls hl
  exact wC_isBog B hK hf (fun r w h H locs hG pc ls hd => by cases h; exact w_iretW B hr hlk hG hd) hG hl
end S_C_isBog

section K_cC_wayOf
variable {p : Program} {l : Launch} {e : Env} {R : Room} {s : State} {m : MethodId} {args : Array Value} {below : List Frame} {meth : Method} {c : Code} {H : Heap} {locs : List Loc} {cells slots : Nat} {Q : State → Prop} {cc : ByteArray} {nL pc : Nat} {ls : Array Slot} {st : List Value} {X : CX} {rest : va_W}
theorem cC_wayOf (B : CallFix p m c cc nL s args lw_all RX0) {x0 : Int32} {x1 : Int32} {r : Int32} (hf : fC_wayOf x0 x1 = some r) (hR : 2 + 1 ≤ R.frames ∧ 63 ≤ R.locals) (hcs : cells ≤ R.cells ∧ slots ≤ R.slots) (hl : ls.size = nL) (hcat : (st.map fun v => v.category).sum ≤ 8) (hdg : decode cc pc = .ok (.invokestatic 247, 3)) (kk : W p l e R s m args below meth c H locs cells slots Q (F0 m (pc + 3) ls (.int r :: st))) : W p l e R s m args below meth c H locs cells slots Q (F0 m pc ls (.int x1 :: .int x0 :: st)) :=
  w_afterR (w_rS_ST (As := [.int x0, .int x1]) B (tC_wayOf l x0 x1 r hf) (lw_S q1124 q534 q87 q535) (n := 2) (by decide +kernel) hR hcs rfl hl rfl hcat hdg) kk
end K_cC_wayOf

section S_C_way
variable {p : Program} {l : Launch} {e : Env} {R : Room} {s : State} {m : MethodId} {args : Array Value} {below : List Frame} {meth : Method} {c : Code} {H : Heap} {locs : List Loc} {cells slots : Nat} {Q : State → Prop} {cc : ByteArray} {nL pc : Nat} {ls : Array Slot} {st : List Value} {X : CX} {rest : va_W} {ca fa : Nat → Nat}
noncomputable def fC_way_J32 (w : CW)  : Option (Int32 × CW) :=
  b2 (fC_no w (-2)) fun r_5 f_2 =>
  (some (f_2)).bind fun w_3 =>
  some (r_5, w_3)

set_option maxHeartbeats 4000000 in
theorem wC_way_J32 (B : CallFix p m c cX0_way 3 s args lw_all RX0) (hK : KK X s) {w : CW}  {res : Int32 × CW} (hf : fC_way_J32 w  = some res) (kr : ∀ (r : Int32) (w1 : CW), res = (r, w1) → ∀ (H : Heap) (locs : List Loc), GG X (CP X ca fa w1 ++ rest) s.heap H locs → ∀ (pc : Nat) (ls : Array Slot), decode cX0_way pc = .ok (.ireturn, 1) → W p l e (RMw 3 0 0 63) s m args below meth c H locs 0 0 Q (F0 m pc ls [.int r])) {H : Heap} {locs : List Loc} (hG : GG X (CP X ca fa w ++ rest) s.heap H locs) {ls : Array Slot} (hl : lv_has ls 3 [(0, .ref (ca 0))]) : W p l e (RMw 3 0 0 63) s m args below meth c H locs 0 0 Q (F0 m 32 ls []) := by
  have hx := B.1
  have hb := B.2.1
  unfold fC_way_J32 at hf
  refine lv_aload_n hx hb dX0_way_32 rfl (lv_at hl 0 rfl) ?_
  refine lv_bipush (v := (-2)) hx hb dX0_way_33 (by decide) ?_
  obtain ⟨r_5, f_2, e_1, hf⟩ := b2s hf
  obtain ⟨w_3, e_4, hf⟩ := bo hf
  refine cC_no B hK hG e_1 e_4 ⟨Nat.le_of_ble_eq_true rfl, Nat.le_of_ble_eq_true rfl⟩ ⟨Nat.zero_le _, Nat.zero_le _⟩ hl.1 (Nat.le_of_ble_eq_true rfl) dX0_way_35 (fun H locs hG => ?_)
  exact kr _ _ (Option.some.inj hf).symm _ _ hG _ _ dX0_way_38

noncomputable def fC_way (w : CW) (x1 : Int32) (x2 : Int32) : Option (Int32 × CW) :=
  (fF_isCell (cfe w) (x1.toInt64)).bind fun r_1 =>
  if r_1 = 0 then
    fC_way_J32 w 
  else
    (fF_isCell (cfe w) (x2.toInt64)).bind fun r_4 =>
    if r_4 = 0 then
      fC_way_J32 w 
    else
      (fC_wayOf x1 x2).bind fun r_7 =>
      some (r_7, w)

set_option maxHeartbeats 4000000 in
theorem wC_way (B : CallFix p m c cX0_way 3 s args lw_all RX0) (hK : KK X s) {w : CW} {x1 : Int32} {x2 : Int32} {res : Int32 × CW} (hf : fC_way w x1 x2 = some res) (kr : ∀ (r : Int32) (w1 : CW), res = (r, w1) → ∀ (H : Heap) (locs : List Loc), GG X (CP X ca fa w1 ++ rest) s.heap H locs → ∀ (pc : Nat) (ls : Array Slot), decode cX0_way pc = .ok (.ireturn, 1) → W p l e (RMw 3 0 0 63) s m args below meth c H locs 0 0 Q (F0 m pc ls [.int r])) {H : Heap} {locs : List Loc} (hG : GG X (CP X ca fa w ++ rest) s.heap H locs) {ls : Array Slot} (hl : lv_has ls 3 [(0, .ref (ca 0)), (1, .int x1), (2, .int x2)]) : W p l e (RMw 3 0 0 63) s m args below meth c H locs 0 0 Q (F0 m 0 ls []) := by
  have hx := B.1
  have hb := B.2.1
  unfold fC_way at hf
  refine lv_aload_n hx hb dX0_way_0 rfl (lv_at hl 0 rfl) ?_
  refine co_this_g0 B hK hG.1 dX0_way_1 ?_
  refine lv_iload_n hx hb dX0_way_4 rfl (lv_at hl 1 rfl) ?_
  refine lv_i2l hx hb dX0_way_5 rfl ?_
  obtain ⟨r_1, e_2, hf⟩ := bo hf
  refine cCF_isCell B hK hG.2.2 hG.1 e_2 ⟨Nat.le_of_ble_eq_true rfl, Nat.le_of_ble_eq_true rfl⟩ ⟨Nat.zero_le _, Nat.zero_le _⟩ hl.1 (Nat.le_of_ble_eq_true rfl) dX0_way_6 ?_
  refine lv_if_eq (tgt := 32) hx hb dX0_way_9 (by decide) (fun c_3 => ?_) (fun c_3 => ?_)
  · have hf := ifp c_3 hf
    exact wC_way_J32 B hK hf kr hG (lv_sub hl [0] rfl)
  · have hf := ifn c_3 hf
    refine lv_aload_n hx hb dX0_way_12 rfl (lv_at hl 0 rfl) ?_
    refine co_this_g0 B hK hG.1 dX0_way_13 ?_
    refine lv_iload_n hx hb dX0_way_16 rfl (lv_at hl 2 rfl) ?_
    refine lv_i2l hx hb dX0_way_17 rfl ?_
    obtain ⟨r_4, e_5, hf⟩ := bo hf
    refine cCF_isCell B hK hG.2.2 hG.1 e_5 ⟨Nat.le_of_ble_eq_true rfl, Nat.le_of_ble_eq_true rfl⟩ ⟨Nat.zero_le _, Nat.zero_le _⟩ hl.1 (Nat.le_of_ble_eq_true rfl) dX0_way_18 ?_
    refine lv_if_eq (tgt := 32) hx hb dX0_way_21 (by decide) (fun c_6 => ?_) (fun c_6 => ?_)
    · have hf := ifp c_6 hf
      exact wC_way_J32 B hK hf kr hG (lv_sub hl [0] rfl)
    · have hf := ifn c_6 hf
      refine lv_iload_n hx hb dX0_way_24 rfl (lv_at hl 1 rfl) ?_
      refine lv_iload_n hx hb dX0_way_25 rfl (lv_at hl 2 rfl) ?_
      obtain ⟨r_7, e_8, hf⟩ := bo hf
      refine cC_wayOf B e_8 ⟨Nat.le_of_ble_eq_true rfl, Nat.le_of_ble_eq_true rfl⟩ ⟨Nat.zero_le _, Nat.zero_le _⟩ hl.1 (Nat.le_of_ble_eq_true rfl) dX0_way_26 ?_
      refine lv_goto (tgt := 38) hx hb dX0_way_29 (by decide) ?_
      exact kr _ _ (Option.some.inj hf).symm _ _ hG _ _ dX0_way_38

theorem tC_way (l : Launch) (X : CX) (ca fa : Nat → Nat) (rest : va_W) (w w' : CW) (x1 : Int32) (x2 : Int32) (r : Int32) (hf : fC_way w x1 x2 = some (r, w')) : RW l yX0_way cX0_way 3 (some .int) 3 0 0 63 [.ref (ca 0), .int x1, .int x2] X (CP X ca fa w ++ rest) (CP X ca fa (w') ++ rest) (some (.int r)) := by
  refine RW.mk (by decide) (Nat.le_of_ble_eq_true rfl) ?_
  intro p e s m below meth c B hr hlk hK hG ls hl
  exact wC_way B hK hf (fun r w h H locs hG pc ls hd => by cases h; exact w_iretW B hr hlk hG hd) hG hl
end S_C_way

section S_C_armAt
variable {p : Program} {l : Launch} {e : Env} {R : Room} {s : State} {m : MethodId} {args : Array Value} {below : List Frame} {meth : Method} {c : Code} {H : Heap} {locs : List Loc} {cells slots : Nat} {Q : State → Prop} {cc : ByteArray} {nL pc : Nat} {ls : Array Slot} {st : List Value} {X : CX} {rest : va_W} {ca fa : Nat → Nat}
noncomputable def fC_armAt (w : CW) (x1 : PV) (x2 : Int32) : Option (Int32 × CW) :=
  (fL_alone (lwA w) x2).bind fun f_1 =>
  (some (calone w f_1)).bind fun w_3 =>
  (inL (cpl w_3) x1).bind fun u_5 =>
  (fArm x1 (lwA w_3)).bind fun r_7 =>
  some (r_7, w_3)

set_option maxHeartbeats 4000000 in
theorem wC_armAt (B : CallFix p m c cX0_armAt 3 s args lw_all RX0) (hK : KK X s) {w : CW} {x1 : PV} {x2 : Int32} {res : Int32 × CW} (hf : fC_armAt w x1 x2 = some res) (kr : ∀ (r : Int32) (w1 : CW), res = (r, w1) → ∀ (H : Heap) (locs : List Loc), GG X (CP X ca fa w1 ++ rest) s.heap H locs → ∀ (pc : Nat) (ls : Array Slot), decode cX0_armAt pc = .ok (.ireturn, 1) → W p l e (RMw 6 0 0 128) s m args below meth c H locs 0 0 Q (F0 m pc ls [.int r])) {H : Heap} {locs : List Loc} (hG : GG X (CP X ca fa w ++ rest) s.heap H locs) {ls : Array Slot} (hl : lv_has ls 3 [(0, .ref (ca 0)), (1, .ref x1.1), (2, .int x2)]) : W p l e (RMw 6 0 0 128) s m args below meth c H locs 0 0 Q (F0 m 0 ls []) := by
  have hx := B.1
  have hb := B.2.1
  unfold fC_armAt at hf
  refine lv_aload_n hx hb dX0_armAt_0 rfl (lv_at hl 1 rfl) ?_
  refine lv_aload_n hx hb dX0_armAt_1 rfl (lv_at hl 0 rfl) ?_
  refine co_this_g2 B hK hG.1 dX0_armAt_2 ?_
  refine lv_iload_n hx hb dX0_armAt_5 rfl (lv_at hl 2 rfl) ?_
  obtain ⟨f_1, e_2, hf⟩ := bo hf
  obtain ⟨w_3, e_4, hf⟩ := bo hf
  refine co_alone B hK hG e_2 e_4 ⟨Nat.le_of_ble_eq_true rfl, Nat.le_of_ble_eq_true rfl⟩ ⟨Nat.zero_le _, Nat.zero_le _⟩ hl.1 (Nat.le_of_ble_eq_true rfl) dX0_armAt_6 (fun H locs hG => ?_)
  obtain ⟨u_5, e_6, hf⟩ := bo hf
  obtain ⟨r_7, e_8, hf⟩ := bo hf
  refine w_arm B hK hG.2.2 (cp_A (inL_in e_6) hG.1) e_8 ⟨Nat.le_of_ble_eq_true rfl, Nat.le_of_ble_eq_true rfl⟩ ⟨Nat.zero_le _, Nat.zero_le _⟩ hl.1 (Nat.le_of_ble_eq_true rfl) dX0_armAt_9 ?_
  exact kr _ _ (Option.some.inj hf).symm _ _ hG _ _ dX0_armAt_12

theorem tC_armAt (l : Launch) (X : CX) (ca fa : Nat → Nat) (rest : va_W) (w w' : CW) (x1 : PV) (x2 : Int32) (r : Int32) (hf : fC_armAt w x1 x2 = some (r, w')) : RW l yX0_armAt cX0_armAt 3 (some .int) 6 0 0 128 [.ref (ca 0), .ref x1.1, .int x2] X (CP X ca fa w ++ rest) (CP X ca fa (w') ++ rest) (some (.int r)) := by
  refine RW.mk (by decide) (Nat.le_of_ble_eq_true rfl) ?_
  intro p e s m below meth c B hr hlk hK hG ls hl
  exact wC_armAt B hK hf (fun r w h H locs hG pc ls hd => by cases h; exact w_iretW B hr hlk hG hd) hG hl
end S_C_armAt

section K_cCF_lost
variable {p : Program} {l : Launch} {e : Env} {R : Room} {s : State} {m : MethodId} {args : Array Value} {below : List Frame} {meth : Method} {c : Code} {H : Heap} {locs : List Loc} {cells slots : Nat} {Q : State → Prop} {cc : ByteArray} {nL pc : Nat} {ls : Array Slot} {st : List Value} {X : CX} {rest : va_W} {ca fa : Nat → Nat}
theorem cCF_lost (B : CallFix p m c cc nL s args lw_all RX0) (hK : KK X s) {w : CW} (hG : GG X (CP X ca fa w ++ rest) s.heap H locs)  {f1 : FW} {w' : CW} (hf : fF_lost (cfe w)  = some f1) (hw : some (cnf w f1) = some w') (hR : 1 + 1 ≤ R.frames ∧ 42 ≤ R.locals) (hcs : cells ≤ R.cells ∧ slots ≤ R.slots) (hl : ls.size = nL) (hcat : (st.map fun v => v.category).sum ≤ 8) (hdg : decode cc pc = .ok (.invokevirtual 150, 3)) (kk : ∀ (H1 : Heap) (locs1 : List Loc), GG X (CP X ca fa (w') ++ rest) s.heap H1 locs1 → W p l e R s m args below meth c H1 locs1 cells slots Q (F0 m (pc + 3) ls (.ref (fa 5) :: st))) : W p l e R s m args below meth c H locs cells slots Q (F0 m pc ls (.ref (fa 0) :: st)) := by
  cases hw
  exact w_afterW (w_rV_RW (ws := FP X fa (cfe w) ++ (CPr X ca fa w ++ rest)) (As := []) B hK hG (tF_lost l X fa (CPr X ca fa w ++ rest) (cfe w) f1  hf) (lw_V q508 q509 q510 q88 q511) 0 rfl rfl (n := 0) (by decide +kernel) hR hcs rfl hl rfl hcat hdg) hG.2.2 kk
end K_cCF_lost

section S_C_armOf
variable {p : Program} {l : Launch} {e : Env} {R : Room} {s : State} {m : MethodId} {args : Array Value} {below : List Frame} {meth : Method} {c : Code} {H : Heap} {locs : List Loc} {cells slots : Nat} {Q : State → Prop} {cc : ByteArray} {nL pc : Nat} {ls : Array Slot} {st : List Value} {X : CX} {rest : va_W} {ca fa : Nat → Nat}
noncomputable def fC_armOf (w : CW) (x1 : PV) : Option (Int32 × CW) :=
  (fF_lost (cfe w) ).bind fun f_2 =>
  (some (cnf w f_2)).bind fun w_3 =>
  (inL (cpl w_3) x1).bind fun u_5 =>
  (fArm x1 (lwN (cfe w_3))).bind fun r_7 =>
  some (r_7, w_3)

set_option maxHeartbeats 4000000 in
theorem wC_armOf (B : CallFix p m c cX0_armOf 2 s args lw_all RX0) (hK : KK X s) {w : CW} {x1 : PV} {res : Int32 × CW} (hf : fC_armOf w x1 = some res) (kr : ∀ (r : Int32) (w1 : CW), res = (r, w1) → ∀ (H : Heap) (locs : List Loc), GG X (CP X ca fa w1 ++ rest) s.heap H locs → ∀ (pc : Nat) (ls : Array Slot), decode cX0_armOf pc = .ok (.ireturn, 1) → W p l e (RMw 6 0 0 128) s m args below meth c H locs 0 0 Q (F0 m pc ls [.int r])) {H : Heap} {locs : List Loc} (hG : GG X (CP X ca fa w ++ rest) s.heap H locs) {ls : Array Slot} (hl : lv_has ls 2 [(0, .ref (ca 0)), (1, .ref x1.1)]) : W p l e (RMw 6 0 0 128) s m args below meth c H locs 0 0 Q (F0 m 0 ls []) := by
  have hx := B.1
  have hb := B.2.1
  unfold fC_armOf at hf
  refine lv_aload_n hx hb dX0_armOf_0 rfl (lv_at hl 1 rfl) ?_
  refine lv_aload_n hx hb dX0_armOf_1 rfl (lv_at hl 0 rfl) ?_
  refine co_this_g0 B hK hG.1 dX0_armOf_2 ?_
  obtain ⟨f_2, e_1, hf⟩ := bo hf
  obtain ⟨w_3, e_4, hf⟩ := bo hf
  refine cCF_lost B hK hG e_1 e_4 ⟨Nat.le_of_ble_eq_true rfl, Nat.le_of_ble_eq_true rfl⟩ ⟨Nat.zero_le _, Nat.zero_le _⟩ hl.1 (Nat.le_of_ble_eq_true rfl) dX0_armOf_5 (fun H locs hG => ?_)
  obtain ⟨u_5, e_6, hf⟩ := bo hf
  obtain ⟨r_7, e_8, hf⟩ := bo hf
  refine w_arm B hK hG.2.2 (cp_N (inL_in e_6) hG.1) e_8 ⟨Nat.le_of_ble_eq_true rfl, Nat.le_of_ble_eq_true rfl⟩ ⟨Nat.zero_le _, Nat.zero_le _⟩ hl.1 (Nat.le_of_ble_eq_true rfl) dX0_armOf_8 ?_
  exact kr _ _ (Option.some.inj hf).symm _ _ hG _ _ dX0_armOf_11

theorem tC_armOf (l : Launch) (X : CX) (ca fa : Nat → Nat) (rest : va_W) (w w' : CW) (x1 : PV) (r : Int32) (hf : fC_armOf w x1 = some (r, w')) : RW l yX0_armOf cX0_armOf 2 (some .int) 6 0 0 128 [.ref (ca 0), .ref x1.1] X (CP X ca fa w ++ rest) (CP X ca fa (w') ++ rest) (some (.int r)) := by
  refine RW.mk (by decide) (Nat.le_of_ble_eq_true rfl) ?_
  intro p e s m below meth c B hr hlk hK hG ls hl
  exact wC_armOf B hK hf (fun r w h H locs hG pc ls hd => by cases h; exact w_iretW B hr hlk hG hd) hG hl
end S_C_armOf

section K_cCF_isPost
variable {p : Program} {l : Launch} {e : Env} {R : Room} {s : State} {m : MethodId} {args : Array Value} {below : List Frame} {meth : Method} {c : Code} {H : Heap} {locs : List Loc} {cells slots : Nat} {Q : State → Prop} {cc : ByteArray} {nL pc : Nat} {ls : Array Slot} {st : List Value} {X : CX} {rest : va_W} {ca fa : Nat → Nat}
theorem cCF_isPost (B : CallFix p m c cc nL s args lw_all RX0) (hK : KK X s) (hS : va_S (Az X) s.heap H locs) {w : CW} (hP : va_P X.2.2.1 vwCl (CP X ca fa w ++ rest) H) {x1 : Int64} {r : Int32} (hf : fF_isPost (cfe w) x1 = some r) (hR : 0 + 1 ≤ R.frames ∧ 22 ≤ R.locals) (hcs : cells ≤ R.cells ∧ slots ≤ R.slots) (hl : ls.size = nL) (hcat : (st.map fun v => v.category).sum ≤ 8) (hdg : decode cc pc = .ok (.invokevirtual 142, 3)) (kk : W p l e R s m args below meth c H locs cells slots Q (F0 m (pc + 3) ls (.int r :: st))) : W p l e R s m args below meth c H locs cells slots Q (F0 m pc ls (.long x1 :: .ref (fa 0) :: st)) :=
  w_afterR (w_rV_RO (ws := FP X fa (cfe w) ++ (CPr X ca fa w ++ rest)) (As := [.long x1]) B hK hS hP (tF_isPost l X fa (CPr X ca fa w ++ rest) (cfe w) x1 r hf) (lw_V q481 q482 q483 q88 q484) 0 rfl rfl (n := 1) (by decide +kernel) hR hcs rfl hl rfl hcat hdg) kk
end K_cCF_isPost

section K_cC_armAt
variable {p : Program} {l : Launch} {e : Env} {R : Room} {s : State} {m : MethodId} {args : Array Value} {below : List Frame} {meth : Method} {c : Code} {H : Heap} {locs : List Loc} {cells slots : Nat} {Q : State → Prop} {cc : ByteArray} {nL pc : Nat} {ls : Array Slot} {st : List Value} {X : CX} {rest : va_W} {ca fa : Nat → Nat}
theorem cC_armAt (B : CallFix p m c cc nL s args lw_all RX0) (hK : KK X s) {w : CW} (hG : GG X (CP X ca fa w ++ rest) s.heap H locs) {x1 : PV} {x2 : Int32} {r : Int32} {f1 : CW} {w' : CW} (hf : fC_armAt w x1 x2 = some (r, f1)) (hw : some (f1) = some w') (hR : 6 + 1 ≤ R.frames ∧ 150 ≤ R.locals) (hcs : cells ≤ R.cells ∧ slots ≤ R.slots) (hl : ls.size = nL) (hcat : (st.map fun v => v.category).sum ≤ 8) (hdg : decode cc pc = .ok (.invokevirtual 253, 3)) (kk : ∀ (H1 : Heap) (locs1 : List Loc), GG X (CP X ca fa (w') ++ rest) s.heap H1 locs1 → W p l e R s m args below meth c H1 locs1 cells slots Q (F0 m (pc + 3) ls (.int r :: st))) : W p l e R s m args below meth c H locs cells slots Q (F0 m pc ls (.int x2 :: .ref x1.1 :: .ref (ca 0) :: st)) := by
  cases hw
  exact w_afterW (w_rV_RW (ws := CP X ca fa w ++ rest) (As := [.ref x1.1, .int x2]) B hK hG (tC_armAt l X ca fa rest w f1 x1 x2 r hf) (lw_V q1129 q1131 qs14 q87 q1132) 8 rfl rfl (n := 2) (by decide +kernel) hR hcs rfl hl rfl hcat hdg) hG.2.2 kk
end K_cC_armAt

section S_C_arm
variable {p : Program} {l : Launch} {e : Env} {R : Room} {s : State} {m : MethodId} {args : Array Value} {below : List Frame} {meth : Method} {c : Code} {H : Heap} {locs : List Loc} {cells slots : Nat} {Q : State → Prop} {cc : ByteArray} {nL pc : Nat} {ls : Array Slot} {st : List Value} {X : CX} {rest : va_W} {ca fa : Nat → Nat}
noncomputable def fC_arm_J41 (w : CW)  : Option (Int32 × CW) :=
  b2 (fC_no w (-2)) fun r_5 f_2 =>
  (some (f_2)).bind fun w_3 =>
  some (r_5, w_3)

set_option maxHeartbeats 4000000 in
theorem wC_arm_J41 (B : CallFix p m c cX0_arm 3 s args lw_all RX0) (hK : KK X s) {w : CW}  {res : Int32 × CW} (hf : fC_arm_J41 w  = some res) (kr : ∀ (r : Int32) (w1 : CW), res = (r, w1) → ∀ (H : Heap) (locs : List Loc), GG X (CP X ca fa w1 ++ rest) s.heap H locs → ∀ (pc : Nat) (ls : Array Slot), decode cX0_arm pc = .ok (.ireturn, 1) → W p l e (RMw 7 0 0 150) s m args below meth c H locs 0 0 Q (F0 m pc ls [.int r])) {H : Heap} {locs : List Loc} (hG : GG X (CP X ca fa w ++ rest) s.heap H locs) {ls : Array Slot} (hl : lv_has ls 3 [(0, .ref (ca 0))]) : W p l e (RMw 7 0 0 150) s m args below meth c H locs 0 0 Q (F0 m 41 ls []) := by
  have hx := B.1
  have hb := B.2.1
  unfold fC_arm_J41 at hf
  refine lv_aload_n hx hb dX0_arm_41 rfl (lv_at hl 0 rfl) ?_
  refine lv_bipush (v := (-2)) hx hb dX0_arm_42 (by decide) ?_
  obtain ⟨r_5, f_2, e_1, hf⟩ := b2s hf
  obtain ⟨w_3, e_4, hf⟩ := bo hf
  refine cC_no B hK hG e_1 e_4 ⟨Nat.le_of_ble_eq_true rfl, Nat.le_of_ble_eq_true rfl⟩ ⟨Nat.zero_le _, Nat.zero_le _⟩ hl.1 (Nat.le_of_ble_eq_true rfl) dX0_arm_44 (fun H locs hG => ?_)
  exact kr _ _ (Option.some.inj hf).symm _ _ hG _ _ dX0_arm_47

noncomputable def fC_arm (w : CW) (x1 : Int32) (x2 : Int32) : Option (Int32 × CW) :=
  (fF_isPost (cfe w) (x1.toInt64)).bind fun r_1 =>
  if r_1 = 0 then
    fC_arm_J41 w 
  else
    (fF_isCell (cfe w) (x2.toInt64)).bind fun r_4 =>
    if r_4 = 0 then
      fC_arm_J41 w 
    else
      (rdP (cfe w).2.2 8 x1).bind fun p_7 =>
      b2 (fC_armAt w p_7 x2) fun r_13 f_10 =>
      (some (f_10)).bind fun w_11 =>
      some (r_13, w_11)

set_option maxHeartbeats 4000000 in
theorem wC_arm (B : CallFix p m c cX0_arm 3 s args lw_all RX0) (hK : KK X s) {w : CW} {x1 : Int32} {x2 : Int32} {res : Int32 × CW} (hf : fC_arm w x1 x2 = some res) (kr : ∀ (r : Int32) (w1 : CW), res = (r, w1) → ∀ (H : Heap) (locs : List Loc), GG X (CP X ca fa w1 ++ rest) s.heap H locs → ∀ (pc : Nat) (ls : Array Slot), decode cX0_arm pc = .ok (.ireturn, 1) → W p l e (RMw 7 0 0 150) s m args below meth c H locs 0 0 Q (F0 m pc ls [.int r])) {H : Heap} {locs : List Loc} (hG : GG X (CP X ca fa w ++ rest) s.heap H locs) {ls : Array Slot} (hl : lv_has ls 3 [(0, .ref (ca 0)), (1, .int x1), (2, .int x2)]) : W p l e (RMw 7 0 0 150) s m args below meth c H locs 0 0 Q (F0 m 0 ls []) := by
  have hx := B.1
  have hb := B.2.1
  unfold fC_arm at hf
  refine lv_aload_n hx hb dX0_arm_0 rfl (lv_at hl 0 rfl) ?_
  refine co_this_g0 B hK hG.1 dX0_arm_1 ?_
  refine lv_iload_n hx hb dX0_arm_4 rfl (lv_at hl 1 rfl) ?_
  refine lv_i2l hx hb dX0_arm_5 rfl ?_
  obtain ⟨r_1, e_2, hf⟩ := bo hf
  refine cCF_isPost B hK hG.2.2 hG.1 e_2 ⟨Nat.le_of_ble_eq_true rfl, Nat.le_of_ble_eq_true rfl⟩ ⟨Nat.zero_le _, Nat.zero_le _⟩ hl.1 (Nat.le_of_ble_eq_true rfl) dX0_arm_6 ?_
  refine lv_if_eq (tgt := 41) hx hb dX0_arm_9 (by decide) (fun c_3 => ?_) (fun c_3 => ?_)
  · have hf := ifp c_3 hf
    exact wC_arm_J41 B hK hf kr hG (lv_sub hl [0] rfl)
  · have hf := ifn c_3 hf
    refine lv_aload_n hx hb dX0_arm_12 rfl (lv_at hl 0 rfl) ?_
    refine co_this_g0 B hK hG.1 dX0_arm_13 ?_
    refine lv_iload_n hx hb dX0_arm_16 rfl (lv_at hl 2 rfl) ?_
    refine lv_i2l hx hb dX0_arm_17 rfl ?_
    obtain ⟨r_4, e_5, hf⟩ := bo hf
    refine cCF_isCell B hK hG.2.2 hG.1 e_5 ⟨Nat.le_of_ble_eq_true rfl, Nat.le_of_ble_eq_true rfl⟩ ⟨Nat.zero_le _, Nat.zero_le _⟩ hl.1 (Nat.le_of_ble_eq_true rfl) dX0_arm_18 ?_
    refine lv_if_eq (tgt := 41) hx hb dX0_arm_21 (by decide) (fun c_6 => ?_) (fun c_6 => ?_)
    · have hf := ifp c_6 hf
      exact wC_arm_J41 B hK hf kr hG (lv_sub hl [0] rfl)
    · have hf := ifn c_6 hf
      refine lv_aload_n hx hb dX0_arm_24 rfl (lv_at hl 0 rfl) ?_
      refine lv_aload_n hx hb dX0_arm_25 rfl (lv_at hl 0 rfl) ?_
      refine co_this_g0 B hK hG.1 dX0_arm_26 ?_
      refine co_fen_g1 B hK hG.1 dX0_arm_29 ?_
      refine lv_iload_n hx hb dX0_arm_32 rfl (lv_at hl 1 rfl) ?_
      obtain ⟨p_7, e_8, hf⟩ := bo hf
      refine co_post_l B hK hG.1 e_8 dX0_arm_33 ?_
      refine lv_iload_n hx hb dX0_arm_34 rfl (lv_at hl 2 rfl) ?_
      obtain ⟨r_13, f_10, e_9, hf⟩ := b2s hf
      obtain ⟨w_11, e_12, hf⟩ := bo hf
      refine cC_armAt B hK hG e_9 e_12 ⟨Nat.le_of_ble_eq_true rfl, Nat.le_of_ble_eq_true rfl⟩ ⟨Nat.zero_le _, Nat.zero_le _⟩ hl.1 (Nat.le_of_ble_eq_true rfl) dX0_arm_35 (fun H locs hG => ?_)
      refine lv_goto (tgt := 47) hx hb dX0_arm_38 (by decide) ?_
      exact kr _ _ (Option.some.inj hf).symm _ _ hG _ _ dX0_arm_47

theorem tC_arm (l : Launch) (X : CX) (ca fa : Nat → Nat) (rest : va_W) (w w' : CW) (x1 : Int32) (x2 : Int32) (r : Int32) (hf : fC_arm w x1 x2 = some (r, w')) : RW l yX0_arm cX0_arm 3 (some .int) 7 0 0 150 [.ref (ca 0), .int x1, .int x2] X (CP X ca fa w ++ rest) (CP X ca fa (w') ++ rest) (some (.int r)) := by
  refine RW.mk (by decide) (Nat.le_of_ble_eq_true rfl) ?_
  intro p e s m below meth c B hr hlk hK hG ls hl
  exact wC_arm B hK hf (fun r w h H locs hG pc ls hd => by cases h; exact w_iretW B hr hlk hG hd) hG hl
end S_C_arm

section S_C_armed
variable {p : Program} {l : Launch} {e : Env} {R : Room} {s : State} {m : MethodId} {args : Array Value} {below : List Frame} {meth : Method} {c : Code} {H : Heap} {locs : List Loc} {cells slots : Nat} {Q : State → Prop} {cc : ByteArray} {nL pc : Nat} {ls : Array Slot} {st : List Value} {X : CX} {rest : va_W} {ca fa : Nat → Nat}
noncomputable def fC_armed_J22 (w : CW)  : Option (Int32 × CW) :=
  b2 (fC_no w (-2)) fun r_5 f_2 =>
  (some (f_2)).bind fun w_3 =>
  some (r_5, w_3)

set_option maxHeartbeats 4000000 in
theorem wC_armed_J22 (B : CallFix p m c cX0_armed 5 s args lw_all RX0) (hK : KK X s) {w : CW}  {res : Int32 × CW} (hf : fC_armed_J22 w  = some res) (kr : ∀ (r : Int32) (w1 : CW), res = (r, w1) → ∀ (H : Heap) (locs : List Loc), GG X (CP X ca fa w1 ++ rest) s.heap H locs → ∀ (pc : Nat) (ls : Array Slot), decode cX0_armed pc = .ok (.ireturn, 1) → W p l e (RMw 7 0 0 150) s m args below meth c H locs 0 0 Q (F0 m pc ls [.int r])) {H : Heap} {locs : List Loc} (hG : GG X (CP X ca fa w ++ rest) s.heap H locs) {ls : Array Slot} (hl : lv_has ls 5 [(0, .ref (ca 0))]) : W p l e (RMw 7 0 0 150) s m args below meth c H locs 0 0 Q (F0 m 22 ls []) := by
  have hx := B.1
  have hb := B.2.1
  unfold fC_armed_J22 at hf
  refine lv_aload_n hx hb dX0_armed_22 rfl (lv_at hl 0 rfl) ?_
  refine lv_bipush (v := (-2)) hx hb dX0_armed_23 (by decide) ?_
  obtain ⟨r_5, f_2, e_1, hf⟩ := b2s hf
  obtain ⟨w_3, e_4, hf⟩ := bo hf
  refine cC_no B hK hG e_1 e_4 ⟨Nat.le_of_ble_eq_true rfl, Nat.le_of_ble_eq_true rfl⟩ ⟨Nat.zero_le _, Nat.zero_le _⟩ hl.1 (Nat.le_of_ble_eq_true rfl) dX0_armed_25 (fun H locs hG => ?_)
  exact kr _ _ (Option.some.inj hf).symm _ _ hG _ _ dX0_armed_28

noncomputable def fC_armed_J74_L34 (w : CW) (x1 : Int32) (x2 : Int32) (x4 : Int32) (t0 : Int32) (t1 : Int32) : Option ((Int32 × Int32 × CW) ⊕ (Int32 × CW)) :=
  (some (t0 ||| t1)).bind fun x_1 =>
  (some (x4 + 1)).bind fun x_3 =>
  some (.inl (x_1, x_3, w))

set_option maxHeartbeats 4000000 in
theorem wC_armed_J74_L34 (B : CallFix p m c cX0_armed 5 s args lw_all RX0) (hK : KK X s) {w : CW} {x1 : Int32} {x2 : Int32} {x4 : Int32} {t0 : Int32} {t1 : Int32} {res : (Int32 × Int32 × CW) ⊕ (Int32 × CW)} (hf : fC_armed_J74_L34 w x1 x2 x4 t0 t1 = some res) (kc : ∀ (y3 : Int32) (y4 : Int32) (w1 : CW), res = .inl (y3, y4, w1) → ∀ (H : Heap) (locs : List Loc), GG X (CP X ca fa w1 ++ rest) s.heap H locs → ∀ (ls : Array Slot), lv_has ls 5 [(0, .ref (ca 0)), (1, .int x1), (2, .int x2), (3, .int y3), (4, .int y4)] → W p l e (RMw 7 0 0 150) s m args below meth c H locs 0 0 Q (F0 m 34 ls [])) (ke82 : ∀ (y3 : Int32) (w1 : CW), res = .inr (y3, w1) → ∀ (H : Heap) (locs : List Loc), GG X (CP X ca fa w1 ++ rest) s.heap H locs → ∀ (ls : Array Slot), lv_has ls 5 [(3, .int y3)] → W p l e (RMw 7 0 0 150) s m args below meth c H locs 0 0 Q (F0 m 82 ls [])) {H : Heap} {locs : List Loc} (hG : GG X (CP X ca fa w ++ rest) s.heap H locs) {ls : Array Slot} (hl : lv_has ls 5 [(0, .ref (ca 0)), (1, .int x1), (2, .int x2), (4, .int x4)]) : W p l e (RMw 7 0 0 150) s m args below meth c H locs 0 0 Q (F0 m 74 ls [.int t1, .int t0]) := by
  have hx := B.1
  have hb := B.2.1
  unfold fC_armed_J74_L34 at hf
  refine lv_ior hx hb dX0_armed_74 ?_
  obtain ⟨x_1, e_2, hf⟩ := bo hf
  refine w_istore_n (lv' := [(3, .int x_1), (0, .ref (ca 0)), (1, .int x1), (2, .int x2), (4, .int x4)]) e_2 hx hb dX0_armed_75 rfl hl (by decide) rfl (fun ls hl => ?_)
  obtain ⟨x_3, e_4, hf⟩ := bo hf
  refine w_iinc (k := 4) (lv' := [(4, .int x_3), (3, .int x_1), (0, .ref (ca 0)), (1, .int x1), (2, .int x2)]) e_4 hx hb dX0_armed_76 hl rfl (by decide) rfl (fun ls hl => ?_)
  refine lv_goto (tgt := 34) hx hb dX0_armed_79 (by decide) ?_
  exact kc _ _ _ (Option.some.inj hf).symm _ _ hG _ (lv_sub hl [2, 3, 4, 1, 0] rfl)

noncomputable def fC_armed_L34 (w : CW) (x1 : Int32) (x2 : Int32) (x3 : Int32) (x4 : Int32) : Option ((Int32 × Int32 × CW) ⊕ (Int32 × CW)) :=
  if ((cfe w).1 8) ≤ x4 then
    some (.inr (x3, w))
  else
    (rdP (cfe w).2.2 8 x4).bind fun p_2 =>
    b2 (fC_armAt w p_2 x1) fun r_8 f_5 =>
    (some (f_5)).bind fun w_6 =>
    if r_8 = x2 then
      fC_armed_J74_L34 w_6 x1 x2 x4 x3 (ishl 1 x4)
    else
      fC_armed_J74_L34 w_6 x1 x2 x4 x3 0

set_option maxHeartbeats 4000000 in
theorem wC_armed_L34 (B : CallFix p m c cX0_armed 5 s args lw_all RX0) (hK : KK X s) {w : CW} {x1 : Int32} {x2 : Int32} {x3 : Int32} {x4 : Int32} {res : (Int32 × Int32 × CW) ⊕ (Int32 × CW)} (hf : fC_armed_L34 w x1 x2 x3 x4 = some res) (kc : ∀ (y3 : Int32) (y4 : Int32) (w1 : CW), res = .inl (y3, y4, w1) → ∀ (H : Heap) (locs : List Loc), GG X (CP X ca fa w1 ++ rest) s.heap H locs → ∀ (ls : Array Slot), lv_has ls 5 [(0, .ref (ca 0)), (1, .int x1), (2, .int x2), (3, .int y3), (4, .int y4)] → W p l e (RMw 7 0 0 150) s m args below meth c H locs 0 0 Q (F0 m 34 ls [])) (ke82 : ∀ (y3 : Int32) (w1 : CW), res = .inr (y3, w1) → ∀ (H : Heap) (locs : List Loc), GG X (CP X ca fa w1 ++ rest) s.heap H locs → ∀ (ls : Array Slot), lv_has ls 5 [(3, .int y3)] → W p l e (RMw 7 0 0 150) s m args below meth c H locs 0 0 Q (F0 m 82 ls [])) {H : Heap} {locs : List Loc} (hG : GG X (CP X ca fa w ++ rest) s.heap H locs) {ls : Array Slot} (hl : lv_has ls 5 [(0, .ref (ca 0)), (1, .int x1), (2, .int x2), (3, .int x3), (4, .int x4)]) : W p l e (RMw 7 0 0 150) s m args below meth c H locs 0 0 Q (F0 m 34 ls []) := by
  have hx := B.1
  have hb := B.2.1
  unfold fC_armed_L34 at hf
  refine lv_iload hx hb dX0_armed_34 (lv_at hl 4 rfl) ?_
  refine lv_aload_n hx hb dX0_armed_36 rfl (lv_at hl 0 rfl) ?_
  refine co_this_g0 B hK hG.1 dX0_armed_37 ?_
  refine co_fen_g8 B hK hG.1 dX0_armed_40 ?_
  refine lv_icmp_ge (tgt := 82) hx hb dX0_armed_43 (by decide) (fun c_1 => ?_) (fun c_1 => ?_)
  · have hf := ifp c_1 hf
    exact ke82 _ _ (Option.some.inj hf).symm _ _ hG _ (lv_sub hl [3] rfl)
  · have hf := ifn c_1 hf
    refine lv_iload_n hx hb dX0_armed_46 rfl (lv_at hl 3 rfl) ?_
    refine lv_aload_n hx hb dX0_armed_47 rfl (lv_at hl 0 rfl) ?_
    refine lv_aload_n hx hb dX0_armed_48 rfl (lv_at hl 0 rfl) ?_
    refine co_this_g0 B hK hG.1 dX0_armed_49 ?_
    refine co_fen_g1 B hK hG.1 dX0_armed_52 ?_
    refine lv_iload hx hb dX0_armed_55 (lv_at hl 4 rfl) ?_
    obtain ⟨p_2, e_3, hf⟩ := bo hf
    refine co_post_l B hK hG.1 e_3 dX0_armed_57 ?_
    refine lv_iload_n hx hb dX0_armed_58 rfl (lv_at hl 1 rfl) ?_
    obtain ⟨r_8, f_5, e_4, hf⟩ := b2s hf
    obtain ⟨w_6, e_7, hf⟩ := bo hf
    refine cC_armAt B hK hG e_4 e_7 ⟨Nat.le_of_ble_eq_true rfl, Nat.le_of_ble_eq_true rfl⟩ ⟨Nat.zero_le _, Nat.zero_le _⟩ hl.1 (Nat.le_of_ble_eq_true rfl) dX0_armed_59 (fun H locs hG => ?_)
    refine lv_iload_n hx hb dX0_armed_62 rfl (lv_at hl 2 rfl) ?_
    refine lv_icmp_ne (tgt := 73) hx hb dX0_armed_63 (by decide) (fun c_9 => ?_) (fun c_9 => ?_)
    · have hf := ifn c_9 hf
      refine lv_iconst (v := 0) hx hb dX0_armed_73 (by decide) ?_
      exact wC_armed_J74_L34 B hK hf kc ke82 hG (lv_sub hl [0, 1, 2, 4] rfl)
    · have hf := ifp c_9 hf
      refine lv_iconst (v := 1) hx hb dX0_armed_66 (by decide) ?_
      refine lv_iload hx hb dX0_armed_67 (lv_at hl 4 rfl) ?_
      refine w_ishl hx hb dX0_armed_69 ?_
      refine lv_goto (tgt := 74) hx hb dX0_armed_70 (by decide) ?_
      exact wC_armed_J74_L34 B hK hf kc ke82 hG (lv_sub hl [0, 1, 2, 4] rfl)

set_option maxHeartbeats 4000000 in
theorem vC_armed_L34 (B : CallFix p m c cX0_armed 5 s args lw_all RX0) (hK : KK X s) {w : CW} {x1 : Int32} {x2 : Int32} {x3 : Int32} {x4 : Int32} {res : Int32 × CW} (hf : lp (fun q : Int32 × Int32 × CW => fC_armed_L34 q.2.2 x1 x2 q.1 q.2.1) (x3, x4, w) = some res) (ke82 : ∀ (y3 : Int32) (w1 : CW), res = (y3, w1) → ∀ (H : Heap) (locs : List Loc), GG X (CP X ca fa w1 ++ rest) s.heap H locs → ∀ (ls : Array Slot), lv_has ls 5 [(3, .int y3)] → W p l e (RMw 7 0 0 150) s m args below meth c H locs 0 0 Q (F0 m 82 ls [])) {H : Heap} {locs : List Loc} (hG : GG X (CP X ca fa w ++ rest) s.heap H locs) {ls : Array Slot} (hl : lv_has ls 5 [(0, .ref (ca 0)), (1, .int x1), (2, .int x2), (3, .int x3), (4, .int x4)]) : W p l e (RMw 7 0 0 150) s m args below meth c H locs 0 0 Q (F0 m 34 ls []) := by
  refine lp_ind (r := res) (P := fun q : Int32 × Int32 × CW => ∀ (H : Heap) (locs : List Loc) (ls : Array Slot), GG X (CP X ca fa q.2.2 ++ rest) s.heap H locs → lv_has ls 5 [(0, .ref (ca 0)), (1, .int x1), (2, .int x2), (3, .int q.1), (4, .int q.2.1)] → W p l e (RMw 7 0 0 150) s m args below meth c H locs 0 0 Q (F0 m 34 ls [])) ?_ ?_ _ hf _ _ _ hG hl
  · intro q hb H locs ls hG hl
    exact wC_armed_L34 B hK hb (fun _ _ _ h => by cases h) (fun z0 z1 h => ke82 z0 z1 (Sum.inr.inj h)) hG hl
  · intro q q2 hb ih H locs ls hG hl
    exact wC_armed_L34 B hK hb (fun z0 z1 z2 h => by cases h; exact fun H locs hG ls hl => ih H locs ls hG hl) (fun _ _ h => by cases h) hG hl

noncomputable def fC_armed (w : CW) (x1 : Int32) (x2 : Int32) : Option (Int32 × CW) :=
  (fF_isCell (cfe w) (x1.toInt64)).bind fun r_1 =>
  if r_1 = 0 then
    fC_armed_J22 w 
  else
    (fC_isIn x2 (-1) 8).bind fun r_4 =>
    if r_4 = 0 then
      fC_armed_J22 w 
    else
      (lp (fun q : Int32 × Int32 × CW => fC_armed_L34 q.2.2 x1 x2 q.1 q.2.1) (0, 0, w)).bind (
        fun q_9 => (fun (y_7 : Int32) (w_8 : CW) =>
          some (y_7, w_8)
        ) q_9.1 q_9.2
      )

set_option maxHeartbeats 4000000 in
theorem wC_armed (B : CallFix p m c cX0_armed 5 s args lw_all RX0) (hK : KK X s) {w : CW} {x1 : Int32} {x2 : Int32} {res : Int32 × CW} (hf : fC_armed w x1 x2 = some res) (kr : ∀ (r : Int32) (w1 : CW), res = (r, w1) → ∀ (H : Heap) (locs : List Loc), GG X (CP X ca fa w1 ++ rest) s.heap H locs → ∀ (pc : Nat) (ls : Array Slot), decode cX0_armed pc = .ok (.ireturn, 1) → W p l e (RMw 7 0 0 150) s m args below meth c H locs 0 0 Q (F0 m pc ls [.int r])) {H : Heap} {locs : List Loc} (hG : GG X (CP X ca fa w ++ rest) s.heap H locs) {ls : Array Slot} (hl : lv_has ls 5 [(0, .ref (ca 0)), (1, .int x1), (2, .int x2)]) : W p l e (RMw 7 0 0 150) s m args below meth c H locs 0 0 Q (F0 m 0 ls []) := by
  have hx := B.1
  have hb := B.2.1
  unfold fC_armed at hf
  refine lv_aload_n hx hb dX0_armed_0 rfl (lv_at hl 0 rfl) ?_
  refine co_this_g0 B hK hG.1 dX0_armed_1 ?_
  refine lv_iload_n hx hb dX0_armed_4 rfl (lv_at hl 1 rfl) ?_
  refine lv_i2l hx hb dX0_armed_5 rfl ?_
  obtain ⟨r_1, e_2, hf⟩ := bo hf
  refine cCF_isCell B hK hG.2.2 hG.1 e_2 ⟨Nat.le_of_ble_eq_true rfl, Nat.le_of_ble_eq_true rfl⟩ ⟨Nat.zero_le _, Nat.zero_le _⟩ hl.1 (Nat.le_of_ble_eq_true rfl) dX0_armed_6 ?_
  refine lv_if_eq (tgt := 22) hx hb dX0_armed_9 (by decide) (fun c_3 => ?_) (fun c_3 => ?_)
  · have hf := ifp c_3 hf
    exact wC_armed_J22 B hK hf kr hG (lv_sub hl [0] rfl)
  · have hf := ifn c_3 hf
    refine lv_iload_n hx hb dX0_armed_12 rfl (lv_at hl 2 rfl) ?_
    refine lv_iconst (v := (-1)) hx hb dX0_armed_13 (by decide) ?_
    refine lv_bipush (v := 8) hx hb dX0_armed_14 (by decide) ?_
    obtain ⟨r_4, e_5, hf⟩ := bo hf
    refine cC_isIn B e_5 ⟨Nat.le_of_ble_eq_true rfl, Nat.le_of_ble_eq_true rfl⟩ ⟨Nat.zero_le _, Nat.zero_le _⟩ hl.1 (Nat.le_of_ble_eq_true rfl) dX0_armed_16 ?_
    refine lv_if_ne (tgt := 29) hx hb dX0_armed_19 (by decide) (fun c_6 => ?_) (fun c_6 => ?_)
    · have hf := ifn c_6 hf
      refine lv_iconst (v := 0) hx hb dX0_armed_29 (by decide) ?_
      refine lv_istore_n (lv' := [(3, .int 0), (0, .ref (ca 0)), (1, .int x1), (2, .int x2)]) hx hb dX0_armed_30 rfl hl (by decide) rfl (fun ls hl => ?_)
      refine lv_iconst (v := 0) hx hb dX0_armed_31 (by decide) ?_
      refine lv_istore (lv' := [(4, .int 0), (3, .int 0), (0, .ref (ca 0)), (1, .int x1), (2, .int x2)]) hx hb dX0_armed_32 hl (by decide) rfl (fun ls hl => ?_)
      obtain ⟨⟨y_7, w_8⟩, e_10, hf⟩ := bo hf
      try dsimp only at hf
      refine vC_armed_L34 B hK e_10 ?_ hG (lv_sub hl [2, 3, 4, 1, 0] rfl)
      intro z0 z1 hz
      cases hz
      intro H locs hG ls hl
      refine lv_iload_n hx hb dX0_armed_82 rfl (lv_at hl 0 rfl) ?_
      exact kr _ _ (Option.some.inj hf).symm _ _ hG _ _ dX0_armed_83
    · have hf := ifp c_6 hf
      exact wC_armed_J22 B hK hf kr hG (lv_sub hl [0] rfl)

theorem tC_armed (l : Launch) (X : CX) (ca fa : Nat → Nat) (rest : va_W) (w w' : CW) (x1 : Int32) (x2 : Int32) (r : Int32) (hf : fC_armed w x1 x2 = some (r, w')) : RW l yX0_armed cX0_armed 5 (some .int) 7 0 0 150 [.ref (ca 0), .int x1, .int x2] X (CP X ca fa w ++ rest) (CP X ca fa (w') ++ rest) (some (.int r)) := by
  refine RW.mk (by decide) (Nat.le_of_ble_eq_true rfl) ?_
  intro p e s m below meth c B hr hlk hK hG ls hl
  exact wC_armed B hK hf (fun r w h H locs hG pc ls hd => by cases h; exact w_iretW B hr hlk hG hd) hG hl
end S_C_armed

section K_cCF_next
variable {p : Program} {l : Launch} {e : Env} {R : Room} {s : State} {m : MethodId} {args : Array Value} {below : List Frame} {meth : Method} {c : Code} {H : Heap} {locs : List Loc} {cells slots : Nat} {Q : State → Prop} {cc : ByteArray} {nL pc : Nat} {ls : Array Slot} {st : List Value} {X : CX} {rest : va_W} {ca fa : Nat → Nat}
theorem cCF_next (B : CallFix p m c cc nL s args lw_all RX0) (hK : KK X s) (hS : va_S (Az X) s.heap H locs) {w : CW} (hP : va_P X.2.2.1 vwCl (CP X ca fa w ++ rest) H) {x1 : Int32} {r : Int32} (hf : fF_next (cfe w) x1 = some r) (hR : 3 + 1 ≤ R.frames ∧ 86 ≤ R.locals) (hcs : cells ≤ R.cells ∧ slots ≤ R.slots) (hl : ls.size = nL) (hcat : (st.map fun v => v.category).sum ≤ 8) (hdg : decode cc pc = .ok (.invokevirtual 265, 3)) (kk : W p l e R s m args below meth c H locs cells slots Q (F0 m (pc + 3) ls (.int r :: st))) : W p l e R s m args below meth c H locs cells slots Q (F0 m pc ls (.int x1 :: .ref (fa 0) :: st)) :=
  w_afterR (w_rV_RO (ws := FP X fa (cfe w) ++ (CPr X ca fa w ++ rest)) (As := [.int x1]) B hK hS hP (tF_next l X fa (CPr X ca fa w ++ rest) (cfe w) x1 r hf) (lw_V q1155 q1156 q1157 q88 q1158) 0 rfl rfl (n := 1) (by decide +kernel) hR hcs rfl hl rfl hcat hdg) kk
end K_cCF_next

section S_C_right
variable {p : Program} {l : Launch} {e : Env} {R : Room} {s : State} {m : MethodId} {args : Array Value} {below : List Frame} {meth : Method} {c : Code} {H : Heap} {locs : List Loc} {cells slots : Nat} {Q : State → Prop} {cc : ByteArray} {nL pc : Nat} {ls : Array Slot} {st : List Value} {X : CX} {rest : va_W} {ca fa : Nat → Nat}
noncomputable def fC_right_J74_L30 (w : CW) (x1 : Int32) (x3 : Int32) (t0 : Int32) (t1 : Int32) : Option ((Int32 × Int32 × CW) ⊕ (Int32 × CW)) :=
  (some (t0 + t1)).bind fun x_1 =>
  (fF_next (cfe w) x3).bind fun r_3 =>
  some (.inl (x_1, r_3, w))

set_option maxHeartbeats 4000000 in
theorem wC_right_J74_L30 (B : CallFix p m c cX0_right 4 s args lw_all RX0) (hK : KK X s) {w : CW} {x1 : Int32} {x3 : Int32} {t0 : Int32} {t1 : Int32} {res : (Int32 × Int32 × CW) ⊕ (Int32 × CW)} (hf : fC_right_J74_L30 w x1 x3 t0 t1 = some res) (kc : ∀ (y2 : Int32) (y3 : Int32) (w1 : CW), res = .inl (y2, y3, w1) → ∀ (H : Heap) (locs : List Loc), GG X (CP X ca fa w1 ++ rest) s.heap H locs → ∀ (ls : Array Slot), lv_has ls 4 [(0, .ref (ca 0)), (1, .int x1), (2, .int y2), (3, .int y3)] → W p l e (RMw 7 0 0 150) s m args below meth c H locs 0 0 Q (F0 m 30 ls [])) (ke88 : ∀ (y2 : Int32) (w1 : CW), res = .inr (y2, w1) → ∀ (H : Heap) (locs : List Loc), GG X (CP X ca fa w1 ++ rest) s.heap H locs → ∀ (ls : Array Slot), lv_has ls 4 [(2, .int y2)] → W p l e (RMw 7 0 0 150) s m args below meth c H locs 0 0 Q (F0 m 88 ls [])) {H : Heap} {locs : List Loc} (hG : GG X (CP X ca fa w ++ rest) s.heap H locs) {ls : Array Slot} (hl : lv_has ls 4 [(0, .ref (ca 0)), (1, .int x1), (3, .int x3)]) : W p l e (RMw 7 0 0 150) s m args below meth c H locs 0 0 Q (F0 m 74 ls [.int t1, .int t0]) := by
  have hx := B.1
  have hb := B.2.1
  unfold fC_right_J74_L30 at hf
  refine lv_iadd hx hb dX0_right_74 ?_
  obtain ⟨x_1, e_2, hf⟩ := bo hf
  refine w_istore_n (lv' := [(2, .int x_1), (0, .ref (ca 0)), (1, .int x1), (3, .int x3)]) e_2 hx hb dX0_right_75 rfl hl (by decide) rfl (fun ls hl => ?_)
  refine lv_aload_n hx hb dX0_right_76 rfl (lv_at hl 1 rfl) ?_
  refine co_this_g0 B hK hG.1 dX0_right_77 ?_
  refine lv_iload_n hx hb dX0_right_80 rfl (lv_at hl 3 rfl) ?_
  obtain ⟨r_3, e_4, hf⟩ := bo hf
  refine cCF_next B hK hG.2.2 hG.1 e_4 ⟨Nat.le_of_ble_eq_true rfl, Nat.le_of_ble_eq_true rfl⟩ ⟨Nat.zero_le _, Nat.zero_le _⟩ hl.1 (Nat.le_of_ble_eq_true rfl) dX0_right_81 ?_
  refine lv_istore_n (lv' := [(3, .int r_3), (2, .int x_1), (0, .ref (ca 0)), (1, .int x1)]) hx hb dX0_right_84 rfl hl (by decide) rfl (fun ls hl => ?_)
  refine lv_goto (tgt := 30) hx hb dX0_right_85 (by decide) ?_
  exact kc _ _ _ (Option.some.inj hf).symm _ _ hG _ (lv_sub hl [2, 3, 1, 0] rfl)

noncomputable def fC_right_L30 (w : CW) (x1 : Int32) (x2 : Int32) (x3 : Int32) : Option ((Int32 × Int32 × CW) ⊕ (Int32 × CW)) :=
  if x3 = (-1) then
    some (.inr (x2, w))
  else
    (rdP (cfe w).2.2 8 x1).bind fun p_2 =>
    b2 (fC_armAt w p_2 x3) fun r_8 f_5 =>
    (some (f_5)).bind fun w_6 =>
    (rdP (cfe w_6).2.2 8 x1).bind fun p_9 =>
    (inL (cpl w_6) p_9).bind fun u_11 =>
    (fC_wayOf p_9.2.2.2.2 x3).bind fun r_13 =>
    if r_8 = r_13 then
      fC_right_J74_L30 w_6 x1 x3 x2 1
    else
      fC_right_J74_L30 w_6 x1 x3 x2 0

set_option maxHeartbeats 4000000 in
theorem wC_right_L30 (B : CallFix p m c cX0_right 4 s args lw_all RX0) (hK : KK X s) {w : CW} {x1 : Int32} {x2 : Int32} {x3 : Int32} {res : (Int32 × Int32 × CW) ⊕ (Int32 × CW)} (hf : fC_right_L30 w x1 x2 x3 = some res) (kc : ∀ (y2 : Int32) (y3 : Int32) (w1 : CW), res = .inl (y2, y3, w1) → ∀ (H : Heap) (locs : List Loc), GG X (CP X ca fa w1 ++ rest) s.heap H locs → ∀ (ls : Array Slot), lv_has ls 4 [(0, .ref (ca 0)), (1, .int x1), (2, .int y2), (3, .int y3)] → W p l e (RMw 7 0 0 150) s m args below meth c H locs 0 0 Q (F0 m 30 ls [])) (ke88 : ∀ (y2 : Int32) (w1 : CW), res = .inr (y2, w1) → ∀ (H : Heap) (locs : List Loc), GG X (CP X ca fa w1 ++ rest) s.heap H locs → ∀ (ls : Array Slot), lv_has ls 4 [(2, .int y2)] → W p l e (RMw 7 0 0 150) s m args below meth c H locs 0 0 Q (F0 m 88 ls [])) {H : Heap} {locs : List Loc} (hG : GG X (CP X ca fa w ++ rest) s.heap H locs) {ls : Array Slot} (hl : lv_has ls 4 [(0, .ref (ca 0)), (1, .int x1), (2, .int x2), (3, .int x3)]) : W p l e (RMw 7 0 0 150) s m args below meth c H locs 0 0 Q (F0 m 30 ls []) := by
  have hx := B.1
  have hb := B.2.1
  unfold fC_right_L30 at hf
  refine lv_iload_n hx hb dX0_right_30 rfl (lv_at hl 3 rfl) ?_
  refine lv_iconst (v := (-1)) hx hb dX0_right_31 (by decide) ?_
  refine lv_icmp_eq (tgt := 88) hx hb dX0_right_32 (by decide) (fun c_1 => ?_) (fun c_1 => ?_)
  · have hf := ifp c_1 hf
    exact ke88 _ _ (Option.some.inj hf).symm _ _ hG _ (lv_sub hl [2] rfl)
  · have hf := ifn c_1 hf
    refine lv_iload_n hx hb dX0_right_35 rfl (lv_at hl 2 rfl) ?_
    refine lv_aload_n hx hb dX0_right_36 rfl (lv_at hl 0 rfl) ?_
    refine lv_aload_n hx hb dX0_right_37 rfl (lv_at hl 0 rfl) ?_
    refine co_this_g0 B hK hG.1 dX0_right_38 ?_
    refine co_fen_g1 B hK hG.1 dX0_right_41 ?_
    refine lv_iload_n hx hb dX0_right_44 rfl (lv_at hl 1 rfl) ?_
    obtain ⟨p_2, e_3, hf⟩ := bo hf
    refine co_post_l B hK hG.1 e_3 dX0_right_45 ?_
    refine lv_iload_n hx hb dX0_right_46 rfl (lv_at hl 3 rfl) ?_
    obtain ⟨r_8, f_5, e_4, hf⟩ := b2s hf
    obtain ⟨w_6, e_7, hf⟩ := bo hf
    refine cC_armAt B hK hG e_4 e_7 ⟨Nat.le_of_ble_eq_true rfl, Nat.le_of_ble_eq_true rfl⟩ ⟨Nat.zero_le _, Nat.zero_le _⟩ hl.1 (Nat.le_of_ble_eq_true rfl) dX0_right_47 (fun H locs hG => ?_)
    refine lv_aload_n hx hb dX0_right_50 rfl (lv_at hl 0 rfl) ?_
    refine co_this_g0 B hK hG.1 dX0_right_51 ?_
    refine co_fen_g1 B hK hG.1 dX0_right_54 ?_
    refine lv_iload_n hx hb dX0_right_57 rfl (lv_at hl 1 rfl) ?_
    obtain ⟨p_9, e_10, hf⟩ := bo hf
    refine co_post_l B hK hG.1 e_10 dX0_right_58 ?_
    obtain ⟨u_11, e_12, hf⟩ := bo hf
    refine po_C2 B hK (cp_P (inL_in e_12) hG.1) dX0_right_59 ?_
    refine lv_iload_n hx hb dX0_right_62 rfl (lv_at hl 3 rfl) ?_
    obtain ⟨r_13, e_14, hf⟩ := bo hf
    refine cC_wayOf B e_14 ⟨Nat.le_of_ble_eq_true rfl, Nat.le_of_ble_eq_true rfl⟩ ⟨Nat.zero_le _, Nat.zero_le _⟩ hl.1 (Nat.le_of_ble_eq_true rfl) dX0_right_63 ?_
    refine lv_icmp_ne (tgt := 73) hx hb dX0_right_66 (by decide) (fun c_15 => ?_) (fun c_15 => ?_)
    · have hf := ifn c_15 hf
      refine lv_iconst (v := 0) hx hb dX0_right_73 (by decide) ?_
      exact wC_right_J74_L30 B hK hf kc ke88 hG (lv_sub hl [0, 1, 3] rfl)
    · have hf := ifp c_15 hf
      refine lv_iconst (v := 1) hx hb dX0_right_69 (by decide) ?_
      refine lv_goto (tgt := 74) hx hb dX0_right_70 (by decide) ?_
      exact wC_right_J74_L30 B hK hf kc ke88 hG (lv_sub hl [0, 1, 3] rfl)

set_option maxHeartbeats 4000000 in
theorem vC_right_L30 (B : CallFix p m c cX0_right 4 s args lw_all RX0) (hK : KK X s) {w : CW} {x1 : Int32} {x2 : Int32} {x3 : Int32} {res : Int32 × CW} (hf : lp (fun q : Int32 × Int32 × CW => fC_right_L30 q.2.2 x1 q.1 q.2.1) (x2, x3, w) = some res) (ke88 : ∀ (y2 : Int32) (w1 : CW), res = (y2, w1) → ∀ (H : Heap) (locs : List Loc), GG X (CP X ca fa w1 ++ rest) s.heap H locs → ∀ (ls : Array Slot), lv_has ls 4 [(2, .int y2)] → W p l e (RMw 7 0 0 150) s m args below meth c H locs 0 0 Q (F0 m 88 ls [])) {H : Heap} {locs : List Loc} (hG : GG X (CP X ca fa w ++ rest) s.heap H locs) {ls : Array Slot} (hl : lv_has ls 4 [(0, .ref (ca 0)), (1, .int x1), (2, .int x2), (3, .int x3)]) : W p l e (RMw 7 0 0 150) s m args below meth c H locs 0 0 Q (F0 m 30 ls []) := by
  refine lp_ind (r := res) (P := fun q : Int32 × Int32 × CW => ∀ (H : Heap) (locs : List Loc) (ls : Array Slot), GG X (CP X ca fa q.2.2 ++ rest) s.heap H locs → lv_has ls 4 [(0, .ref (ca 0)), (1, .int x1), (2, .int q.1), (3, .int q.2.1)] → W p l e (RMw 7 0 0 150) s m args below meth c H locs 0 0 Q (F0 m 30 ls [])) ?_ ?_ _ hf _ _ _ hG hl
  · intro q hb H locs ls hG hl
    exact wC_right_L30 B hK hb (fun _ _ _ h => by cases h) (fun z0 z1 h => ke88 z0 z1 (Sum.inr.inj h)) hG hl
  · intro q q2 hb ih H locs ls hG hl
    exact wC_right_L30 B hK hb (fun z0 z1 z2 h => by cases h; exact fun H locs hG ls hl => ih H locs ls hG hl) (fun _ _ h => by cases h) hG hl

noncomputable def fC_right (w : CW) (x1 : Int32) : Option (Int32 × CW) :=
  (fF_isPost (cfe w) (x1.toInt64)).bind fun r_1 =>
  if r_1 = 0 then
    b2 (fC_no w (-2)) fun r_14 f_11 =>
    (some (f_11)).bind fun w_12 =>
    some (r_14, w_12)
  else
    (fF_next (cfe w) (-1)).bind fun r_4 =>
    (lp (fun q : Int32 × Int32 × CW => fC_right_L30 q.2.2 x1 q.1 q.2.1) (0, r_4, w)).bind (
      fun q_8 => (fun (y_6 : Int32) (w_7 : CW) =>
        some (y_6, w_7)
      ) q_8.1 q_8.2
    )

set_option maxHeartbeats 4000000 in
theorem wC_right (B : CallFix p m c cX0_right 4 s args lw_all RX0) (hK : KK X s) {w : CW} {x1 : Int32} {res : Int32 × CW} (hf : fC_right w x1 = some res) (kr : ∀ (r : Int32) (w1 : CW), res = (r, w1) → ∀ (H : Heap) (locs : List Loc), GG X (CP X ca fa w1 ++ rest) s.heap H locs → ∀ (pc : Nat) (ls : Array Slot), decode cX0_right pc = .ok (.ireturn, 1) → W p l e (RMw 7 0 0 150) s m args below meth c H locs 0 0 Q (F0 m pc ls [.int r])) {H : Heap} {locs : List Loc} (hG : GG X (CP X ca fa w ++ rest) s.heap H locs) {ls : Array Slot} (hl : lv_has ls 4 [(0, .ref (ca 0)), (1, .int x1)]) : W p l e (RMw 7 0 0 150) s m args below meth c H locs 0 0 Q (F0 m 0 ls []) := by
  have hx := B.1
  have hb := B.2.1
  unfold fC_right at hf
  refine lv_aload_n hx hb dX0_right_0 rfl (lv_at hl 0 rfl) ?_
  refine co_this_g0 B hK hG.1 dX0_right_1 ?_
  refine lv_iload_n hx hb dX0_right_4 rfl (lv_at hl 1 rfl) ?_
  refine lv_i2l hx hb dX0_right_5 rfl ?_
  obtain ⟨r_1, e_2, hf⟩ := bo hf
  refine cCF_isPost B hK hG.2.2 hG.1 e_2 ⟨Nat.le_of_ble_eq_true rfl, Nat.le_of_ble_eq_true rfl⟩ ⟨Nat.zero_le _, Nat.zero_le _⟩ hl.1 (Nat.le_of_ble_eq_true rfl) dX0_right_6 ?_
  refine lv_if_ne (tgt := 19) hx hb dX0_right_9 (by decide) (fun c_3 => ?_) (fun c_3 => ?_)
  · have hf := ifn c_3 hf
    refine lv_iconst (v := 0) hx hb dX0_right_19 (by decide) ?_
    refine lv_istore_n (lv' := [(2, .int 0), (0, .ref (ca 0)), (1, .int x1)]) hx hb dX0_right_20 rfl hl (by decide) rfl (fun ls hl => ?_)
    refine lv_aload_n hx hb dX0_right_21 rfl (lv_at hl 1 rfl) ?_
    refine co_this_g0 B hK hG.1 dX0_right_22 ?_
    refine lv_iconst (v := (-1)) hx hb dX0_right_25 (by decide) ?_
    obtain ⟨r_4, e_5, hf⟩ := bo hf
    refine cCF_next B hK hG.2.2 hG.1 e_5 ⟨Nat.le_of_ble_eq_true rfl, Nat.le_of_ble_eq_true rfl⟩ ⟨Nat.zero_le _, Nat.zero_le _⟩ hl.1 (Nat.le_of_ble_eq_true rfl) dX0_right_26 ?_
    refine lv_istore_n (lv' := [(3, .int r_4), (2, .int 0), (0, .ref (ca 0)), (1, .int x1)]) hx hb dX0_right_29 rfl hl (by decide) rfl (fun ls hl => ?_)
    obtain ⟨⟨y_6, w_7⟩, e_9, hf⟩ := bo hf
    try dsimp only at hf
    refine vC_right_L30 B hK e_9 ?_ hG (lv_sub hl [2, 3, 1, 0] rfl)
    intro z0 z1 hz
    cases hz
    intro H locs hG ls hl
    refine lv_iload_n hx hb dX0_right_88 rfl (lv_at hl 0 rfl) ?_
    exact kr _ _ (Option.some.inj hf).symm _ _ hG _ _ dX0_right_89
  · have hf := ifp c_3 hf
    refine lv_aload_n hx hb dX0_right_12 rfl (lv_at hl 0 rfl) ?_
    refine lv_bipush (v := (-2)) hx hb dX0_right_13 (by decide) ?_
    obtain ⟨r_14, f_11, e_10, hf⟩ := b2s hf
    obtain ⟨w_12, e_13, hf⟩ := bo hf
    refine cC_no B hK hG e_10 e_13 ⟨Nat.le_of_ble_eq_true rfl, Nat.le_of_ble_eq_true rfl⟩ ⟨Nat.zero_le _, Nat.zero_le _⟩ hl.1 (Nat.le_of_ble_eq_true rfl) dX0_right_15 (fun H locs hG => ?_)
    exact kr _ _ (Option.some.inj hf).symm _ _ hG _ _ dX0_right_18

theorem tC_right (l : Launch) (X : CX) (ca fa : Nat → Nat) (rest : va_W) (w w' : CW) (x1 : Int32) (r : Int32) (hf : fC_right w x1 = some (r, w')) : RW l yX0_right cX0_right 4 (some .int) 7 0 0 150 [.ref (ca 0), .int x1] X (CP X ca fa w ++ rest) (CP X ca fa (w') ++ rest) (some (.int r)) := by
  refine RW.mk (by decide) (Nat.le_of_ble_eq_true rfl) ?_
  intro p e s m below meth c B hr hlk hK hG ls hl
  exact wC_right B hK hf (fun r w h H locs hG pc ls hd => by cases h; exact w_iretW B hr hlk hG hd) hG hl
end S_C_right

section K_cC_armOf
variable {p : Program} {l : Launch} {e : Env} {R : Room} {s : State} {m : MethodId} {args : Array Value} {below : List Frame} {meth : Method} {c : Code} {H : Heap} {locs : List Loc} {cells slots : Nat} {Q : State → Prop} {cc : ByteArray} {nL pc : Nat} {ls : Array Slot} {st : List Value} {X : CX} {rest : va_W} {ca fa : Nat → Nat}
theorem cC_armOf (B : CallFix p m c cc nL s args lw_all RX0) (hK : KK X s) {w : CW} (hG : GG X (CP X ca fa w ++ rest) s.heap H locs) {x1 : PV} {r : Int32} {f1 : CW} {w' : CW} (hf : fC_armOf w x1 = some (r, f1)) (hw : some (f1) = some w') (hR : 6 + 1 ≤ R.frames ∧ 149 ≤ R.locals) (hcs : cells ≤ R.cells ∧ slots ≤ R.slots) (hl : ls.size = nL) (hcat : (st.map fun v => v.category).sum ≤ 8) (hdg : decode cc pc = .ok (.invokevirtual 161, 3)) (kk : ∀ (H1 : Heap) (locs1 : List Loc), GG X (CP X ca fa (w') ++ rest) s.heap H1 locs1 → W p l e R s m args below meth c H1 locs1 cells slots Q (F0 m (pc + 3) ls (.int r :: st))) : W p l e R s m args below meth c H locs cells slots Q (F0 m pc ls (.ref x1.1 :: .ref (ca 0) :: st)) := by
  cases hw
  exact w_afterW (w_rV_RW (ws := CP X ca fa w ++ rest) (As := [.ref x1.1]) B hK hG (tC_armOf l X ca fa rest w f1 x1 r hf) (lw_V q504 q506 qs4 q87 q507) 8 rfl rfl (n := 1) (by decide +kernel) hR hcs rfl hl rfl hcat hdg) hG.2.2 kk
end K_cC_armOf

section S_C_pointing
variable {p : Program} {l : Launch} {e : Env} {R : Room} {s : State} {m : MethodId} {args : Array Value} {below : List Frame} {meth : Method} {c : Code} {H : Heap} {locs : List Loc} {cells slots : Nat} {Q : State → Prop} {cc : ByteArray} {nL pc : Nat} {ls : Array Slot} {st : List Value} {X : CX} {rest : va_W} {ca fa : Nat → Nat}
noncomputable def fC_pointing_J81_L22 (w : CW) (x1 : Int32) (x3 : Int32) (t0 : Int32) (t1 : Int32) : Option ((Int32 × Int32 × CW) ⊕ (Int32 × CW)) :=
  (some (t0 ||| t1)).bind fun x_1 =>
  (some (x3 + 1)).bind fun x_3 =>
  some (.inl (x_1, x_3, w))

set_option maxHeartbeats 4000000 in
theorem wC_pointing_J81_L22 (B : CallFix p m c cX0_pointing 4 s args lw_all RX0) (hK : KK X s) {w : CW} {x1 : Int32} {x3 : Int32} {t0 : Int32} {t1 : Int32} {res : (Int32 × Int32 × CW) ⊕ (Int32 × CW)} (hf : fC_pointing_J81_L22 w x1 x3 t0 t1 = some res) (kc : ∀ (y2 : Int32) (y3 : Int32) (w1 : CW), res = .inl (y2, y3, w1) → ∀ (H : Heap) (locs : List Loc), GG X (CP X ca fa w1 ++ rest) s.heap H locs → ∀ (ls : Array Slot), lv_has ls 4 [(0, .ref (ca 0)), (1, .int x1), (2, .int y2), (3, .int y3)] → W p l e (RMw 7 0 0 149) s m args below meth c H locs 0 0 Q (F0 m 22 ls [])) (ke89 : ∀ (y2 : Int32) (w1 : CW), res = .inr (y2, w1) → ∀ (H : Heap) (locs : List Loc), GG X (CP X ca fa w1 ++ rest) s.heap H locs → ∀ (ls : Array Slot), lv_has ls 4 [(2, .int y2)] → W p l e (RMw 7 0 0 149) s m args below meth c H locs 0 0 Q (F0 m 89 ls [])) {H : Heap} {locs : List Loc} (hG : GG X (CP X ca fa w ++ rest) s.heap H locs) {ls : Array Slot} (hl : lv_has ls 4 [(0, .ref (ca 0)), (1, .int x1), (3, .int x3)]) : W p l e (RMw 7 0 0 149) s m args below meth c H locs 0 0 Q (F0 m 81 ls [.int t1, .int t0]) := by
  have hx := B.1
  have hb := B.2.1
  unfold fC_pointing_J81_L22 at hf
  refine lv_ior hx hb dX0_pointing_81 ?_
  obtain ⟨x_1, e_2, hf⟩ := bo hf
  refine w_istore_n (lv' := [(2, .int x_1), (0, .ref (ca 0)), (1, .int x1), (3, .int x3)]) e_2 hx hb dX0_pointing_82 rfl hl (by decide) rfl (fun ls hl => ?_)
  obtain ⟨x_3, e_4, hf⟩ := bo hf
  refine w_iinc (k := 3) (lv' := [(3, .int x_3), (2, .int x_1), (0, .ref (ca 0)), (1, .int x1)]) e_4 hx hb dX0_pointing_83 hl rfl (by decide) rfl (fun ls hl => ?_)
  refine lv_goto (tgt := 22) hx hb dX0_pointing_86 (by decide) ?_
  exact kc _ _ _ (Option.some.inj hf).symm _ _ hG _ (lv_sub hl [2, 3, 1, 0] rfl)

noncomputable def fC_pointing_L22 (w : CW) (x1 : Int32) (x2 : Int32) (x3 : Int32) : Option ((Int32 × Int32 × CW) ⊕ (Int32 × CW)) :=
  if ((cfe w).1 8) ≤ x3 then
    some (.inr (x2, w))
  else
    (rdP (cfe w).2.2 8 x3).bind fun p_2 =>
    b2 (fC_armOf w p_2) fun r_8 f_5 =>
    (some (f_5)).bind fun w_6 =>
    (rdP (cfe w_6).2.2 8 x3).bind fun p_9 =>
    (inL (cpl w_6) p_9).bind fun u_11 =>
    (rd ((cfe w_6).2.1 2) 4 x1).bind fun v_13 =>
    (fC_wayOf p_9.2.2.2.2 v_13).bind fun r_15 =>
    if r_8 = r_15 then
      fC_pointing_J81_L22 w_6 x1 x3 x2 (ishl 1 x3)
    else
      fC_pointing_J81_L22 w_6 x1 x3 x2 0

set_option maxHeartbeats 4000000 in
theorem wC_pointing_L22 (B : CallFix p m c cX0_pointing 4 s args lw_all RX0) (hK : KK X s) {w : CW} {x1 : Int32} {x2 : Int32} {x3 : Int32} {res : (Int32 × Int32 × CW) ⊕ (Int32 × CW)} (hf : fC_pointing_L22 w x1 x2 x3 = some res) (kc : ∀ (y2 : Int32) (y3 : Int32) (w1 : CW), res = .inl (y2, y3, w1) → ∀ (H : Heap) (locs : List Loc), GG X (CP X ca fa w1 ++ rest) s.heap H locs → ∀ (ls : Array Slot), lv_has ls 4 [(0, .ref (ca 0)), (1, .int x1), (2, .int y2), (3, .int y3)] → W p l e (RMw 7 0 0 149) s m args below meth c H locs 0 0 Q (F0 m 22 ls [])) (ke89 : ∀ (y2 : Int32) (w1 : CW), res = .inr (y2, w1) → ∀ (H : Heap) (locs : List Loc), GG X (CP X ca fa w1 ++ rest) s.heap H locs → ∀ (ls : Array Slot), lv_has ls 4 [(2, .int y2)] → W p l e (RMw 7 0 0 149) s m args below meth c H locs 0 0 Q (F0 m 89 ls [])) {H : Heap} {locs : List Loc} (hG : GG X (CP X ca fa w ++ rest) s.heap H locs) {ls : Array Slot} (hl : lv_has ls 4 [(0, .ref (ca 0)), (1, .int x1), (2, .int x2), (3, .int x3)]) : W p l e (RMw 7 0 0 149) s m args below meth c H locs 0 0 Q (F0 m 22 ls []) := by
  have hx := B.1
  have hb := B.2.1
  unfold fC_pointing_L22 at hf
  refine lv_iload_n hx hb dX0_pointing_22 rfl (lv_at hl 3 rfl) ?_
  refine lv_aload_n hx hb dX0_pointing_23 rfl (lv_at hl 0 rfl) ?_
  refine co_this_g0 B hK hG.1 dX0_pointing_24 ?_
  refine co_fen_g8 B hK hG.1 dX0_pointing_27 ?_
  refine lv_icmp_ge (tgt := 89) hx hb dX0_pointing_30 (by decide) (fun c_1 => ?_) (fun c_1 => ?_)
  · have hf := ifp c_1 hf
    exact ke89 _ _ (Option.some.inj hf).symm _ _ hG _ (lv_sub hl [2] rfl)
  · have hf := ifn c_1 hf
    refine lv_iload_n hx hb dX0_pointing_33 rfl (lv_at hl 2 rfl) ?_
    refine lv_aload_n hx hb dX0_pointing_34 rfl (lv_at hl 0 rfl) ?_
    refine lv_aload_n hx hb dX0_pointing_35 rfl (lv_at hl 0 rfl) ?_
    refine co_this_g0 B hK hG.1 dX0_pointing_36 ?_
    refine co_fen_g1 B hK hG.1 dX0_pointing_39 ?_
    refine lv_iload_n hx hb dX0_pointing_42 rfl (lv_at hl 3 rfl) ?_
    obtain ⟨p_2, e_3, hf⟩ := bo hf
    refine co_post_l B hK hG.1 e_3 dX0_pointing_43 ?_
    obtain ⟨r_8, f_5, e_4, hf⟩ := b2s hf
    obtain ⟨w_6, e_7, hf⟩ := bo hf
    refine cC_armOf B hK hG e_4 e_7 ⟨Nat.le_of_ble_eq_true rfl, Nat.le_of_ble_eq_true rfl⟩ ⟨Nat.zero_le _, Nat.zero_le _⟩ hl.1 (Nat.le_of_ble_eq_true rfl) dX0_pointing_44 (fun H locs hG => ?_)
    refine lv_aload_n hx hb dX0_pointing_47 rfl (lv_at hl 0 rfl) ?_
    refine co_this_g0 B hK hG.1 dX0_pointing_48 ?_
    refine co_fen_g1 B hK hG.1 dX0_pointing_51 ?_
    refine lv_iload_n hx hb dX0_pointing_54 rfl (lv_at hl 3 rfl) ?_
    obtain ⟨p_9, e_10, hf⟩ := bo hf
    refine co_post_l B hK hG.1 e_10 dX0_pointing_55 ?_
    obtain ⟨u_11, e_12, hf⟩ := bo hf
    refine po_C2 B hK (cp_P (inL_in e_12) hG.1) dX0_pointing_56 ?_
    refine lv_aload_n hx hb dX0_pointing_59 rfl (lv_at hl 0 rfl) ?_
    refine co_this_g0 B hK hG.1 dX0_pointing_60 ?_
    refine co_fen_g2 B hK hG.1 dX0_pointing_63 ?_
    refine lv_iload_n hx hb dX0_pointing_66 rfl (lv_at hl 1 rfl) ?_
    obtain ⟨v_13, e_14, hf⟩ := bo hf
    refine co_cell_l B hK hG.1 e_14 dX0_pointing_67 ?_
    obtain ⟨r_15, e_16, hf⟩ := bo hf
    refine cC_wayOf B e_16 ⟨Nat.le_of_ble_eq_true rfl, Nat.le_of_ble_eq_true rfl⟩ ⟨Nat.zero_le _, Nat.zero_le _⟩ hl.1 (Nat.le_of_ble_eq_true rfl) dX0_pointing_68 ?_
    refine lv_icmp_ne (tgt := 80) hx hb dX0_pointing_71 (by decide) (fun c_17 => ?_) (fun c_17 => ?_)
    · have hf := ifn c_17 hf
      refine lv_iconst (v := 0) hx hb dX0_pointing_80 (by decide) ?_
      exact wC_pointing_J81_L22 B hK hf kc ke89 hG (lv_sub hl [0, 1, 3] rfl)
    · have hf := ifp c_17 hf
      refine lv_iconst (v := 1) hx hb dX0_pointing_74 (by decide) ?_
      refine lv_iload_n hx hb dX0_pointing_75 rfl (lv_at hl 3 rfl) ?_
      refine w_ishl hx hb dX0_pointing_76 ?_
      refine lv_goto (tgt := 81) hx hb dX0_pointing_77 (by decide) ?_
      exact wC_pointing_J81_L22 B hK hf kc ke89 hG (lv_sub hl [0, 1, 3] rfl)

set_option maxHeartbeats 4000000 in
theorem vC_pointing_L22 (B : CallFix p m c cX0_pointing 4 s args lw_all RX0) (hK : KK X s) {w : CW} {x1 : Int32} {x2 : Int32} {x3 : Int32} {res : Int32 × CW} (hf : lp (fun q : Int32 × Int32 × CW => fC_pointing_L22 q.2.2 x1 q.1 q.2.1) (x2, x3, w) = some res) (ke89 : ∀ (y2 : Int32) (w1 : CW), res = (y2, w1) → ∀ (H : Heap) (locs : List Loc), GG X (CP X ca fa w1 ++ rest) s.heap H locs → ∀ (ls : Array Slot), lv_has ls 4 [(2, .int y2)] → W p l e (RMw 7 0 0 149) s m args below meth c H locs 0 0 Q (F0 m 89 ls [])) {H : Heap} {locs : List Loc} (hG : GG X (CP X ca fa w ++ rest) s.heap H locs) {ls : Array Slot} (hl : lv_has ls 4 [(0, .ref (ca 0)), (1, .int x1), (2, .int x2), (3, .int x3)]) : W p l e (RMw 7 0 0 149) s m args below meth c H locs 0 0 Q (F0 m 22 ls []) := by
  refine lp_ind (r := res) (P := fun q : Int32 × Int32 × CW => ∀ (H : Heap) (locs : List Loc) (ls : Array Slot), GG X (CP X ca fa q.2.2 ++ rest) s.heap H locs → lv_has ls 4 [(0, .ref (ca 0)), (1, .int x1), (2, .int q.1), (3, .int q.2.1)] → W p l e (RMw 7 0 0 149) s m args below meth c H locs 0 0 Q (F0 m 22 ls [])) ?_ ?_ _ hf _ _ _ hG hl
  · intro q hb H locs ls hG hl
    exact wC_pointing_L22 B hK hb (fun _ _ _ h => by cases h) (fun z0 z1 h => ke89 z0 z1 (Sum.inr.inj h)) hG hl
  · intro q q2 hb ih H locs ls hG hl
    exact wC_pointing_L22 B hK hb (fun z0 z1 z2 h => by cases h; exact fun H locs hG ls hl => ih H locs ls hG hl) (fun _ _ h => by cases h) hG hl

noncomputable def fC_pointing (w : CW) (x1 : Int32) : Option (Int32 × CW) :=
  (fF_isWalker (cfe w) x1).bind fun r_1 =>
  if r_1 = 0 then
    b2 (fC_no w (-2)) fun r_12 f_9 =>
    (some (f_9)).bind fun w_10 =>
    some (r_12, w_10)
  else
    (lp (fun q : Int32 × Int32 × CW => fC_pointing_L22 q.2.2 x1 q.1 q.2.1) (0, 0, w)).bind (
      fun q_6 => (fun (y_4 : Int32) (w_5 : CW) =>
        some (y_4, w_5)
      ) q_6.1 q_6.2
    )

set_option maxHeartbeats 4000000 in
theorem wC_pointing (B : CallFix p m c cX0_pointing 4 s args lw_all RX0) (hK : KK X s) {w : CW} {x1 : Int32} {res : Int32 × CW} (hf : fC_pointing w x1 = some res) (kr : ∀ (r : Int32) (w1 : CW), res = (r, w1) → ∀ (H : Heap) (locs : List Loc), GG X (CP X ca fa w1 ++ rest) s.heap H locs → ∀ (pc : Nat) (ls : Array Slot), decode cX0_pointing pc = .ok (.ireturn, 1) → W p l e (RMw 7 0 0 149) s m args below meth c H locs 0 0 Q (F0 m pc ls [.int r])) {H : Heap} {locs : List Loc} (hG : GG X (CP X ca fa w ++ rest) s.heap H locs) {ls : Array Slot} (hl : lv_has ls 4 [(0, .ref (ca 0)), (1, .int x1)]) : W p l e (RMw 7 0 0 149) s m args below meth c H locs 0 0 Q (F0 m 0 ls []) := by
  have hx := B.1
  have hb := B.2.1
  unfold fC_pointing at hf
  refine lv_aload_n hx hb dX0_pointing_0 rfl (lv_at hl 0 rfl) ?_
  refine co_this_g0 B hK hG.1 dX0_pointing_1 ?_
  refine lv_iload_n hx hb dX0_pointing_4 rfl (lv_at hl 1 rfl) ?_
  obtain ⟨r_1, e_2, hf⟩ := bo hf
  refine cCF_isWalker B hK hG.2.2 hG.1 e_2 ⟨Nat.le_of_ble_eq_true rfl, Nat.le_of_ble_eq_true rfl⟩ ⟨Nat.zero_le _, Nat.zero_le _⟩ hl.1 (Nat.le_of_ble_eq_true rfl) dX0_pointing_5 ?_
  refine lv_if_ne (tgt := 18) hx hb dX0_pointing_8 (by decide) (fun c_3 => ?_) (fun c_3 => ?_)
  · have hf := ifn c_3 hf
    refine lv_iconst (v := 0) hx hb dX0_pointing_18 (by decide) ?_
    refine lv_istore_n (lv' := [(2, .int 0), (0, .ref (ca 0)), (1, .int x1)]) hx hb dX0_pointing_19 rfl hl (by decide) rfl (fun ls hl => ?_)
    refine lv_iconst (v := 0) hx hb dX0_pointing_20 (by decide) ?_
    refine lv_istore_n (lv' := [(3, .int 0), (2, .int 0), (0, .ref (ca 0)), (1, .int x1)]) hx hb dX0_pointing_21 rfl hl (by decide) rfl (fun ls hl => ?_)
    obtain ⟨⟨y_4, w_5⟩, e_7, hf⟩ := bo hf
    try dsimp only at hf
    refine vC_pointing_L22 B hK e_7 ?_ hG (lv_sub hl [2, 3, 1, 0] rfl)
    intro z0 z1 hz
    cases hz
    intro H locs hG ls hl
    refine lv_iload_n hx hb dX0_pointing_89 rfl (lv_at hl 0 rfl) ?_
    exact kr _ _ (Option.some.inj hf).symm _ _ hG _ _ dX0_pointing_90
  · have hf := ifp c_3 hf
    refine lv_aload_n hx hb dX0_pointing_11 rfl (lv_at hl 0 rfl) ?_
    refine lv_bipush (v := (-2)) hx hb dX0_pointing_12 (by decide) ?_
    obtain ⟨r_12, f_9, e_8, hf⟩ := b2s hf
    obtain ⟨w_10, e_11, hf⟩ := bo hf
    refine cC_no B hK hG e_8 e_11 ⟨Nat.le_of_ble_eq_true rfl, Nat.le_of_ble_eq_true rfl⟩ ⟨Nat.zero_le _, Nat.zero_le _⟩ hl.1 (Nat.le_of_ble_eq_true rfl) dX0_pointing_14 (fun H locs hG => ?_)
    exact kr _ _ (Option.some.inj hf).symm _ _ hG _ _ dX0_pointing_17

theorem tC_pointing (l : Launch) (X : CX) (ca fa : Nat → Nat) (rest : va_W) (w w' : CW) (x1 : Int32) (r : Int32) (hf : fC_pointing w x1 = some (r, w')) : RW l yX0_pointing cX0_pointing 4 (some .int) 7 0 0 149 [.ref (ca 0), .int x1] X (CP X ca fa w ++ rest) (CP X ca fa (w') ++ rest) (some (.int r)) := by
  refine RW.mk (by decide) (Nat.le_of_ble_eq_true rfl) ?_
  intro p e s m below meth c B hr hlk hK hG ls hl
  exact wC_pointing B hK hf (fun r w h H locs hG pc ls hd => by cases h; exact w_iretW B hr hlk hG hd) hG hl
end S_C_pointing

section S_C_trembling
variable {p : Program} {l : Launch} {e : Env} {R : Room} {s : State} {m : MethodId} {args : Array Value} {below : List Frame} {meth : Method} {c : Code} {H : Heap} {locs : List Loc} {cells slots : Nat} {Q : State → Prop} {cc : ByteArray} {nL pc : Nat} {ls : Array Slot} {st : List Value} {X : CX} {rest : va_W} {ca fa : Nat → Nat}
noncomputable def fC_trembling_J40_L4 (w : CW) (x2 : Int32) (t0 : Int32) (t1 : Int32) : Option ((Int32 × Int32 × CW) ⊕ (Int32 × CW)) :=
  (some (t0 ||| t1)).bind fun x_1 =>
  (some (x2 + 1)).bind fun x_3 =>
  some (.inl (x_1, x_3, w))

set_option maxHeartbeats 4000000 in
theorem wC_trembling_J40_L4 (B : CallFix p m c cX0_trembling 3 s args lw_all RX0) (hK : KK X s) {w : CW} {x2 : Int32} {t0 : Int32} {t1 : Int32} {res : (Int32 × Int32 × CW) ⊕ (Int32 × CW)} (hf : fC_trembling_J40_L4 w x2 t0 t1 = some res) (kc : ∀ (y1 : Int32) (y2 : Int32) (w1 : CW), res = .inl (y1, y2, w1) → ∀ (H : Heap) (locs : List Loc), GG X (CP X ca fa w1 ++ rest) s.heap H locs → ∀ (ls : Array Slot), lv_has ls 3 [(0, .ref (ca 0)), (1, .int y1), (2, .int y2)] → W p l e (RMw 7 0 0 149) s m args below meth c H locs 0 0 Q (F0 m 4 ls [])) (ke48 : ∀ (y1 : Int32) (w1 : CW), res = .inr (y1, w1) → ∀ (H : Heap) (locs : List Loc), GG X (CP X ca fa w1 ++ rest) s.heap H locs → ∀ (ls : Array Slot), lv_has ls 3 [(1, .int y1)] → W p l e (RMw 7 0 0 149) s m args below meth c H locs 0 0 Q (F0 m 48 ls [])) {H : Heap} {locs : List Loc} (hG : GG X (CP X ca fa w ++ rest) s.heap H locs) {ls : Array Slot} (hl : lv_has ls 3 [(0, .ref (ca 0)), (2, .int x2)]) : W p l e (RMw 7 0 0 149) s m args below meth c H locs 0 0 Q (F0 m 40 ls [.int t1, .int t0]) := by
  have hx := B.1
  have hb := B.2.1
  unfold fC_trembling_J40_L4 at hf
  refine lv_ior hx hb dX0_trembling_40 ?_
  obtain ⟨x_1, e_2, hf⟩ := bo hf
  refine w_istore_n (lv' := [(1, .int x_1), (0, .ref (ca 0)), (2, .int x2)]) e_2 hx hb dX0_trembling_41 rfl hl (by decide) rfl (fun ls hl => ?_)
  obtain ⟨x_3, e_4, hf⟩ := bo hf
  refine w_iinc (k := 2) (lv' := [(2, .int x_3), (1, .int x_1), (0, .ref (ca 0))]) e_4 hx hb dX0_trembling_42 hl rfl (by decide) rfl (fun ls hl => ?_)
  refine lv_goto (tgt := 4) hx hb dX0_trembling_45 (by decide) ?_
  exact kc _ _ _ (Option.some.inj hf).symm _ _ hG _ (lv_sub hl [2, 1, 0] rfl)

noncomputable def fC_trembling_L4 (w : CW) (x1 : Int32) (x2 : Int32) : Option ((Int32 × Int32 × CW) ⊕ (Int32 × CW)) :=
  if ((cfe w).1 8) ≤ x2 then
    some (.inr (x1, w))
  else
    (rdP (cfe w).2.2 8 x2).bind fun p_2 =>
    b2 (fC_armOf w p_2) fun r_8 f_5 =>
    (some (f_5)).bind fun w_6 =>
    if r_8 = (-1) then
      fC_trembling_J40_L4 w_6 x2 x1 (ishl 1 x2)
    else
      fC_trembling_J40_L4 w_6 x2 x1 0

set_option maxHeartbeats 4000000 in
theorem wC_trembling_L4 (B : CallFix p m c cX0_trembling 3 s args lw_all RX0) (hK : KK X s) {w : CW} {x1 : Int32} {x2 : Int32} {res : (Int32 × Int32 × CW) ⊕ (Int32 × CW)} (hf : fC_trembling_L4 w x1 x2 = some res) (kc : ∀ (y1 : Int32) (y2 : Int32) (w1 : CW), res = .inl (y1, y2, w1) → ∀ (H : Heap) (locs : List Loc), GG X (CP X ca fa w1 ++ rest) s.heap H locs → ∀ (ls : Array Slot), lv_has ls 3 [(0, .ref (ca 0)), (1, .int y1), (2, .int y2)] → W p l e (RMw 7 0 0 149) s m args below meth c H locs 0 0 Q (F0 m 4 ls [])) (ke48 : ∀ (y1 : Int32) (w1 : CW), res = .inr (y1, w1) → ∀ (H : Heap) (locs : List Loc), GG X (CP X ca fa w1 ++ rest) s.heap H locs → ∀ (ls : Array Slot), lv_has ls 3 [(1, .int y1)] → W p l e (RMw 7 0 0 149) s m args below meth c H locs 0 0 Q (F0 m 48 ls [])) {H : Heap} {locs : List Loc} (hG : GG X (CP X ca fa w ++ rest) s.heap H locs) {ls : Array Slot} (hl : lv_has ls 3 [(0, .ref (ca 0)), (1, .int x1), (2, .int x2)]) : W p l e (RMw 7 0 0 149) s m args below meth c H locs 0 0 Q (F0 m 4 ls []) := by
  have hx := B.1
  have hb := B.2.1
  unfold fC_trembling_L4 at hf
  refine lv_iload_n hx hb dX0_trembling_4 rfl (lv_at hl 2 rfl) ?_
  refine lv_aload_n hx hb dX0_trembling_5 rfl (lv_at hl 0 rfl) ?_
  refine co_this_g0 B hK hG.1 dX0_trembling_6 ?_
  refine co_fen_g8 B hK hG.1 dX0_trembling_9 ?_
  refine lv_icmp_ge (tgt := 48) hx hb dX0_trembling_12 (by decide) (fun c_1 => ?_) (fun c_1 => ?_)
  · have hf := ifp c_1 hf
    exact ke48 _ _ (Option.some.inj hf).symm _ _ hG _ (lv_sub hl [1] rfl)
  · have hf := ifn c_1 hf
    refine lv_iload_n hx hb dX0_trembling_15 rfl (lv_at hl 1 rfl) ?_
    refine lv_aload_n hx hb dX0_trembling_16 rfl (lv_at hl 0 rfl) ?_
    refine lv_aload_n hx hb dX0_trembling_17 rfl (lv_at hl 0 rfl) ?_
    refine co_this_g0 B hK hG.1 dX0_trembling_18 ?_
    refine co_fen_g1 B hK hG.1 dX0_trembling_21 ?_
    refine lv_iload_n hx hb dX0_trembling_24 rfl (lv_at hl 2 rfl) ?_
    obtain ⟨p_2, e_3, hf⟩ := bo hf
    refine co_post_l B hK hG.1 e_3 dX0_trembling_25 ?_
    obtain ⟨r_8, f_5, e_4, hf⟩ := b2s hf
    obtain ⟨w_6, e_7, hf⟩ := bo hf
    refine cC_armOf B hK hG e_4 e_7 ⟨Nat.le_of_ble_eq_true rfl, Nat.le_of_ble_eq_true rfl⟩ ⟨Nat.zero_le _, Nat.zero_le _⟩ hl.1 (Nat.le_of_ble_eq_true rfl) dX0_trembling_26 (fun H locs hG => ?_)
    refine lv_iconst (v := (-1)) hx hb dX0_trembling_29 (by decide) ?_
    refine lv_icmp_ne (tgt := 39) hx hb dX0_trembling_30 (by decide) (fun c_9 => ?_) (fun c_9 => ?_)
    · have hf := ifn c_9 hf
      refine lv_iconst (v := 0) hx hb dX0_trembling_39 (by decide) ?_
      exact wC_trembling_J40_L4 B hK hf kc ke48 hG (lv_sub hl [0, 2] rfl)
    · have hf := ifp c_9 hf
      refine lv_iconst (v := 1) hx hb dX0_trembling_33 (by decide) ?_
      refine lv_iload_n hx hb dX0_trembling_34 rfl (lv_at hl 2 rfl) ?_
      refine w_ishl hx hb dX0_trembling_35 ?_
      refine lv_goto (tgt := 40) hx hb dX0_trembling_36 (by decide) ?_
      exact wC_trembling_J40_L4 B hK hf kc ke48 hG (lv_sub hl [0, 2] rfl)

set_option maxHeartbeats 4000000 in
theorem vC_trembling_L4 (B : CallFix p m c cX0_trembling 3 s args lw_all RX0) (hK : KK X s) {w : CW} {x1 : Int32} {x2 : Int32} {res : Int32 × CW} (hf : lp (fun q : Int32 × Int32 × CW => fC_trembling_L4 q.2.2 q.1 q.2.1) (x1, x2, w) = some res) (ke48 : ∀ (y1 : Int32) (w1 : CW), res = (y1, w1) → ∀ (H : Heap) (locs : List Loc), GG X (CP X ca fa w1 ++ rest) s.heap H locs → ∀ (ls : Array Slot), lv_has ls 3 [(1, .int y1)] → W p l e (RMw 7 0 0 149) s m args below meth c H locs 0 0 Q (F0 m 48 ls [])) {H : Heap} {locs : List Loc} (hG : GG X (CP X ca fa w ++ rest) s.heap H locs) {ls : Array Slot} (hl : lv_has ls 3 [(0, .ref (ca 0)), (1, .int x1), (2, .int x2)]) : W p l e (RMw 7 0 0 149) s m args below meth c H locs 0 0 Q (F0 m 4 ls []) := by
  refine lp_ind (r := res) (P := fun q : Int32 × Int32 × CW => ∀ (H : Heap) (locs : List Loc) (ls : Array Slot), GG X (CP X ca fa q.2.2 ++ rest) s.heap H locs → lv_has ls 3 [(0, .ref (ca 0)), (1, .int q.1), (2, .int q.2.1)] → W p l e (RMw 7 0 0 149) s m args below meth c H locs 0 0 Q (F0 m 4 ls [])) ?_ ?_ _ hf _ _ _ hG hl
  · intro q hb H locs ls hG hl
    exact wC_trembling_L4 B hK hb (fun _ _ _ h => by cases h) (fun z0 z1 h => ke48 z0 z1 (Sum.inr.inj h)) hG hl
  · intro q q2 hb ih H locs ls hG hl
    exact wC_trembling_L4 B hK hb (fun z0 z1 z2 h => by cases h; exact fun H locs hG ls hl => ih H locs ls hG hl) (fun _ _ h => by cases h) hG hl

noncomputable def fC_trembling (w : CW)  : Option (Int32 × CW) :=
  (lp (fun q : Int32 × Int32 × CW => fC_trembling_L4 q.2.2 q.1 q.2.1) (0, 0, w)).bind (
    fun q_3 => (fun (y_1 : Int32) (w_2 : CW) =>
      some (y_1, w_2)
    ) q_3.1 q_3.2
  )

set_option maxHeartbeats 4000000 in
theorem wC_trembling (B : CallFix p m c cX0_trembling 3 s args lw_all RX0) (hK : KK X s) {w : CW}  {res : Int32 × CW} (hf : fC_trembling w  = some res) (kr : ∀ (r : Int32) (w1 : CW), res = (r, w1) → ∀ (H : Heap) (locs : List Loc), GG X (CP X ca fa w1 ++ rest) s.heap H locs → ∀ (pc : Nat) (ls : Array Slot), decode cX0_trembling pc = .ok (.ireturn, 1) → W p l e (RMw 7 0 0 149) s m args below meth c H locs 0 0 Q (F0 m pc ls [.int r])) {H : Heap} {locs : List Loc} (hG : GG X (CP X ca fa w ++ rest) s.heap H locs) {ls : Array Slot} (hl : lv_has ls 3 [(0, .ref (ca 0))]) : W p l e (RMw 7 0 0 149) s m args below meth c H locs 0 0 Q (F0 m 0 ls []) := by
  have hx := B.1
  have hb := B.2.1
  unfold fC_trembling at hf
  refine lv_iconst (v := 0) hx hb dX0_trembling_0 (by decide) ?_
  refine lv_istore_n (lv' := [(1, .int 0), (0, .ref (ca 0))]) hx hb dX0_trembling_1 rfl hl (by decide) rfl (fun ls hl => ?_)
  refine lv_iconst (v := 0) hx hb dX0_trembling_2 (by decide) ?_
  refine lv_istore_n (lv' := [(2, .int 0), (1, .int 0), (0, .ref (ca 0))]) hx hb dX0_trembling_3 rfl hl (by decide) rfl (fun ls hl => ?_)
  obtain ⟨⟨y_1, w_2⟩, e_4, hf⟩ := bo hf
  try dsimp only at hf
  refine vC_trembling_L4 B hK e_4 ?_ hG (lv_sub hl [2, 1, 0] rfl)
  intro z0 z1 hz
  cases hz
  intro H locs hG ls hl
  refine lv_iload_n hx hb dX0_trembling_48 rfl (lv_at hl 0 rfl) ?_
  exact kr _ _ (Option.some.inj hf).symm _ _ hG _ _ dX0_trembling_49

theorem tC_trembling (l : Launch) (X : CX) (ca fa : Nat → Nat) (rest : va_W) (w w' : CW)  (r : Int32) (hf : fC_trembling w  = some (r, w')) : RW l yX0_trembling cX0_trembling 3 (some .int) 7 0 0 149 [.ref (ca 0)] X (CP X ca fa w ++ rest) (CP X ca fa (w') ++ rest) (some (.int r)) := by
  refine RW.mk (by decide) (Nat.le_of_ble_eq_true rfl) ?_
  intro p e s m below meth c B hr hlk hK hG ls hl
  exact wC_trembling B hK hf (fun r w h H locs hG pc ls hd => by cases h; exact w_iretW B hr hlk hG hd) hG hl
end S_C_trembling

section S_C_allPosts
variable {p : Program} {l : Launch} {e : Env} {R : Room} {s : State} {m : MethodId} {args : Array Value} {below : List Frame} {meth : Method} {c : Code} {H : Heap} {locs : List Loc} {cells slots : Nat} {Q : State → Prop} {cc : ByteArray} {nL pc : Nat} {ls : Array Slot} {st : List Value} {X : CX} {rest : va_W} {ca fa : Nat → Nat}
noncomputable def fC_allPosts (w : CW)  : Option (Int32) :=
  some ((ishl 1 ((cfe w).1 8)) - 1)

set_option maxHeartbeats 4000000 in
theorem wC_allPosts (B : CallFix p m c cX0_allPosts 1 s args lw_all RX0) (hK : KK X s) {w : CW} (hP : va_P X.2.2.1 vwCl (CP X ca fa w ++ rest) s.heap)  {res : Int32} (hf : fC_allPosts w  = some res) (kr : ∀ (r : Int32), res = r → ∀ (pc : Nat) (ls : Array Slot), decode cX0_allPosts pc = .ok (.ireturn, 1) → W p l e (RM 0 0) s m args below meth c s.heap [] 0 0 Q (F0 m pc ls [.int r])) {ls : Array Slot} (hl : lv_has ls 1 [(0, .ref (ca 0))]) : W p l e (RM 0 0) s m args below meth c s.heap [] 0 0 Q (F0 m 0 ls []) := by
  have hx := B.1
  have hb := B.2.1
  unfold fC_allPosts at hf
  refine lv_iconst (v := 1) hx hb dX0_allPosts_0 (by decide) ?_
  refine lv_aload_n hx hb dX0_allPosts_1 rfl (lv_at hl 0 rfl) ?_
  refine co_this_g0 B hK hP dX0_allPosts_2 ?_
  refine co_fen_g8 B hK hP dX0_allPosts_5 ?_
  refine w_ishl hx hb dX0_allPosts_8 ?_
  refine lv_iconst (v := 1) hx hb dX0_allPosts_9 (by decide) ?_
  refine lv_isub hx hb dX0_allPosts_10 ?_
  exact kr _ (Option.some.inj hf).symm _ _ dX0_allPosts_11

theorem tC_allPosts (l : Launch) (X : CX) (ca fa : Nat → Nat) (rest : va_W) (w : CW)  (r : Int32) (hf : fC_allPosts w  = some r) : RO l yX0_allPosts cX0_allPosts 1 (some .int) 0 0 [.ref (ca 0)] X (CP X ca fa w ++ rest) (some (.int r)) := by
  refine RO.mk (by decide) (Nat.le_of_ble_eq_true rfl) ?_
  intro p e s m below meth c B hr hlk hK hP ls hl
  exact wC_allPosts B hK hP hf (fun r h pc ls hd => by cases h; exact w_iretR B hr hlk rfl hd) hl
end S_C_allPosts

section S_C_path
variable {p : Program} {l : Launch} {e : Env} {R : Room} {s : State} {m : MethodId} {args : Array Value} {below : List Frame} {meth : Method} {c : Code} {H : Heap} {locs : List Loc} {cells slots : Nat} {Q : State → Prop} {cc : ByteArray} {nL pc : Nat} {ls : Array Slot} {st : List Value} {X : CX} {rest : va_W} {ca fa : Nat → Nat}
noncomputable def fC_path_J36 (w : CW)  : Option (Int32 × CW) :=
  b2 (fC_no w (-2)) fun r_5 f_2 =>
  (some (f_2)).bind fun w_3 =>
  some (r_5, w_3)

set_option maxHeartbeats 4000000 in
theorem wC_path_J36 (B : CallFix p m c cX0_path 3 s args lw_all RX0) (hK : KK X s) {w : CW}  {res : Int32 × CW} (hf : fC_path_J36 w  = some res) (kr : ∀ (r : Int32) (w1 : CW), res = (r, w1) → ∀ (H : Heap) (locs : List Loc), GG X (CP X ca fa w1 ++ rest) s.heap H locs → ∀ (pc : Nat) (ls : Array Slot), decode cX0_path pc = .ok (.ireturn, 1) → W p l e (RMw 5 0 0 114) s m args below meth c H locs 0 0 Q (F0 m pc ls [.int r])) {H : Heap} {locs : List Loc} (hG : GG X (CP X ca fa w ++ rest) s.heap H locs) {ls : Array Slot} (hl : lv_has ls 3 [(0, .ref (ca 0))]) : W p l e (RMw 5 0 0 114) s m args below meth c H locs 0 0 Q (F0 m 36 ls []) := by
  have hx := B.1
  have hb := B.2.1
  unfold fC_path_J36 at hf
  refine lv_aload_n hx hb dX0_path_36 rfl (lv_at hl 0 rfl) ?_
  refine lv_bipush (v := (-2)) hx hb dX0_path_37 (by decide) ?_
  obtain ⟨r_5, f_2, e_1, hf⟩ := b2s hf
  obtain ⟨w_3, e_4, hf⟩ := bo hf
  refine cC_no B hK hG e_1 e_4 ⟨Nat.le_of_ble_eq_true rfl, Nat.le_of_ble_eq_true rfl⟩ ⟨Nat.zero_le _, Nat.zero_le _⟩ hl.1 (Nat.le_of_ble_eq_true rfl) dX0_path_39 (fun H locs hG => ?_)
  exact kr _ _ (Option.some.inj hf).symm _ _ hG _ _ dX0_path_42

noncomputable def fC_path (w : CW) (x1 : Int32) (x2 : Int32) : Option (Int32 × CW) :=
  (fF_isCell (cfe w) (x1.toInt64)).bind fun r_1 =>
  if r_1 = 0 then
    fC_path_J36 w 
  else
    (fF_isCell (cfe w) (x2.toInt64)).bind fun r_4 =>
    if r_4 = 0 then
      fC_path_J36 w 
    else
      b2 (fF_path (cfe w) x1 x2) fun r_11 f_8 =>
      (some (cnf w f_8)).bind fun w_9 =>
      some (r_11, w_9)

set_option maxHeartbeats 4000000 in
theorem wC_path (B : CallFix p m c cX0_path 3 s args lw_all RX0) (hK : KK X s) {w : CW} {x1 : Int32} {x2 : Int32} {res : Int32 × CW} (hf : fC_path w x1 x2 = some res) (kr : ∀ (r : Int32) (w1 : CW), res = (r, w1) → ∀ (H : Heap) (locs : List Loc), GG X (CP X ca fa w1 ++ rest) s.heap H locs → ∀ (pc : Nat) (ls : Array Slot), decode cX0_path pc = .ok (.ireturn, 1) → W p l e (RMw 5 0 0 114) s m args below meth c H locs 0 0 Q (F0 m pc ls [.int r])) {H : Heap} {locs : List Loc} (hG : GG X (CP X ca fa w ++ rest) s.heap H locs) {ls : Array Slot} (hl : lv_has ls 3 [(0, .ref (ca 0)), (1, .int x1), (2, .int x2)]) : W p l e (RMw 5 0 0 114) s m args below meth c H locs 0 0 Q (F0 m 0 ls []) := by
  have hx := B.1
  have hb := B.2.1
  unfold fC_path at hf
  refine lv_aload_n hx hb dX0_path_0 rfl (lv_at hl 0 rfl) ?_
  refine co_this_g0 B hK hG.1 dX0_path_1 ?_
  refine lv_iload_n hx hb dX0_path_4 rfl (lv_at hl 1 rfl) ?_
  refine lv_i2l hx hb dX0_path_5 rfl ?_
  obtain ⟨r_1, e_2, hf⟩ := bo hf
  refine cCF_isCell B hK hG.2.2 hG.1 e_2 ⟨Nat.le_of_ble_eq_true rfl, Nat.le_of_ble_eq_true rfl⟩ ⟨Nat.zero_le _, Nat.zero_le _⟩ hl.1 (Nat.le_of_ble_eq_true rfl) dX0_path_6 ?_
  refine lv_if_eq (tgt := 36) hx hb dX0_path_9 (by decide) (fun c_3 => ?_) (fun c_3 => ?_)
  · have hf := ifp c_3 hf
    exact wC_path_J36 B hK hf kr hG (lv_sub hl [0] rfl)
  · have hf := ifn c_3 hf
    refine lv_aload_n hx hb dX0_path_12 rfl (lv_at hl 0 rfl) ?_
    refine co_this_g0 B hK hG.1 dX0_path_13 ?_
    refine lv_iload_n hx hb dX0_path_16 rfl (lv_at hl 2 rfl) ?_
    refine lv_i2l hx hb dX0_path_17 rfl ?_
    obtain ⟨r_4, e_5, hf⟩ := bo hf
    refine cCF_isCell B hK hG.2.2 hG.1 e_5 ⟨Nat.le_of_ble_eq_true rfl, Nat.le_of_ble_eq_true rfl⟩ ⟨Nat.zero_le _, Nat.zero_le _⟩ hl.1 (Nat.le_of_ble_eq_true rfl) dX0_path_18 ?_
    refine lv_if_eq (tgt := 36) hx hb dX0_path_21 (by decide) (fun c_6 => ?_) (fun c_6 => ?_)
    · have hf := ifp c_6 hf
      exact wC_path_J36 B hK hf kr hG (lv_sub hl [0] rfl)
    · have hf := ifn c_6 hf
      refine lv_aload_n hx hb dX0_path_24 rfl (lv_at hl 0 rfl) ?_
      refine co_this_g0 B hK hG.1 dX0_path_25 ?_
      refine lv_iload_n hx hb dX0_path_28 rfl (lv_at hl 1 rfl) ?_
      refine lv_iload_n hx hb dX0_path_29 rfl (lv_at hl 2 rfl) ?_
      obtain ⟨r_11, f_8, e_7, hf⟩ := b2s hf
      obtain ⟨w_9, e_10, hf⟩ := bo hf
      refine cCF_path B hK hG e_7 e_10 ⟨Nat.le_of_ble_eq_true rfl, Nat.le_of_ble_eq_true rfl⟩ ⟨Nat.zero_le _, Nat.zero_le _⟩ hl.1 (Nat.le_of_ble_eq_true rfl) dX0_path_30 (fun H locs hG => ?_)
      refine lv_goto (tgt := 42) hx hb dX0_path_33 (by decide) ?_
      exact kr _ _ (Option.some.inj hf).symm _ _ hG _ _ dX0_path_42

theorem tC_path (l : Launch) (X : CX) (ca fa : Nat → Nat) (rest : va_W) (w w' : CW) (x1 : Int32) (x2 : Int32) (r : Int32) (hf : fC_path w x1 x2 = some (r, w')) : RW l yX0_path cX0_path 3 (some .int) 5 0 0 114 [.ref (ca 0), .int x1, .int x2] X (CP X ca fa w ++ rest) (CP X ca fa (w') ++ rest) (some (.int r)) := by
  refine RW.mk (by decide) (Nat.le_of_ble_eq_true rfl) ?_
  intro p e s m below meth c B hr hlk hK hG ls hl
  exact wC_path B hK hf (fun r w h H locs hG pc ls hd => by cases h; exact w_iretW B hr hlk hG hd) hG hl
end S_C_path

section S_C_found
variable {p : Program} {l : Launch} {e : Env} {R : Room} {s : State} {m : MethodId} {args : Array Value} {below : List Frame} {meth : Method} {c : Code} {H : Heap} {locs : List Loc} {cells slots : Nat} {Q : State → Prop} {cc : ByteArray} {nL pc : Nat} {ls : Array Slot} {st : List Value} {X : CX} {rest : va_W} {ca fa : Nat → Nat}
noncomputable def fC_found_J120_L22 (w : CW) (x2 : Int32) (x3 : Int32) (x4 : Int32) (x5 : Int32) (x6 : Int32) (t0 : Int32) : Option ((Int32 × Int32 × Int32 × CW) ⊕ (Int32 × Int32 × CW)) :=
  if x6 = 0 then
    (some (x4 + 1)).bind fun x_2 =>
    some (.inl (t0, x2, x_2, w))
  else
    (some (x4 + 1)).bind fun x_4 =>
    some (.inl (t0, x5, x_4, w))

set_option maxHeartbeats 4000000 in
theorem wC_found_J120_L22 (B : CallFix p m c cX0_found 7 s args lw_all RX0) (hK : KK X s) {w : CW} {x2 : Int32} {x3 : Int32} {x4 : Int32} {x5 : Int32} {x6 : Int32} {t0 : Int32} {res : (Int32 × Int32 × Int32 × CW) ⊕ (Int32 × Int32 × CW)} (hf : fC_found_J120_L22 w x2 x3 x4 x5 x6 t0 = some res) (kc : ∀ (y1 : Int32) (y2 : Int32) (y4 : Int32) (w1 : CW), res = .inl (y1, y2, y4, w1) → ∀ (H : Heap) (locs : List Loc), GG X (CP X ca fa w1 ++ rest) s.heap H locs → ∀ (ls : Array Slot), lv_has ls 7 [(0, .ref (ca 0)), (1, .int y1), (2, .int y2), (3, .int x3), (4, .int y4)] → W p l e (RMw 5 0 0 114) s m args below meth c H locs 0 0 Q (F0 m 22 ls [])) (ke139 : ∀ (y1 : Int32) (y2 : Int32) (w1 : CW), res = .inr (y1, y2, w1) → ∀ (H : Heap) (locs : List Loc), GG X (CP X ca fa w1 ++ rest) s.heap H locs → ∀ (ls : Array Slot), lv_has ls 7 [(0, .ref (ca 0)), (1, .int y1), (2, .int y2), (3, .int x3)] → W p l e (RMw 5 0 0 114) s m args below meth c H locs 0 0 Q (F0 m 139 ls [])) {H : Heap} {locs : List Loc} (hG : GG X (CP X ca fa w ++ rest) s.heap H locs) {ls : Array Slot} (hl : lv_has ls 7 [(0, .ref (ca 0)), (2, .int x2), (3, .int x3), (4, .int x4), (5, .int x5), (6, .int x6)]) : W p l e (RMw 5 0 0 114) s m args below meth c H locs 0 0 Q (F0 m 120 ls [.int t0]) := by
  have hx := B.1
  have hb := B.2.1
  unfold fC_found_J120_L22 at hf
  refine lv_istore_n (lv' := [(1, .int t0), (0, .ref (ca 0)), (2, .int x2), (3, .int x3), (4, .int x4), (5, .int x5), (6, .int x6)]) hx hb dX0_found_120 rfl hl (by decide) rfl (fun ls hl => ?_)
  refine lv_iload hx hb dX0_found_121 (lv_at hl 6 rfl) ?_
  refine lv_if_eq (tgt := 131) hx hb dX0_found_123 (by decide) (fun c_1 => ?_) (fun c_1 => ?_)
  · have hf := ifp c_1 hf
    refine lv_iload_n hx hb dX0_found_131 rfl (lv_at hl 2 rfl) ?_
    refine lv_istore_n (lv' := [(2, .int x2), (1, .int t0), (0, .ref (ca 0)), (3, .int x3), (4, .int x4), (5, .int x5), (6, .int x6)]) hx hb dX0_found_132 rfl hl (by decide) rfl (fun ls hl => ?_)
    obtain ⟨x_2, e_3, hf⟩ := bo hf
    refine w_iinc (k := 4) (lv' := [(4, .int x_2), (2, .int x2), (1, .int t0), (0, .ref (ca 0)), (3, .int x3), (5, .int x5), (6, .int x6)]) e_3 hx hb dX0_found_133 hl rfl (by decide) rfl (fun ls hl => ?_)
    refine lv_goto (tgt := 22) hx hb dX0_found_136 (by decide) ?_
    exact kc _ _ _ _ (Option.some.inj hf).symm _ _ hG _ (lv_sub hl [3, 2, 1, 4, 0] rfl)
  · have hf := ifn c_1 hf
    refine lv_iload hx hb dX0_found_126 (lv_at hl 5 rfl) ?_
    refine lv_goto (tgt := 132) hx hb dX0_found_128 (by decide) ?_
    refine lv_istore_n (lv' := [(2, .int x5), (1, .int t0), (0, .ref (ca 0)), (3, .int x3), (4, .int x4), (5, .int x5), (6, .int x6)]) hx hb dX0_found_132 rfl hl (by decide) rfl (fun ls hl => ?_)
    obtain ⟨x_4, e_5, hf⟩ := bo hf
    refine w_iinc (k := 4) (lv' := [(4, .int x_4), (2, .int x5), (1, .int t0), (0, .ref (ca 0)), (3, .int x3), (5, .int x5), (6, .int x6)]) e_5 hx hb dX0_found_133 hl rfl (by decide) rfl (fun ls hl => ?_)
    refine lv_goto (tgt := 22) hx hb dX0_found_136 (by decide) ?_
    exact kc _ _ _ _ (Option.some.inj hf).symm _ _ hG _ (lv_sub hl [3, 2, 1, 4, 0] rfl)

noncomputable def fC_found_J102_L22 (w : CW) (x1 : Int32) (x2 : Int32) (x3 : Int32) (x4 : Int32) (x5 : Int32) (t0 : Int32) : Option ((Int32 × Int32 × Int32 × CW) ⊕ (Int32 × Int32 × CW)) :=
  if t0 = 0 then
    fC_found_J120_L22 w x2 x3 x4 x5 t0 x1
  else
    fC_found_J120_L22 w x2 x3 x4 x5 t0 ((10 * x3) + x4)

set_option maxHeartbeats 4000000 in
theorem wC_found_J102_L22 (B : CallFix p m c cX0_found 7 s args lw_all RX0) (hK : KK X s) {w : CW} {x1 : Int32} {x2 : Int32} {x3 : Int32} {x4 : Int32} {x5 : Int32} {t0 : Int32} {res : (Int32 × Int32 × Int32 × CW) ⊕ (Int32 × Int32 × CW)} (hf : fC_found_J102_L22 w x1 x2 x3 x4 x5 t0 = some res) (kc : ∀ (y1 : Int32) (y2 : Int32) (y4 : Int32) (w1 : CW), res = .inl (y1, y2, y4, w1) → ∀ (H : Heap) (locs : List Loc), GG X (CP X ca fa w1 ++ rest) s.heap H locs → ∀ (ls : Array Slot), lv_has ls 7 [(0, .ref (ca 0)), (1, .int y1), (2, .int y2), (3, .int x3), (4, .int y4)] → W p l e (RMw 5 0 0 114) s m args below meth c H locs 0 0 Q (F0 m 22 ls [])) (ke139 : ∀ (y1 : Int32) (y2 : Int32) (w1 : CW), res = .inr (y1, y2, w1) → ∀ (H : Heap) (locs : List Loc), GG X (CP X ca fa w1 ++ rest) s.heap H locs → ∀ (ls : Array Slot), lv_has ls 7 [(0, .ref (ca 0)), (1, .int y1), (2, .int y2), (3, .int x3)] → W p l e (RMw 5 0 0 114) s m args below meth c H locs 0 0 Q (F0 m 139 ls [])) {H : Heap} {locs : List Loc} (hG : GG X (CP X ca fa w ++ rest) s.heap H locs) {ls : Array Slot} (hl : lv_has ls 7 [(0, .ref (ca 0)), (1, .int x1), (2, .int x2), (3, .int x3), (4, .int x4), (5, .int x5)]) : W p l e (RMw 5 0 0 114) s m args below meth c H locs 0 0 Q (F0 m 102 ls [.int t0]) := by
  have hx := B.1
  have hb := B.2.1
  unfold fC_found_J102_L22 at hf
  refine lv_istore (lv' := [(6, .int t0), (0, .ref (ca 0)), (1, .int x1), (2, .int x2), (3, .int x3), (4, .int x4), (5, .int x5)]) hx hb dX0_found_102 hl (by decide) rfl (fun ls hl => ?_)
  refine lv_iload hx hb dX0_found_104 (lv_at hl 0 rfl) ?_
  refine lv_if_eq (tgt := 119) hx hb dX0_found_106 (by decide) (fun c_1 => ?_) (fun c_1 => ?_)
  · have hf := ifp c_1 hf
    refine lv_iload_n hx hb dX0_found_119 rfl (lv_at hl 2 rfl) ?_
    exact wC_found_J120_L22 B hK hf kc ke139 hG (lv_sub hl [1, 3, 4, 5, 6, 0] rfl)
  · have hf := ifn c_1 hf
    refine lv_bipush (v := 10) hx hb dX0_found_109 (by decide) ?_
    refine lv_iload_n hx hb dX0_found_111 rfl (lv_at hl 4 rfl) ?_
    refine lv_imul hx hb dX0_found_112 ?_
    refine lv_iload hx hb dX0_found_113 (lv_at hl 5 rfl) ?_
    refine lv_iadd hx hb dX0_found_115 ?_
    refine lv_goto (tgt := 120) hx hb dX0_found_116 (by decide) ?_
    exact wC_found_J120_L22 B hK hf kc ke139 hG (lv_sub hl [1, 3, 4, 5, 6, 0] rfl)

noncomputable def fC_found_J101_L22 (w : CW) (x1 : Int32) (x2 : Int32) (x3 : Int32) (x4 : Int32) (x5 : Int32) : Option ((Int32 × Int32 × Int32 × CW) ⊕ (Int32 × Int32 × CW)) :=
  fC_found_J102_L22 w x1 x2 x3 x4 x5 0

set_option maxHeartbeats 4000000 in
theorem wC_found_J101_L22 (B : CallFix p m c cX0_found 7 s args lw_all RX0) (hK : KK X s) {w : CW} {x1 : Int32} {x2 : Int32} {x3 : Int32} {x4 : Int32} {x5 : Int32} {res : (Int32 × Int32 × Int32 × CW) ⊕ (Int32 × Int32 × CW)} (hf : fC_found_J101_L22 w x1 x2 x3 x4 x5 = some res) (kc : ∀ (y1 : Int32) (y2 : Int32) (y4 : Int32) (w1 : CW), res = .inl (y1, y2, y4, w1) → ∀ (H : Heap) (locs : List Loc), GG X (CP X ca fa w1 ++ rest) s.heap H locs → ∀ (ls : Array Slot), lv_has ls 7 [(0, .ref (ca 0)), (1, .int y1), (2, .int y2), (3, .int x3), (4, .int y4)] → W p l e (RMw 5 0 0 114) s m args below meth c H locs 0 0 Q (F0 m 22 ls [])) (ke139 : ∀ (y1 : Int32) (y2 : Int32) (w1 : CW), res = .inr (y1, y2, w1) → ∀ (H : Heap) (locs : List Loc), GG X (CP X ca fa w1 ++ rest) s.heap H locs → ∀ (ls : Array Slot), lv_has ls 7 [(0, .ref (ca 0)), (1, .int y1), (2, .int y2), (3, .int x3)] → W p l e (RMw 5 0 0 114) s m args below meth c H locs 0 0 Q (F0 m 139 ls [])) {H : Heap} {locs : List Loc} (hG : GG X (CP X ca fa w ++ rest) s.heap H locs) {ls : Array Slot} (hl : lv_has ls 7 [(0, .ref (ca 0)), (1, .int x1), (2, .int x2), (3, .int x3), (4, .int x4), (5, .int x5)]) : W p l e (RMw 5 0 0 114) s m args below meth c H locs 0 0 Q (F0 m 101 ls []) := by
  have hx := B.1
  have hb := B.2.1
  unfold fC_found_J101_L22 at hf
  refine lv_iconst (v := 0) hx hb dX0_found_101 (by decide) ?_
  exact wC_found_J102_L22 B hK hf kc ke139 hG hl

noncomputable def fC_found_L22 (w : CW) (x1 : Int32) (x2 : Int32) (x3 : Int32) (x4 : Int32) : Option ((Int32 × Int32 × Int32 × CW) ⊕ (Int32 × Int32 × CW)) :=
  if ((cfe w).1 9) ≤ x4 then
    some (.inr (x1, x2, w))
  else
    (rd ((cfe w).2.1 2) 4 x3).bind fun v_2 =>
    (rd ((cfe w).2.1 2) 4 x4).bind fun v_4 =>
    b2 (fF_path (cfe w) v_2 v_4) fun r_10 f_7 =>
    (some (cnf w f_7)).bind fun w_8 =>
    (fF_isLost (cfe w_8) x3).bind fun r_11 =>
    if r_11 = 0 then
      (fF_isLost (cfe w_8) x4).bind fun r_14 =>
      if r_14 = 0 then
        fC_found_J101_L22 w_8 x1 x2 x3 x4 r_10
      else
        if r_10 = (-1) then
          fC_found_J101_L22 w_8 x1 x2 x3 x4 r_10
        else
          if x2 ≤ r_10 then
            fC_found_J101_L22 w_8 x1 x2 x3 x4 r_10
          else
            fC_found_J102_L22 w_8 x1 x2 x3 x4 r_10 1
    else
      fC_found_J101_L22 w_8 x1 x2 x3 x4 r_10

set_option maxHeartbeats 4000000 in
theorem wC_found_L22 (B : CallFix p m c cX0_found 7 s args lw_all RX0) (hK : KK X s) {w : CW} {x1 : Int32} {x2 : Int32} {x3 : Int32} {x4 : Int32} {res : (Int32 × Int32 × Int32 × CW) ⊕ (Int32 × Int32 × CW)} (hf : fC_found_L22 w x1 x2 x3 x4 = some res) (kc : ∀ (y1 : Int32) (y2 : Int32) (y4 : Int32) (w1 : CW), res = .inl (y1, y2, y4, w1) → ∀ (H : Heap) (locs : List Loc), GG X (CP X ca fa w1 ++ rest) s.heap H locs → ∀ (ls : Array Slot), lv_has ls 7 [(0, .ref (ca 0)), (1, .int y1), (2, .int y2), (3, .int x3), (4, .int y4)] → W p l e (RMw 5 0 0 114) s m args below meth c H locs 0 0 Q (F0 m 22 ls [])) (ke139 : ∀ (y1 : Int32) (y2 : Int32) (w1 : CW), res = .inr (y1, y2, w1) → ∀ (H : Heap) (locs : List Loc), GG X (CP X ca fa w1 ++ rest) s.heap H locs → ∀ (ls : Array Slot), lv_has ls 7 [(0, .ref (ca 0)), (1, .int y1), (2, .int y2), (3, .int x3)] → W p l e (RMw 5 0 0 114) s m args below meth c H locs 0 0 Q (F0 m 139 ls [])) {H : Heap} {locs : List Loc} (hG : GG X (CP X ca fa w ++ rest) s.heap H locs) {ls : Array Slot} (hl : lv_has ls 7 [(0, .ref (ca 0)), (1, .int x1), (2, .int x2), (3, .int x3), (4, .int x4)]) : W p l e (RMw 5 0 0 114) s m args below meth c H locs 0 0 Q (F0 m 22 ls []) := by
  have hx := B.1
  have hb := B.2.1
  unfold fC_found_L22 at hf
  refine lv_iload hx hb dX0_found_22 (lv_at hl 4 rfl) ?_
  refine lv_aload_n hx hb dX0_found_24 rfl (lv_at hl 0 rfl) ?_
  refine co_this_g0 B hK hG.1 dX0_found_25 ?_
  refine co_fen_g9 B hK hG.1 dX0_found_28 ?_
  refine lv_icmp_ge (tgt := 139) hx hb dX0_found_31 (by decide) (fun c_1 => ?_) (fun c_1 => ?_)
  · have hf := ifp c_1 hf
    exact ke139 _ _ _ (Option.some.inj hf).symm _ _ hG _ (lv_sub hl [0, 1, 2, 3] rfl)
  · have hf := ifn c_1 hf
    refine lv_aload_n hx hb dX0_found_34 rfl (lv_at hl 0 rfl) ?_
    refine co_this_g0 B hK hG.1 dX0_found_35 ?_
    refine lv_aload_n hx hb dX0_found_38 rfl (lv_at hl 0 rfl) ?_
    refine co_this_g0 B hK hG.1 dX0_found_39 ?_
    refine co_fen_g2 B hK hG.1 dX0_found_42 ?_
    refine lv_iload_n hx hb dX0_found_45 rfl (lv_at hl 3 rfl) ?_
    obtain ⟨v_2, e_3, hf⟩ := bo hf
    refine co_cell_l B hK hG.1 e_3 dX0_found_46 ?_
    refine lv_aload_n hx hb dX0_found_47 rfl (lv_at hl 0 rfl) ?_
    refine co_this_g0 B hK hG.1 dX0_found_48 ?_
    refine co_fen_g2 B hK hG.1 dX0_found_51 ?_
    refine lv_iload hx hb dX0_found_54 (lv_at hl 4 rfl) ?_
    obtain ⟨v_4, e_5, hf⟩ := bo hf
    refine co_cell_l B hK hG.1 e_5 dX0_found_56 ?_
    obtain ⟨r_10, f_7, e_6, hf⟩ := b2s hf
    obtain ⟨w_8, e_9, hf⟩ := bo hf
    refine cCF_path B hK hG e_6 e_9 ⟨Nat.le_of_ble_eq_true rfl, Nat.le_of_ble_eq_true rfl⟩ ⟨Nat.zero_le _, Nat.zero_le _⟩ hl.1 (Nat.le_of_ble_eq_true rfl) dX0_found_57 (fun H locs hG => ?_)
    refine lv_istore (lv' := [(5, .int r_10), (0, .ref (ca 0)), (1, .int x1), (2, .int x2), (3, .int x3), (4, .int x4)]) hx hb dX0_found_60 hl (by decide) rfl (fun ls hl => ?_)
    refine lv_aload_n hx hb dX0_found_62 rfl (lv_at hl 1 rfl) ?_
    refine co_this_g0 B hK hG.1 dX0_found_63 ?_
    refine lv_iload_n hx hb dX0_found_66 rfl (lv_at hl 4 rfl) ?_
    obtain ⟨r_11, e_12, hf⟩ := bo hf
    refine cCF_isLost B hK hG.2.2 hG.1 e_12 ⟨Nat.le_of_ble_eq_true rfl, Nat.le_of_ble_eq_true rfl⟩ ⟨Nat.zero_le _, Nat.zero_le _⟩ hl.1 (Nat.le_of_ble_eq_true rfl) dX0_found_67 ?_
    refine lv_if_ne (tgt := 101) hx hb dX0_found_70 (by decide) (fun c_13 => ?_) (fun c_13 => ?_)
    · have hf := ifn c_13 hf
      exact wC_found_J101_L22 B hK hf kc ke139 hG (lv_sub hl [1, 2, 3, 4, 5, 0] rfl)
    · have hf := ifp c_13 hf
      refine lv_aload_n hx hb dX0_found_73 rfl (lv_at hl 1 rfl) ?_
      refine co_this_g0 B hK hG.1 dX0_found_74 ?_
      refine lv_iload hx hb dX0_found_77 (lv_at hl 5 rfl) ?_
      obtain ⟨r_14, e_15, hf⟩ := bo hf
      refine cCF_isLost B hK hG.2.2 hG.1 e_15 ⟨Nat.le_of_ble_eq_true rfl, Nat.le_of_ble_eq_true rfl⟩ ⟨Nat.zero_le _, Nat.zero_le _⟩ hl.1 (Nat.le_of_ble_eq_true rfl) dX0_found_79 ?_
      refine lv_if_eq (tgt := 101) hx hb dX0_found_82 (by decide) (fun c_16 => ?_) (fun c_16 => ?_)
      · have hf := ifp c_16 hf
        exact wC_found_J101_L22 B hK hf kc ke139 hG (lv_sub hl [1, 2, 3, 4, 5, 0] rfl)
      · have hf := ifn c_16 hf
        refine lv_iload hx hb dX0_found_85 (lv_at hl 0 rfl) ?_
        refine lv_iconst (v := (-1)) hx hb dX0_found_87 (by decide) ?_
        refine lv_icmp_eq (tgt := 101) hx hb dX0_found_88 (by decide) (fun c_17 => ?_) (fun c_17 => ?_)
        · have hf := ifp c_17 hf
          exact wC_found_J101_L22 B hK hf kc ke139 hG (lv_sub hl [1, 2, 3, 4, 5, 0] rfl)
        · have hf := ifn c_17 hf
          refine lv_iload hx hb dX0_found_91 (lv_at hl 0 rfl) ?_
          refine lv_iload_n hx hb dX0_found_93 rfl (lv_at hl 3 rfl) ?_
          refine lv_icmp_ge (tgt := 101) hx hb dX0_found_94 (by decide) (fun c_18 => ?_) (fun c_18 => ?_)
          · have hf := ifp c_18 hf
            exact wC_found_J101_L22 B hK hf kc ke139 hG (lv_sub hl [1, 2, 3, 4, 5, 0] rfl)
          · have hf := ifn c_18 hf
            refine lv_iconst (v := 1) hx hb dX0_found_97 (by decide) ?_
            refine lv_goto (tgt := 102) hx hb dX0_found_98 (by decide) ?_
            exact wC_found_J102_L22 B hK hf kc ke139 hG (lv_sub hl [1, 2, 3, 4, 5, 0] rfl)

set_option maxHeartbeats 4000000 in
theorem vC_found_L22 (B : CallFix p m c cX0_found 7 s args lw_all RX0) (hK : KK X s) {w : CW} {x1 : Int32} {x2 : Int32} {x3 : Int32} {x4 : Int32} {res : Int32 × Int32 × CW} (hf : lp (fun q : Int32 × Int32 × Int32 × CW => fC_found_L22 q.2.2.2 q.1 q.2.1 x3 q.2.2.1) (x1, x2, x4, w) = some res) (ke139 : ∀ (y1 : Int32) (y2 : Int32) (w1 : CW), res = (y1, y2, w1) → ∀ (H : Heap) (locs : List Loc), GG X (CP X ca fa w1 ++ rest) s.heap H locs → ∀ (ls : Array Slot), lv_has ls 7 [(0, .ref (ca 0)), (1, .int y1), (2, .int y2), (3, .int x3)] → W p l e (RMw 5 0 0 114) s m args below meth c H locs 0 0 Q (F0 m 139 ls [])) {H : Heap} {locs : List Loc} (hG : GG X (CP X ca fa w ++ rest) s.heap H locs) {ls : Array Slot} (hl : lv_has ls 7 [(0, .ref (ca 0)), (1, .int x1), (2, .int x2), (3, .int x3), (4, .int x4)]) : W p l e (RMw 5 0 0 114) s m args below meth c H locs 0 0 Q (F0 m 22 ls []) := by
  refine lp_ind (r := res) (P := fun q : Int32 × Int32 × Int32 × CW => ∀ (H : Heap) (locs : List Loc) (ls : Array Slot), GG X (CP X ca fa q.2.2.2 ++ rest) s.heap H locs → lv_has ls 7 [(0, .ref (ca 0)), (1, .int q.1), (2, .int q.2.1), (3, .int x3), (4, .int q.2.2.1)] → W p l e (RMw 5 0 0 114) s m args below meth c H locs 0 0 Q (F0 m 22 ls [])) ?_ ?_ _ hf _ _ _ hG hl
  · intro q hb H locs ls hG hl
    exact wC_found_L22 B hK hb (fun _ _ _ _ h => by cases h) (fun z0 z1 z2 h => ke139 z0 z1 z2 (Sum.inr.inj h)) hG hl
  · intro q q2 hb ih H locs ls hG hl
    exact wC_found_L22 B hK hb (fun z0 z1 z2 z3 h => by cases h; exact fun H locs hG ls hl => ih H locs ls hG hl) (fun _ _ _ h => by cases h) hG hl

noncomputable def fC_found_L8 (w : CW) (x1 : Int32) (x2 : Int32) (x3 : Int32) : Option ((Int32 × Int32 × Int32 × CW) ⊕ (Int32 × CW)) :=
  if ((cfe w).1 9) ≤ x3 then
    some (.inr (x1, w))
  else
    (lp (fun q : Int32 × Int32 × Int32 × CW => fC_found_L22 q.2.2.2 q.1 q.2.1 x3 q.2.2.1) (x1, x2, 0, w)).bind (
      fun q_7 => (fun (y_2 : Int32) (y_3 : Int32) (w_4 : CW) =>
        (some (x3 + 1)).bind fun x_5 =>
        some (.inl (y_2, y_3, x_5, w_4))
      ) q_7.1 q_7.2.1 q_7.2.2
    )

set_option maxHeartbeats 4000000 in
theorem wC_found_L8 (B : CallFix p m c cX0_found 7 s args lw_all RX0) (hK : KK X s) {w : CW} {x1 : Int32} {x2 : Int32} {x3 : Int32} {res : (Int32 × Int32 × Int32 × CW) ⊕ (Int32 × CW)} (hf : fC_found_L8 w x1 x2 x3 = some res) (kc : ∀ (y1 : Int32) (y2 : Int32) (y3 : Int32) (w1 : CW), res = .inl (y1, y2, y3, w1) → ∀ (H : Heap) (locs : List Loc), GG X (CP X ca fa w1 ++ rest) s.heap H locs → ∀ (ls : Array Slot), lv_has ls 7 [(0, .ref (ca 0)), (1, .int y1), (2, .int y2), (3, .int y3)] → W p l e (RMw 5 0 0 114) s m args below meth c H locs 0 0 Q (F0 m 8 ls [])) (ke145 : ∀ (y1 : Int32) (w1 : CW), res = .inr (y1, w1) → ∀ (H : Heap) (locs : List Loc), GG X (CP X ca fa w1 ++ rest) s.heap H locs → ∀ (ls : Array Slot), lv_has ls 7 [(1, .int y1)] → W p l e (RMw 5 0 0 114) s m args below meth c H locs 0 0 Q (F0 m 145 ls [])) {H : Heap} {locs : List Loc} (hG : GG X (CP X ca fa w ++ rest) s.heap H locs) {ls : Array Slot} (hl : lv_has ls 7 [(0, .ref (ca 0)), (1, .int x1), (2, .int x2), (3, .int x3)]) : W p l e (RMw 5 0 0 114) s m args below meth c H locs 0 0 Q (F0 m 8 ls []) := by
  have hx := B.1
  have hb := B.2.1
  unfold fC_found_L8 at hf
  refine lv_iload_n hx hb dX0_found_8 rfl (lv_at hl 3 rfl) ?_
  refine lv_aload_n hx hb dX0_found_9 rfl (lv_at hl 0 rfl) ?_
  refine co_this_g0 B hK hG.1 dX0_found_10 ?_
  refine co_fen_g9 B hK hG.1 dX0_found_13 ?_
  refine lv_icmp_ge (tgt := 145) hx hb dX0_found_16 (by decide) (fun c_1 => ?_) (fun c_1 => ?_)
  · have hf := ifp c_1 hf
    exact ke145 _ _ (Option.some.inj hf).symm _ _ hG _ (lv_sub hl [1] rfl)
  · have hf := ifn c_1 hf
    refine lv_iconst (v := 0) hx hb dX0_found_19 (by decide) ?_
    refine lv_istore (lv' := [(4, .int 0), (0, .ref (ca 0)), (1, .int x1), (2, .int x2), (3, .int x3)]) hx hb dX0_found_20 hl (by decide) rfl (fun ls hl => ?_)
    obtain ⟨⟨y_2, y_3, w_4⟩, e_8, hf⟩ := bo hf
    try dsimp only at hf
    refine vC_found_L22 B hK e_8 ?_ hG (lv_sub hl [1, 2, 3, 4, 0] rfl)
    intro z0 z1 z2 hz
    cases hz
    intro H locs hG ls hl
    obtain ⟨x_5, e_6, hf⟩ := bo hf
    refine w_iinc (k := 3) (lv' := [(3, .int x_5), (0, .ref (ca 0)), (1, .int y_2), (2, .int y_3)]) e_6 hx hb dX0_found_139 hl rfl (by decide) rfl (fun ls hl => ?_)
    refine lv_goto (tgt := 8) hx hb dX0_found_142 (by decide) ?_
    exact kc _ _ _ _ (Option.some.inj hf).symm _ _ hG _ (lv_sub hl [1, 2, 3, 0] rfl)

set_option maxHeartbeats 4000000 in
theorem vC_found_L8 (B : CallFix p m c cX0_found 7 s args lw_all RX0) (hK : KK X s) {w : CW} {x1 : Int32} {x2 : Int32} {x3 : Int32} {res : Int32 × CW} (hf : lp (fun q : Int32 × Int32 × Int32 × CW => fC_found_L8 q.2.2.2 q.1 q.2.1 q.2.2.1) (x1, x2, x3, w) = some res) (ke145 : ∀ (y1 : Int32) (w1 : CW), res = (y1, w1) → ∀ (H : Heap) (locs : List Loc), GG X (CP X ca fa w1 ++ rest) s.heap H locs → ∀ (ls : Array Slot), lv_has ls 7 [(1, .int y1)] → W p l e (RMw 5 0 0 114) s m args below meth c H locs 0 0 Q (F0 m 145 ls [])) {H : Heap} {locs : List Loc} (hG : GG X (CP X ca fa w ++ rest) s.heap H locs) {ls : Array Slot} (hl : lv_has ls 7 [(0, .ref (ca 0)), (1, .int x1), (2, .int x2), (3, .int x3)]) : W p l e (RMw 5 0 0 114) s m args below meth c H locs 0 0 Q (F0 m 8 ls []) := by
  refine lp_ind (r := res) (P := fun q : Int32 × Int32 × Int32 × CW => ∀ (H : Heap) (locs : List Loc) (ls : Array Slot), GG X (CP X ca fa q.2.2.2 ++ rest) s.heap H locs → lv_has ls 7 [(0, .ref (ca 0)), (1, .int q.1), (2, .int q.2.1), (3, .int q.2.2.1)] → W p l e (RMw 5 0 0 114) s m args below meth c H locs 0 0 Q (F0 m 8 ls [])) ?_ ?_ _ hf _ _ _ hG hl
  · intro q hb H locs ls hG hl
    exact wC_found_L8 B hK hb (fun _ _ _ _ h => by cases h) (fun z0 z1 h => ke145 z0 z1 (Sum.inr.inj h)) hG hl
  · intro q q2 hb ih H locs ls hG hl
    exact wC_found_L8 B hK hb (fun z0 z1 z2 z3 h => by cases h; exact fun H locs hG ls hl => ih H locs ls hG hl) (fun _ _ h => by cases h) hG hl

noncomputable def fC_found (w : CW)  : Option (Int32 × CW) :=
  (lp (fun q : Int32 × Int32 × Int32 × CW => fC_found_L8 q.2.2.2 q.1 q.2.1 q.2.2.1) ((-1), 100000, 0, w)).bind (
    fun q_3 => (fun (y_1 : Int32) (w_2 : CW) =>
      some (y_1, w_2)
    ) q_3.1 q_3.2
  )

set_option maxHeartbeats 4000000 in
theorem wC_found (B : CallFix p m c cX0_found 7 s args lw_all RX0) (hK : KK X s) {w : CW}  {res : Int32 × CW} (hf : fC_found w  = some res) (kr : ∀ (r : Int32) (w1 : CW), res = (r, w1) → ∀ (H : Heap) (locs : List Loc), GG X (CP X ca fa w1 ++ rest) s.heap H locs → ∀ (pc : Nat) (ls : Array Slot), decode cX0_found pc = .ok (.ireturn, 1) → W p l e (RMw 5 0 0 114) s m args below meth c H locs 0 0 Q (F0 m pc ls [.int r])) {H : Heap} {locs : List Loc} (hG : GG X (CP X ca fa w ++ rest) s.heap H locs) {ls : Array Slot} (hl : lv_has ls 7 [(0, .ref (ca 0))]) : W p l e (RMw 5 0 0 114) s m args below meth c H locs 0 0 Q (F0 m 0 ls []) := by
  have hx := B.1
  have hb := B.2.1
  unfold fC_found at hf
  refine lv_iconst (v := (-1)) hx hb dX0_found_0 (by decide) ?_
  refine lv_istore_n (lv' := [(1, .int (-1)), (0, .ref (ca 0))]) hx hb dX0_found_1 rfl hl (by decide) rfl (fun ls hl => ?_)
  refine lv_ldcw (v := 100000) hx hb B.2.2.2.1 (B.2.2.2.2 _ q1176) dX0_found_2 ?_
  refine lv_istore_n (lv' := [(2, .int 100000), (1, .int (-1)), (0, .ref (ca 0))]) hx hb dX0_found_5 rfl hl (by decide) rfl (fun ls hl => ?_)
  refine lv_iconst (v := 0) hx hb dX0_found_6 (by decide) ?_
  refine lv_istore_n (lv' := [(3, .int 0), (2, .int 100000), (1, .int (-1)), (0, .ref (ca 0))]) hx hb dX0_found_7 rfl hl (by decide) rfl (fun ls hl => ?_)
  obtain ⟨⟨y_1, w_2⟩, e_4, hf⟩ := bo hf
  try dsimp only at hf
  refine vC_found_L8 B hK e_4 ?_ hG (lv_sub hl [3, 2, 1, 0] rfl)
  intro z0 z1 hz
  cases hz
  intro H locs hG ls hl
  refine lv_iload_n hx hb dX0_found_145 rfl (lv_at hl 0 rfl) ?_
  exact kr _ _ (Option.some.inj hf).symm _ _ hG _ _ dX0_found_146

theorem tC_found (l : Launch) (X : CX) (ca fa : Nat → Nat) (rest : va_W) (w w' : CW)  (r : Int32) (hf : fC_found w  = some (r, w')) : RW l yX0_found cX0_found 7 (some .int) 5 0 0 114 [.ref (ca 0)] X (CP X ca fa w ++ rest) (CP X ca fa (w') ++ rest) (some (.int r)) := by
  refine RW.mk (by decide) (Nat.le_of_ble_eq_true rfl) ?_
  intro p e s m below meth c B hr hlk hK hG ls hl
  exact wC_found B hK hf (fun r w h H locs hG pc ls hd => by cases h; exact w_iretW B hr hlk hG hd) hG hl
end S_C_found

section K_cCF_spreads
variable {p : Program} {l : Launch} {e : Env} {R : Room} {s : State} {m : MethodId} {args : Array Value} {below : List Frame} {meth : Method} {c : Code} {H : Heap} {locs : List Loc} {cells slots : Nat} {Q : State → Prop} {cc : ByteArray} {nL pc : Nat} {ls : Array Slot} {st : List Value} {X : CX} {rest : va_W} {ca fa : Nat → Nat}
theorem cCF_spreads (B : CallFix p m c cc nL s args lw_all RX0) (hK : KK X s) {w : CW} (hG : GG X (CP X ca fa w ++ rest) s.heap H locs) {x1 : Int32} {f1 : FW} {w' : CW} (hf : fF_spreads (cfe w) x1 = some f1) (hw : some (cnf w f1) = some w') (hR : 3 + 1 ≤ R.frames ∧ 92 ≤ R.locals) (hcs : cells ≤ R.cells ∧ slots ≤ R.slots) (hl : ls.size = nL) (hcat : (st.map fun v => v.category).sum ≤ 8) (hdg : decode cc pc = .ok (.invokevirtual 338, 3)) (kk : ∀ (H1 : Heap) (locs1 : List Loc), GG X (CP X ca fa (w') ++ rest) s.heap H1 locs1 → W p l e R s m args below meth c H1 locs1 cells slots Q (F0 m (pc + 3) ls (.ref (fa 6) :: st))) : W p l e R s m args below meth c H locs cells slots Q (F0 m pc ls (.int x1 :: .ref (fa 0) :: st)) := by
  cases hw
  exact w_afterW (w_rV_RW (ws := FP X fa (cfe w) ++ (CPr X ca fa w ++ rest)) (As := [.int x1]) B hK hG (tF_spreads l X fa (CPr X ca fa w ++ rest) (cfe w) f1 x1 hf) (lw_V q1281 q1101 q1102 q88 q1103) 0 rfl rfl (n := 1) (by decide +kernel) hR hcs rfl hl rfl hcat hdg) hG.2.2 kk
end K_cCF_spreads

section K_cCF_beside
variable {p : Program} {l : Launch} {e : Env} {R : Room} {s : State} {m : MethodId} {args : Array Value} {below : List Frame} {meth : Method} {c : Code} {H : Heap} {locs : List Loc} {cells slots : Nat} {Q : State → Prop} {cc : ByteArray} {nL pc : Nat} {ls : Array Slot} {st : List Value} {X : CX} {rest : va_W} {ca fa : Nat → Nat}
theorem cCF_beside (B : CallFix p m c cc nL s args lw_all RX0) (hK : KK X s) (hS : va_S (Az X) s.heap H locs) {w : CW} (hP : va_P X.2.2.1 vwCl (CP X ca fa w ++ rest) H) {x1 : Int32} {x2 : Int32} {r : Int32} (hf : fF_beside (cfe w) x1 x2 = some r) (hR : 2 + 1 ≤ R.frames ∧ 67 ≤ R.locals) (hcs : cells ≤ R.cells ∧ slots ≤ R.slots) (hl : ls.size = nL) (hcat : (st.map fun v => v.category).sum ≤ 8) (hdg : decode cc pc = .ok (.invokevirtual 342, 3)) (kk : W p l e R s m args below meth c H locs cells slots Q (F0 m (pc + 3) ls (.int r :: st))) : W p l e R s m args below meth c H locs cells slots Q (F0 m pc ls (.int x2 :: .int x1 :: .ref (fa 0) :: st)) :=
  w_afterR (w_rV_RO (ws := FP X fa (cfe w) ++ (CPr X ca fa w ++ rest)) (As := [.int x1, .int x2]) B hK hS hP (tF_beside l X fa (CPr X ca fa w ++ rest) (cfe w) x1 x2 r hf) (lw_V q1282 q1108 q1109 q88 q1110) 0 rfl rfl (n := 2) (by decide +kernel) hR hcs rfl hl rfl hcat hdg) kk
end K_cCF_beside

section S_C_leads
variable {p : Program} {l : Launch} {e : Env} {R : Room} {s : State} {m : MethodId} {args : Array Value} {below : List Frame} {meth : Method} {c : Code} {H : Heap} {locs : List Loc} {cells slots : Nat} {Q : State → Prop} {cc : ByteArray} {nL pc : Nat} {ls : Array Slot} {st : List Value} {X : CX} {rest : va_W} {ca fa : Nat → Nat}
noncomputable def fC_leads_J23 (w : CW)  : Option (Int32 × CW) :=
  b2 (fC_no w (-2)) fun r_5 f_2 =>
  (some (f_2)).bind fun w_3 =>
  some (r_5, w_3)

set_option maxHeartbeats 4000000 in
theorem wC_leads_J23 (B : CallFix p m c cX0_leads 6 s args lw_all RX0) (hK : KK X s) {w : CW}  {res : Int32 × CW} (hf : fC_leads_J23 w  = some res) (kr : ∀ (r : Int32) (w1 : CW), res = (r, w1) → ∀ (H : Heap) (locs : List Loc), GG X (CP X ca fa w1 ++ rest) s.heap H locs → ∀ (pc : Nat) (ls : Array Slot), decode cX0_leads pc = .ok (.ireturn, 1) → W p l e (RMw 4 0 0 92) s m args below meth c H locs 0 0 Q (F0 m pc ls [.int r])) {H : Heap} {locs : List Loc} (hG : GG X (CP X ca fa w ++ rest) s.heap H locs) {ls : Array Slot} (hl : lv_has ls 6 [(0, .ref (ca 0))]) : W p l e (RMw 4 0 0 92) s m args below meth c H locs 0 0 Q (F0 m 23 ls []) := by
  have hx := B.1
  have hb := B.2.1
  unfold fC_leads_J23 at hf
  refine lv_aload_n hx hb dX0_leads_23 rfl (lv_at hl 0 rfl) ?_
  refine lv_bipush (v := (-2)) hx hb dX0_leads_24 (by decide) ?_
  obtain ⟨r_5, f_2, e_1, hf⟩ := b2s hf
  obtain ⟨w_3, e_4, hf⟩ := bo hf
  refine cC_no B hK hG e_1 e_4 ⟨Nat.le_of_ble_eq_true rfl, Nat.le_of_ble_eq_true rfl⟩ ⟨Nat.zero_le _, Nat.zero_le _⟩ hl.1 (Nat.le_of_ble_eq_true rfl) dX0_leads_26 (fun H locs hG => ?_)
  exact kr _ _ (Option.some.inj hf).symm _ _ hG _ _ dX0_leads_29

noncomputable def fC_leads_J65 (w : CW) (x2 : Int32) (x3 : Int32) : Option (Int32 × CW) :=
  if x3 = x2 then
    some (0, w)
  else
    some ((-1), w)

set_option maxHeartbeats 4000000 in
theorem wC_leads_J65 (B : CallFix p m c cX0_leads 6 s args lw_all RX0) (hK : KK X s) {w : CW} {x2 : Int32} {x3 : Int32} {res : Int32 × CW} (hf : fC_leads_J65 w x2 x3 = some res) (kr : ∀ (r : Int32) (w1 : CW), res = (r, w1) → ∀ (H : Heap) (locs : List Loc), GG X (CP X ca fa w1 ++ rest) s.heap H locs → ∀ (pc : Nat) (ls : Array Slot), decode cX0_leads pc = .ok (.ireturn, 1) → W p l e (RMw 4 0 0 92) s m args below meth c H locs 0 0 Q (F0 m pc ls [.int r])) {H : Heap} {locs : List Loc} (hG : GG X (CP X ca fa w ++ rest) s.heap H locs) {ls : Array Slot} (hl : lv_has ls 6 [(2, .int x2), (3, .int x3)]) : W p l e (RMw 4 0 0 92) s m args below meth c H locs 0 0 Q (F0 m 65 ls []) := by
  have hx := B.1
  have hb := B.2.1
  unfold fC_leads_J65 at hf
  refine lv_iload_n hx hb dX0_leads_65 rfl (lv_at hl 1 rfl) ?_
  refine lv_iload_n hx hb dX0_leads_66 rfl (lv_at hl 0 rfl) ?_
  refine lv_icmp_ne (tgt := 74) hx hb dX0_leads_67 (by decide) (fun c_1 => ?_) (fun c_1 => ?_)
  · have hf := ifn c_1 hf
    refine lv_iconst (v := (-1)) hx hb dX0_leads_74 (by decide) ?_
    exact kr _ _ (Option.some.inj hf).symm _ _ hG _ _ dX0_leads_75
  · have hf := ifp c_1 hf
    refine lv_iconst (v := 0) hx hb dX0_leads_70 (by decide) ?_
    refine lv_goto (tgt := 75) hx hb dX0_leads_71 (by decide) ?_
    exact kr _ _ (Option.some.inj hf).symm _ _ hG _ _ dX0_leads_75

noncomputable def fC_leads_L79 (w : CW) (x3 : Int32) (x4 : Int32) : Option ((Int32) ⊕ (((Unit) ⊕ Int32))) :=
  if 5 ≤ x4 then
    some (.inr (.inl ()))
  else
    (fF_beside (cfe w) x3 x4).bind fun r_2 =>
    if r_2 = (-1) then
      (some (x4 + 1)).bind fun x_5 =>
      some (.inl x_5)
    else
      (rd ((cfe w).2.1 5) 70 r_2).bind fun v_7 =>
      if v_7 = (-1) then
        (some (x4 + 1)).bind fun x_10 =>
        some (.inl x_10)
      else
        (rd ((cfe w).2.1 5) 70 r_2).bind fun v_12 =>
        (rd ((cfe w).2.1 5) 70 x3).bind fun v_14 =>
        if v_14 ≤ v_12 then
          (some (x4 + 1)).bind fun x_17 =>
          some (.inl x_17)
        else
          some (.inr (.inr x4))

set_option maxHeartbeats 4000000 in
theorem wC_leads_L79 (B : CallFix p m c cX0_leads 6 s args lw_all RX0) (hK : KK X s) {w : CW} {x3 : Int32} {x4 : Int32} {res : (Int32) ⊕ (((Unit) ⊕ Int32))} (hf : fC_leads_L79 w x3 x4 = some res) (kc : ∀ (y4 : Int32), res = .inl y4 → ∀ (H : Heap) (locs : List Loc), GG X (CP X ca fa w ++ rest) s.heap H locs → ∀ (ls : Array Slot), lv_has ls 6 [(0, .ref (ca 0)), (3, .int x3), (4, .int y4)] → W p l e (RMw 4 0 0 92) s m args below meth c H locs 0 0 Q (F0 m 79 ls [])) (ke148 : res = .inr (.inl ()) → ∀ (H : Heap) (locs : List Loc), GG X (CP X ca fa w ++ rest) s.heap H locs → ∀ (ls : Array Slot), lv_has ls 6 [] → W p l e (RMw 4 0 0 92) s m args below meth c H locs 0 0 Q (F0 m 148 ls [])) (ke139 : ∀ (y4 : Int32), res = .inr (.inr y4) → ∀ (H : Heap) (locs : List Loc), GG X (CP X ca fa w ++ rest) s.heap H locs → ∀ (ls : Array Slot), lv_has ls 6 [(4, .int y4)] → W p l e (RMw 4 0 0 92) s m args below meth c H locs 0 0 Q (F0 m 139 ls [])) {H : Heap} {locs : List Loc} (hG : GG X (CP X ca fa w ++ rest) s.heap H locs) {ls : Array Slot} (hl : lv_has ls 6 [(0, .ref (ca 0)), (3, .int x3), (4, .int x4)]) : W p l e (RMw 4 0 0 92) s m args below meth c H locs 0 0 Q (F0 m 79 ls []) := by
  have hx := B.1
  have hb := B.2.1
  unfold fC_leads_L79 at hf
  refine lv_iload hx hb dX0_leads_79 (lv_at hl 2 rfl) ?_
  refine lv_iconst (v := 5) hx hb dX0_leads_81 (by decide) ?_
  refine lv_icmp_ge (tgt := 148) hx hb dX0_leads_82 (by decide) (fun c_1 => ?_) (fun c_1 => ?_)
  · have hf := ifp c_1 hf
    exact ke148 (Option.some.inj hf).symm _ _ hG _ (lv_sub hl [] rfl)
  · have hf := ifn c_1 hf
    refine lv_aload_n hx hb dX0_leads_85 rfl (lv_at hl 0 rfl) ?_
    refine co_this_g0 B hK hG.1 dX0_leads_86 ?_
    refine lv_iload_n hx hb dX0_leads_89 rfl (lv_at hl 1 rfl) ?_
    refine lv_iload hx hb dX0_leads_90 (lv_at hl 2 rfl) ?_
    obtain ⟨r_2, e_3, hf⟩ := bo hf
    refine cCF_beside B hK hG.2.2 hG.1 e_3 ⟨Nat.le_of_ble_eq_true rfl, Nat.le_of_ble_eq_true rfl⟩ ⟨Nat.zero_le _, Nat.zero_le _⟩ hl.1 (Nat.le_of_ble_eq_true rfl) dX0_leads_92 ?_
    refine lv_istore (lv' := [(5, .int r_2), (0, .ref (ca 0)), (3, .int x3), (4, .int x4)]) hx hb dX0_leads_95 hl (by decide) rfl (fun ls hl => ?_)
    refine lv_iload hx hb dX0_leads_97 (lv_at hl 0 rfl) ?_
    refine lv_iconst (v := (-1)) hx hb dX0_leads_99 (by decide) ?_
    refine lv_icmp_eq (tgt := 142) hx hb dX0_leads_100 (by decide) (fun c_4 => ?_) (fun c_4 => ?_)
    · have hf := ifp c_4 hf
      obtain ⟨x_5, e_6, hf⟩ := bo hf
      refine w_iinc (k := 3) (lv' := [(4, .int x_5), (5, .int r_2), (0, .ref (ca 0)), (3, .int x3)]) e_6 hx hb dX0_leads_142 hl rfl (by decide) rfl (fun ls hl => ?_)
      refine lv_goto (tgt := 79) hx hb dX0_leads_145 (by decide) ?_
      exact kc _ (Option.some.inj hf).symm _ _ hG _ (lv_sub hl [2, 3, 0] rfl)
    · have hf := ifn c_4 hf
      refine lv_aload_n hx hb dX0_leads_103 rfl (lv_at hl 1 rfl) ?_
      refine co_this_g0 B hK hG.1 dX0_leads_104 ?_
      refine co_fen_g5 B hK hG.1 dX0_leads_107 ?_
      refine lv_iload hx hb dX0_leads_110 (lv_at hl 0 rfl) ?_
      obtain ⟨v_7, e_8, hf⟩ := bo hf
      refine co_away_l B hK hG.1 e_8 dX0_leads_112 ?_
      refine lv_iconst (v := (-1)) hx hb dX0_leads_113 (by decide) ?_
      refine lv_icmp_eq (tgt := 142) hx hb dX0_leads_114 (by decide) (fun c_9 => ?_) (fun c_9 => ?_)
      · have hf := ifp c_9 hf
        obtain ⟨x_10, e_11, hf⟩ := bo hf
        refine w_iinc (k := 3) (lv' := [(4, .int x_10), (5, .int r_2), (0, .ref (ca 0)), (3, .int x3)]) e_11 hx hb dX0_leads_142 hl rfl (by decide) rfl (fun ls hl => ?_)
        refine lv_goto (tgt := 79) hx hb dX0_leads_145 (by decide) ?_
        exact kc _ (Option.some.inj hf).symm _ _ hG _ (lv_sub hl [2, 3, 0] rfl)
      · have hf := ifn c_9 hf
        refine lv_aload_n hx hb dX0_leads_117 rfl (lv_at hl 1 rfl) ?_
        refine co_this_g0 B hK hG.1 dX0_leads_118 ?_
        refine co_fen_g5 B hK hG.1 dX0_leads_121 ?_
        refine lv_iload hx hb dX0_leads_124 (lv_at hl 0 rfl) ?_
        obtain ⟨v_12, e_13, hf⟩ := bo hf
        refine co_away_l B hK hG.1 e_13 dX0_leads_126 ?_
        refine lv_aload_n hx hb dX0_leads_127 rfl (lv_at hl 1 rfl) ?_
        refine co_this_g0 B hK hG.1 dX0_leads_128 ?_
        refine co_fen_g5 B hK hG.1 dX0_leads_131 ?_
        refine lv_iload_n hx hb dX0_leads_134 rfl (lv_at hl 2 rfl) ?_
        obtain ⟨v_14, e_15, hf⟩ := bo hf
        refine co_away_l B hK hG.1 e_15 dX0_leads_135 ?_
        refine lv_icmp_ge (tgt := 142) hx hb dX0_leads_136 (by decide) (fun c_16 => ?_) (fun c_16 => ?_)
        · have hf := ifp c_16 hf
          obtain ⟨x_17, e_18, hf⟩ := bo hf
          refine w_iinc (k := 3) (lv' := [(4, .int x_17), (5, .int r_2), (0, .ref (ca 0)), (3, .int x3)]) e_18 hx hb dX0_leads_142 hl rfl (by decide) rfl (fun ls hl => ?_)
          refine lv_goto (tgt := 79) hx hb dX0_leads_145 (by decide) ?_
          exact kc _ (Option.some.inj hf).symm _ _ hG _ (lv_sub hl [2, 3, 0] rfl)
        · have hf := ifn c_16 hf
          exact ke139 _ (Option.some.inj hf).symm _ _ hG _ (lv_sub hl [3] rfl)

set_option maxHeartbeats 4000000 in
theorem vC_leads_L79 (B : CallFix p m c cX0_leads 6 s args lw_all RX0) (hK : KK X s) {w : CW} {x3 : Int32} {x4 : Int32} {res : ((Unit) ⊕ Int32)} (hf : lp (fun q : Int32 => fC_leads_L79 w x3 q) x4 = some res) (ke148 : res = (.inl ()) → ∀ (H : Heap) (locs : List Loc), GG X (CP X ca fa w ++ rest) s.heap H locs → ∀ (ls : Array Slot), lv_has ls 6 [] → W p l e (RMw 4 0 0 92) s m args below meth c H locs 0 0 Q (F0 m 148 ls [])) (ke139 : ∀ (y4 : Int32), res = (.inr y4) → ∀ (H : Heap) (locs : List Loc), GG X (CP X ca fa w ++ rest) s.heap H locs → ∀ (ls : Array Slot), lv_has ls 6 [(4, .int y4)] → W p l e (RMw 4 0 0 92) s m args below meth c H locs 0 0 Q (F0 m 139 ls [])) {H : Heap} {locs : List Loc} (hG : GG X (CP X ca fa w ++ rest) s.heap H locs) {ls : Array Slot} (hl : lv_has ls 6 [(0, .ref (ca 0)), (3, .int x3), (4, .int x4)]) : W p l e (RMw 4 0 0 92) s m args below meth c H locs 0 0 Q (F0 m 79 ls []) := by
  refine lp_ind (r := res) (P := fun q : Int32 => ∀ (H : Heap) (locs : List Loc) (ls : Array Slot), GG X (CP X ca fa w ++ rest) s.heap H locs → lv_has ls 6 [(0, .ref (ca 0)), (3, .int x3), (4, .int q)] → W p l e (RMw 4 0 0 92) s m args below meth c H locs 0 0 Q (F0 m 79 ls [])) ?_ ?_ _ hf _ _ _ hG hl
  · intro q hb H locs ls hG hl
    exact wC_leads_L79 B hK hb (fun _ h => by cases h) (fun h => ke148 (Sum.inr.inj h)) (fun z0 h => ke139 z0 (Sum.inr.inj h)) hG hl
  · intro q q2 hb ih H locs ls hG hl
    exact wC_leads_L79 B hK hb (fun z0 h => by cases h; exact fun H locs hG ls hl => ih H locs ls hG hl) (fun h => by cases h) (fun _ h => by cases h) hG hl

noncomputable def fC_leads (w : CW) (x1 : Int32) (x2 : Int32) : Option (Int32 × CW) :=
  (fF_isWalker (cfe w) x1).bind fun r_1 =>
  if r_1 = 0 then
    fC_leads_J23 w 
  else
    (fF_isCell (cfe w) (x2.toInt64)).bind fun r_4 =>
    if r_4 = 0 then
      fC_leads_J23 w 
    else
      (rd ((cfe w).2.1 2) 4 x1).bind fun v_7 =>
      (fF_spreads (cfe w) x2).bind fun f_10 =>
      (some (cnf w f_10)).bind fun w_11 =>
      if v_7 = x2 then
        fC_leads_J65 w_11 x2 v_7
      else
        (fF_isBog (cfe w_11) x2).bind fun r_14 =>
        if r_14 = 0 then
          (lp (fun q : Int32 => fC_leads_L79 w_11 v_7 q) 1).bind
            (Sum.elim (
              fun _ =>
                some ((-1), w_11)
            )
              (
                fun q_19 => (fun (y_17 : Int32) =>
                  some (y_17, w_11)
                ) q_19
              )
            )
        else
          fC_leads_J65 w_11 x2 v_7

set_option maxHeartbeats 4000000 in
theorem wC_leads (B : CallFix p m c cX0_leads 6 s args lw_all RX0) (hK : KK X s) {w : CW} {x1 : Int32} {x2 : Int32} {res : Int32 × CW} (hf : fC_leads w x1 x2 = some res) (kr : ∀ (r : Int32) (w1 : CW), res = (r, w1) → ∀ (H : Heap) (locs : List Loc), GG X (CP X ca fa w1 ++ rest) s.heap H locs → ∀ (pc : Nat) (ls : Array Slot), decode cX0_leads pc = .ok (.ireturn, 1) → W p l e (RMw 4 0 0 92) s m args below meth c H locs 0 0 Q (F0 m pc ls [.int r])) {H : Heap} {locs : List Loc} (hG : GG X (CP X ca fa w ++ rest) s.heap H locs) {ls : Array Slot} (hl : lv_has ls 6 [(0, .ref (ca 0)), (1, .int x1), (2, .int x2)]) : W p l e (RMw 4 0 0 92) s m args below meth c H locs 0 0 Q (F0 m 0 ls []) := by
  have hx := B.1
  have hb := B.2.1
  unfold fC_leads at hf
  refine lv_aload_n hx hb dX0_leads_0 rfl (lv_at hl 0 rfl) ?_
  refine co_this_g0 B hK hG.1 dX0_leads_1 ?_
  refine lv_iload_n hx hb dX0_leads_4 rfl (lv_at hl 1 rfl) ?_
  obtain ⟨r_1, e_2, hf⟩ := bo hf
  refine cCF_isWalker B hK hG.2.2 hG.1 e_2 ⟨Nat.le_of_ble_eq_true rfl, Nat.le_of_ble_eq_true rfl⟩ ⟨Nat.zero_le _, Nat.zero_le _⟩ hl.1 (Nat.le_of_ble_eq_true rfl) dX0_leads_5 ?_
  refine lv_if_eq (tgt := 23) hx hb dX0_leads_8 (by decide) (fun c_3 => ?_) (fun c_3 => ?_)
  · have hf := ifp c_3 hf
    exact wC_leads_J23 B hK hf kr hG (lv_sub hl [0] rfl)
  · have hf := ifn c_3 hf
    refine lv_aload_n hx hb dX0_leads_11 rfl (lv_at hl 0 rfl) ?_
    refine co_this_g0 B hK hG.1 dX0_leads_12 ?_
    refine lv_iload_n hx hb dX0_leads_15 rfl (lv_at hl 2 rfl) ?_
    refine lv_i2l hx hb dX0_leads_16 rfl ?_
    obtain ⟨r_4, e_5, hf⟩ := bo hf
    refine cCF_isCell B hK hG.2.2 hG.1 e_5 ⟨Nat.le_of_ble_eq_true rfl, Nat.le_of_ble_eq_true rfl⟩ ⟨Nat.zero_le _, Nat.zero_le _⟩ hl.1 (Nat.le_of_ble_eq_true rfl) dX0_leads_17 ?_
    refine lv_if_ne (tgt := 30) hx hb dX0_leads_20 (by decide) (fun c_6 => ?_) (fun c_6 => ?_)
    · have hf := ifn c_6 hf
      refine lv_aload_n hx hb dX0_leads_30 rfl (lv_at hl 0 rfl) ?_
      refine co_this_g0 B hK hG.1 dX0_leads_31 ?_
      refine co_fen_g2 B hK hG.1 dX0_leads_34 ?_
      refine lv_iload_n hx hb dX0_leads_37 rfl (lv_at hl 1 rfl) ?_
      obtain ⟨v_7, e_8, hf⟩ := bo hf
      refine co_cell_l B hK hG.1 e_8 dX0_leads_38 ?_
      refine lv_istore_n (lv' := [(3, .int v_7), (0, .ref (ca 0)), (1, .int x1), (2, .int x2)]) hx hb dX0_leads_39 rfl hl (by decide) rfl (fun ls hl => ?_)
      refine lv_aload_n hx hb dX0_leads_40 rfl (lv_at hl 1 rfl) ?_
      refine co_this_g0 B hK hG.1 dX0_leads_41 ?_
      refine lv_iload_n hx hb dX0_leads_44 rfl (lv_at hl 3 rfl) ?_
      obtain ⟨f_10, e_9, hf⟩ := bo hf
      obtain ⟨w_11, e_12, hf⟩ := bo hf
      refine cCF_spreads B hK hG e_9 e_12 ⟨Nat.le_of_ble_eq_true rfl, Nat.le_of_ble_eq_true rfl⟩ ⟨Nat.zero_le _, Nat.zero_le _⟩ hl.1 (Nat.le_of_ble_eq_true rfl) dX0_leads_45 (fun H locs hG => ?_)
      refine lv_pop hx hb dX0_leads_48 rfl ?_
      refine lv_iload_n hx hb dX0_leads_49 rfl (lv_at hl 0 rfl) ?_
      refine lv_iload_n hx hb dX0_leads_50 rfl (lv_at hl 3 rfl) ?_
      refine lv_icmp_eq (tgt := 65) hx hb dX0_leads_51 (by decide) (fun c_13 => ?_) (fun c_13 => ?_)
      · have hf := ifp c_13 hf
        exact wC_leads_J65 B hK hf kr hG (lv_sub hl [3, 0] rfl)
      · have hf := ifn c_13 hf
        refine lv_aload_n hx hb dX0_leads_54 rfl (lv_at hl 1 rfl) ?_
        refine co_this_g0 B hK hG.1 dX0_leads_55 ?_
        refine lv_iload_n hx hb dX0_leads_58 rfl (lv_at hl 3 rfl) ?_
        obtain ⟨r_14, e_15, hf⟩ := bo hf
        refine cCF_isBog B hK hG.2.2 hG.1 e_15 ⟨Nat.le_of_ble_eq_true rfl, Nat.le_of_ble_eq_true rfl⟩ ⟨Nat.zero_le _, Nat.zero_le _⟩ hl.1 (Nat.le_of_ble_eq_true rfl) dX0_leads_59 ?_
        refine lv_if_eq (tgt := 76) hx hb dX0_leads_62 (by decide) (fun c_16 => ?_) (fun c_16 => ?_)
        · have hf := ifp c_16 hf
          refine lv_iconst (v := 1) hx hb dX0_leads_76 (by decide) ?_
          refine lv_istore (lv' := [(4, .int 1), (3, .int v_7), (0, .ref (ca 0)), (1, .int x1), (2, .int x2)]) hx hb dX0_leads_77 hl (by decide) rfl (fun ls hl => ?_)
          rcases bs hf with ⟨⟨⟩, e_20, hf⟩ | ⟨y_17, e_20, hf⟩
          · refine vC_leads_L79 B hK e_20 ?_ (fun _ h => by cases h) hG (lv_sub hl [2, 1, 0] rfl)
            intro hz
            intro H locs hG ls hl
            refine lv_iconst (v := (-1)) hx hb dX0_leads_148 (by decide) ?_
            exact kr _ _ (Option.some.inj hf).symm _ _ hG _ _ dX0_leads_149
          · try dsimp only at hf
            refine vC_leads_L79 B hK e_20 (fun h => by cases h) ?_ hG (lv_sub hl [2, 1, 0] rfl)
            intro z0 hz
            cases hz
            intro H locs hG ls hl
            refine lv_iload hx hb dX0_leads_139 (lv_at hl 0 rfl) ?_
            exact kr _ _ (Option.some.inj hf).symm _ _ hG _ _ dX0_leads_141
        · have hf := ifn c_16 hf
          exact wC_leads_J65 B hK hf kr hG (lv_sub hl [3, 0] rfl)
    · have hf := ifp c_6 hf
      exact wC_leads_J23 B hK hf kr hG (lv_sub hl [0] rfl)

theorem tC_leads (l : Launch) (X : CX) (ca fa : Nat → Nat) (rest : va_W) (w w' : CW) (x1 : Int32) (x2 : Int32) (r : Int32) (hf : fC_leads w x1 x2 = some (r, w')) : RW l yX0_leads cX0_leads 6 (some .int) 4 0 0 92 [.ref (ca 0), .int x1, .int x2] X (CP X ca fa w ++ rest) (CP X ca fa (w') ++ rest) (some (.int r)) := by
  refine RW.mk (by decide) (Nat.le_of_ble_eq_true rfl) ?_
  intro p e s m below meth c B hr hlk hK hG ls hl
  exact wC_leads B hK hf (fun r w h H locs hG pc ls hd => by cases h; exact w_iretW B hr hlk hG hd) hG hl
end S_C_leads

section S_C_reach
variable {p : Program} {l : Launch} {e : Env} {R : Room} {s : State} {m : MethodId} {args : Array Value} {below : List Frame} {meth : Method} {c : Code} {H : Heap} {locs : List Loc} {cells slots : Nat} {Q : State → Prop} {cc : ByteArray} {nL pc : Nat} {ls : Array Slot} {st : List Value} {X : CX} {rest : va_W} {ca fa : Nat → Nat}
noncomputable def fC_reach_J22 (w : CW)  : Option (Int32 × CW) :=
  b2 (fC_no w (-2)) fun r_5 f_2 =>
  (some (f_2)).bind fun w_3 =>
  some (r_5, w_3)

set_option maxHeartbeats 4000000 in
theorem wC_reach_J22 (B : CallFix p m c cX0_reach 8 s args lw_all RX0) (hK : KK X s) {w : CW}  {res : Int32 × CW} (hf : fC_reach_J22 w  = some res) (kr : ∀ (r : Int32) (w1 : CW), res = (r, w1) → ∀ (H : Heap) (locs : List Loc), GG X (CP X ca fa w1 ++ rest) s.heap H locs → ∀ (pc : Nat) (ls : Array Slot), decode cX0_reach pc = .ok (.ireturn, 1) → W p l e (RMw 4 0 0 92) s m args below meth c H locs 0 0 Q (F0 m pc ls [.int r])) {H : Heap} {locs : List Loc} (hG : GG X (CP X ca fa w ++ rest) s.heap H locs) {ls : Array Slot} (hl : lv_has ls 8 [(0, .ref (ca 0))]) : W p l e (RMw 4 0 0 92) s m args below meth c H locs 0 0 Q (F0 m 22 ls []) := by
  have hx := B.1
  have hb := B.2.1
  unfold fC_reach_J22 at hf
  refine lv_aload_n hx hb dX0_reach_22 rfl (lv_at hl 0 rfl) ?_
  refine lv_bipush (v := (-2)) hx hb dX0_reach_23 (by decide) ?_
  obtain ⟨r_5, f_2, e_1, hf⟩ := b2s hf
  obtain ⟨w_3, e_4, hf⟩ := bo hf
  refine cC_no B hK hG e_1 e_4 ⟨Nat.le_of_ble_eq_true rfl, Nat.le_of_ble_eq_true rfl⟩ ⟨Nat.zero_le _, Nat.zero_le _⟩ hl.1 (Nat.le_of_ble_eq_true rfl) dX0_reach_25 (fun H locs hG => ?_)
  exact kr _ _ (Option.some.inj hf).symm _ _ hG _ _ dX0_reach_28

noncomputable def fC_reach_J81_L49 (w : CW) (x2 : Int32) (x5 : Int32) (x6 : Int32) (t0 : Int32) (t1 : Int32) : Option ((Int32 × Int32) ⊕ (Int32)) :=
  (some (t0 + t1)).bind fun x_1 =>
  (some (x6 + 1)).bind fun x_3 =>
  some (.inl (x_1, x_3))

set_option maxHeartbeats 4000000 in
theorem wC_reach_J81_L49 (B : CallFix p m c cX0_reach 8 s args lw_all RX0) (hK : KK X s) {w : CW} {x2 : Int32} {x5 : Int32} {x6 : Int32} {t0 : Int32} {t1 : Int32} {res : (Int32 × Int32) ⊕ (Int32)} (hf : fC_reach_J81_L49 w x2 x5 x6 t0 t1 = some res) (kc : ∀ (y3 : Int32) (y6 : Int32), res = .inl (y3, y6) → ∀ (H : Heap) (locs : List Loc), GG X (CP X ca fa w ++ rest) s.heap H locs → ∀ (ls : Array Slot), lv_has ls 8 [(2, .int x2), (3, .int y3), (4, .ref (fa 6)), (5, .int x5), (6, .int y6)] → W p l e (RMw 4 0 0 92) s m args below meth c H locs 0 0 Q (F0 m 49 ls [])) (ke89 : ∀ (y3 : Int32), res = .inr y3 → ∀ (H : Heap) (locs : List Loc), GG X (CP X ca fa w ++ rest) s.heap H locs → ∀ (ls : Array Slot), lv_has ls 8 [(3, .int y3)] → W p l e (RMw 4 0 0 92) s m args below meth c H locs 0 0 Q (F0 m 89 ls [])) {H : Heap} {locs : List Loc} (hG : GG X (CP X ca fa w ++ rest) s.heap H locs) {ls : Array Slot} (hl : lv_has ls 8 [(2, .int x2), (4, .ref (fa 6)), (5, .int x5), (6, .int x6)]) : W p l e (RMw 4 0 0 92) s m args below meth c H locs 0 0 Q (F0 m 81 ls [.int t1, .int t0]) := by
  have hx := B.1
  have hb := B.2.1
  unfold fC_reach_J81_L49 at hf
  refine lv_iadd hx hb dX0_reach_81 ?_
  obtain ⟨x_1, e_2, hf⟩ := bo hf
  refine w_istore_n (lv' := [(3, .int x_1), (2, .int x2), (4, .ref (fa 6)), (5, .int x5), (6, .int x6)]) e_2 hx hb dX0_reach_82 rfl hl (by decide) rfl (fun ls hl => ?_)
  obtain ⟨x_3, e_4, hf⟩ := bo hf
  refine w_iinc (k := 4) (lv' := [(6, .int x_3), (3, .int x_1), (2, .int x2), (4, .ref (fa 6)), (5, .int x5)]) e_4 hx hb dX0_reach_83 hl rfl (by decide) rfl (fun ls hl => ?_)
  refine lv_goto (tgt := 49) hx hb dX0_reach_86 (by decide) ?_
  exact kc _ _ (Option.some.inj hf).symm _ _ hG _ (lv_sub hl [2, 1, 3, 4, 0] rfl)

noncomputable def fC_reach_J80_L49 (w : CW) (x2 : Int32) (x5 : Int32) (x6 : Int32) (t0 : Int32) : Option ((Int32 × Int32) ⊕ (Int32)) :=
  fC_reach_J81_L49 w x2 x5 x6 t0 0

set_option maxHeartbeats 4000000 in
theorem wC_reach_J80_L49 (B : CallFix p m c cX0_reach 8 s args lw_all RX0) (hK : KK X s) {w : CW} {x2 : Int32} {x5 : Int32} {x6 : Int32} {t0 : Int32} {res : (Int32 × Int32) ⊕ (Int32)} (hf : fC_reach_J80_L49 w x2 x5 x6 t0 = some res) (kc : ∀ (y3 : Int32) (y6 : Int32), res = .inl (y3, y6) → ∀ (H : Heap) (locs : List Loc), GG X (CP X ca fa w ++ rest) s.heap H locs → ∀ (ls : Array Slot), lv_has ls 8 [(2, .int x2), (3, .int y3), (4, .ref (fa 6)), (5, .int x5), (6, .int y6)] → W p l e (RMw 4 0 0 92) s m args below meth c H locs 0 0 Q (F0 m 49 ls [])) (ke89 : ∀ (y3 : Int32), res = .inr y3 → ∀ (H : Heap) (locs : List Loc), GG X (CP X ca fa w ++ rest) s.heap H locs → ∀ (ls : Array Slot), lv_has ls 8 [(3, .int y3)] → W p l e (RMw 4 0 0 92) s m args below meth c H locs 0 0 Q (F0 m 89 ls [])) {H : Heap} {locs : List Loc} (hG : GG X (CP X ca fa w ++ rest) s.heap H locs) {ls : Array Slot} (hl : lv_has ls 8 [(2, .int x2), (4, .ref (fa 6)), (5, .int x5), (6, .int x6)]) : W p l e (RMw 4 0 0 92) s m args below meth c H locs 0 0 Q (F0 m 80 ls [.int t0]) := by
  have hx := B.1
  have hb := B.2.1
  unfold fC_reach_J80_L49 at hf
  refine lv_iconst (v := 0) hx hb dX0_reach_80 (by decide) ?_
  exact wC_reach_J81_L49 B hK hf kc ke89 hG hl

noncomputable def fC_reach_L49 (w : CW) (x2 : Int32) (x3 : Int32) (x5 : Int32) (x6 : Int32) : Option ((Int32 × Int32) ⊕ (Int32)) :=
  if x5 ≤ x6 then
    some (.inr x3)
  else
    (rd ((cfe w).2.1 5) 70 x6).bind fun v_2 =>
    if v_2 = (-1) then
      fC_reach_J80_L49 w x2 x5 x6 x3
    else
      if x2 < v_2 then
        fC_reach_J80_L49 w x2 x5 x6 x3
      else
        fC_reach_J81_L49 w x2 x5 x6 x3 1

set_option maxHeartbeats 4000000 in
theorem wC_reach_L49 (B : CallFix p m c cX0_reach 8 s args lw_all RX0) (hK : KK X s) {w : CW} {x2 : Int32} {x3 : Int32} {x5 : Int32} {x6 : Int32} {res : (Int32 × Int32) ⊕ (Int32)} (hf : fC_reach_L49 w x2 x3 x5 x6 = some res) (kc : ∀ (y3 : Int32) (y6 : Int32), res = .inl (y3, y6) → ∀ (H : Heap) (locs : List Loc), GG X (CP X ca fa w ++ rest) s.heap H locs → ∀ (ls : Array Slot), lv_has ls 8 [(2, .int x2), (3, .int y3), (4, .ref (fa 6)), (5, .int x5), (6, .int y6)] → W p l e (RMw 4 0 0 92) s m args below meth c H locs 0 0 Q (F0 m 49 ls [])) (ke89 : ∀ (y3 : Int32), res = .inr y3 → ∀ (H : Heap) (locs : List Loc), GG X (CP X ca fa w ++ rest) s.heap H locs → ∀ (ls : Array Slot), lv_has ls 8 [(3, .int y3)] → W p l e (RMw 4 0 0 92) s m args below meth c H locs 0 0 Q (F0 m 89 ls [])) {H : Heap} {locs : List Loc} (hG : GG X (CP X ca fa w ++ rest) s.heap H locs) {ls : Array Slot} (hl : lv_has ls 8 [(2, .int x2), (3, .int x3), (4, .ref (fa 6)), (5, .int x5), (6, .int x6)]) : W p l e (RMw 4 0 0 92) s m args below meth c H locs 0 0 Q (F0 m 49 ls []) := by
  have hx := B.1
  have hb := B.2.1
  unfold fC_reach_L49 at hf
  refine lv_iload hx hb dX0_reach_49 (lv_at hl 4 rfl) ?_
  refine lv_iload hx hb dX0_reach_51 (lv_at hl 3 rfl) ?_
  refine lv_icmp_ge (tgt := 89) hx hb dX0_reach_53 (by decide) (fun c_1 => ?_) (fun c_1 => ?_)
  · have hf := ifp c_1 hf
    exact ke89 _ (Option.some.inj hf).symm _ _ hG _ (lv_sub hl [1] rfl)
  · have hf := ifn c_1 hf
    refine lv_aload hx hb dX0_reach_56 (lv_at hl 2 rfl) ?_
    refine lv_iload hx hb dX0_reach_58 (lv_at hl 4 rfl) ?_
    obtain ⟨v_2, e_3, hf⟩ := bo hf
    refine co_away_l B hK hG.1 e_3 dX0_reach_60 ?_
    refine lv_istore (lv' := [(7, .int v_2), (2, .int x2), (3, .int x3), (4, .ref (fa 6)), (5, .int x5), (6, .int x6)]) hx hb dX0_reach_61 hl (by decide) rfl (fun ls hl => ?_)
    refine lv_iload_n hx hb dX0_reach_63 rfl (lv_at hl 2 rfl) ?_
    refine lv_iload hx hb dX0_reach_64 (lv_at hl 0 rfl) ?_
    refine lv_iconst (v := (-1)) hx hb dX0_reach_66 (by decide) ?_
    refine lv_icmp_eq (tgt := 80) hx hb dX0_reach_67 (by decide) (fun c_4 => ?_) (fun c_4 => ?_)
    · have hf := ifp c_4 hf
      exact wC_reach_J80_L49 B hK hf kc ke89 hG (lv_sub hl [1, 3, 4, 5] rfl)
    · have hf := ifn c_4 hf
      refine lv_iload hx hb dX0_reach_70 (lv_at hl 0 rfl) ?_
      refine lv_iload_n hx hb dX0_reach_72 rfl (lv_at hl 1 rfl) ?_
      refine lv_icmp_gt (tgt := 80) hx hb dX0_reach_73 (by decide) (fun c_5 => ?_) (fun c_5 => ?_)
      · have hf := ifp c_5 hf
        exact wC_reach_J80_L49 B hK hf kc ke89 hG (lv_sub hl [1, 3, 4, 5] rfl)
      · have hf := ifn c_5 hf
        refine lv_iconst (v := 1) hx hb dX0_reach_76 (by decide) ?_
        refine lv_goto (tgt := 81) hx hb dX0_reach_77 (by decide) ?_
        exact wC_reach_J81_L49 B hK hf kc ke89 hG (lv_sub hl [1, 3, 4, 5] rfl)

set_option maxHeartbeats 4000000 in
theorem vC_reach_L49 (B : CallFix p m c cX0_reach 8 s args lw_all RX0) (hK : KK X s) {w : CW} {x2 : Int32} {x3 : Int32} {x5 : Int32} {x6 : Int32} {res : Int32} (hf : lp (fun q : Int32 × Int32 => fC_reach_L49 w x2 q.1 x5 q.2) (x3, x6) = some res) (ke89 : ∀ (y3 : Int32), res = y3 → ∀ (H : Heap) (locs : List Loc), GG X (CP X ca fa w ++ rest) s.heap H locs → ∀ (ls : Array Slot), lv_has ls 8 [(3, .int y3)] → W p l e (RMw 4 0 0 92) s m args below meth c H locs 0 0 Q (F0 m 89 ls [])) {H : Heap} {locs : List Loc} (hG : GG X (CP X ca fa w ++ rest) s.heap H locs) {ls : Array Slot} (hl : lv_has ls 8 [(2, .int x2), (3, .int x3), (4, .ref (fa 6)), (5, .int x5), (6, .int x6)]) : W p l e (RMw 4 0 0 92) s m args below meth c H locs 0 0 Q (F0 m 49 ls []) := by
  refine lp_ind (r := res) (P := fun q : Int32 × Int32 => ∀ (H : Heap) (locs : List Loc) (ls : Array Slot), GG X (CP X ca fa w ++ rest) s.heap H locs → lv_has ls 8 [(2, .int x2), (3, .int q.1), (4, .ref (fa 6)), (5, .int x5), (6, .int q.2)] → W p l e (RMw 4 0 0 92) s m args below meth c H locs 0 0 Q (F0 m 49 ls [])) ?_ ?_ _ hf _ _ _ hG hl
  · intro q hb H locs ls hG hl
    exact wC_reach_L49 B hK hb (fun _ _ h => by cases h) (fun z0 h => ke89 z0 (Sum.inr.inj h)) hG hl
  · intro q q2 hb ih H locs ls hG hl
    exact wC_reach_L49 B hK hb (fun z0 z1 h => by cases h; exact fun H locs hG ls hl => ih H locs ls hG hl) (fun _ h => by cases h) hG hl

noncomputable def fC_reach (w : CW) (x1 : Int32) (x2 : Int32) : Option (Int32 × CW) :=
  (fF_isCell (cfe w) (x1.toInt64)).bind fun r_1 =>
  if r_1 = 0 then
    fC_reach_J22 w 
  else
    (fC_isIn x2 0 70).bind fun r_4 =>
    if r_4 = 0 then
      fC_reach_J22 w 
    else
      (fF_spreads (cfe w) x1).bind fun f_8 =>
      (some (cnf w f_8)).bind fun w_9 =>
      (lp (fun q : Int32 × Int32 => fC_reach_L49 w_9 x2 q.1 70 q.2) (0, 0)).bind (
        fun q_12 => (fun (y_11 : Int32) =>
          some (y_11, w_9)
        ) q_12
      )

set_option maxHeartbeats 4000000 in
theorem wC_reach (B : CallFix p m c cX0_reach 8 s args lw_all RX0) (hK : KK X s) {w : CW} {x1 : Int32} {x2 : Int32} {res : Int32 × CW} (hf : fC_reach w x1 x2 = some res) (kr : ∀ (r : Int32) (w1 : CW), res = (r, w1) → ∀ (H : Heap) (locs : List Loc), GG X (CP X ca fa w1 ++ rest) s.heap H locs → ∀ (pc : Nat) (ls : Array Slot), decode cX0_reach pc = .ok (.ireturn, 1) → W p l e (RMw 4 0 0 92) s m args below meth c H locs 0 0 Q (F0 m pc ls [.int r])) {H : Heap} {locs : List Loc} (hG : GG X (CP X ca fa w ++ rest) s.heap H locs) {ls : Array Slot} (hl : lv_has ls 8 [(0, .ref (ca 0)), (1, .int x1), (2, .int x2)]) : W p l e (RMw 4 0 0 92) s m args below meth c H locs 0 0 Q (F0 m 0 ls []) := by
  have hx := B.1
  have hb := B.2.1
  unfold fC_reach at hf
  refine lv_aload_n hx hb dX0_reach_0 rfl (lv_at hl 0 rfl) ?_
  refine co_this_g0 B hK hG.1 dX0_reach_1 ?_
  refine lv_iload_n hx hb dX0_reach_4 rfl (lv_at hl 1 rfl) ?_
  refine lv_i2l hx hb dX0_reach_5 rfl ?_
  obtain ⟨r_1, e_2, hf⟩ := bo hf
  refine cCF_isCell B hK hG.2.2 hG.1 e_2 ⟨Nat.le_of_ble_eq_true rfl, Nat.le_of_ble_eq_true rfl⟩ ⟨Nat.zero_le _, Nat.zero_le _⟩ hl.1 (Nat.le_of_ble_eq_true rfl) dX0_reach_6 ?_
  refine lv_if_eq (tgt := 22) hx hb dX0_reach_9 (by decide) (fun c_3 => ?_) (fun c_3 => ?_)
  · have hf := ifp c_3 hf
    exact wC_reach_J22 B hK hf kr hG (lv_sub hl [0] rfl)
  · have hf := ifn c_3 hf
    refine lv_iload_n hx hb dX0_reach_12 rfl (lv_at hl 2 rfl) ?_
    refine lv_iconst (v := 0) hx hb dX0_reach_13 (by decide) ?_
    refine lv_bipush (v := 70) hx hb dX0_reach_14 (by decide) ?_
    obtain ⟨r_4, e_5, hf⟩ := bo hf
    refine cC_isIn B e_5 ⟨Nat.le_of_ble_eq_true rfl, Nat.le_of_ble_eq_true rfl⟩ ⟨Nat.zero_le _, Nat.zero_le _⟩ hl.1 (Nat.le_of_ble_eq_true rfl) dX0_reach_16 ?_
    refine lv_if_ne (tgt := 29) hx hb dX0_reach_19 (by decide) (fun c_6 => ?_) (fun c_6 => ?_)
    · have hf := ifn c_6 hf
      refine lv_iconst (v := 0) hx hb dX0_reach_29 (by decide) ?_
      refine lv_istore_n (lv' := [(3, .int 0), (0, .ref (ca 0)), (1, .int x1), (2, .int x2)]) hx hb dX0_reach_30 rfl hl (by decide) rfl (fun ls hl => ?_)
      refine lv_aload_n hx hb dX0_reach_31 rfl (lv_at hl 1 rfl) ?_
      refine co_this_g0 B hK hG.1 dX0_reach_32 ?_
      refine lv_iload_n hx hb dX0_reach_35 rfl (lv_at hl 2 rfl) ?_
      obtain ⟨f_8, e_7, hf⟩ := bo hf
      obtain ⟨w_9, e_10, hf⟩ := bo hf
      refine cCF_spreads B hK hG e_7 e_10 ⟨Nat.le_of_ble_eq_true rfl, Nat.le_of_ble_eq_true rfl⟩ ⟨Nat.zero_le _, Nat.zero_le _⟩ hl.1 (Nat.le_of_ble_eq_true rfl) dX0_reach_36 (fun H locs hG => ?_)
      refine lv_astore (lv' := [(4, .ref (fa 6)), (3, .int 0), (0, .ref (ca 0)), (1, .int x1), (2, .int x2)]) hx hb dX0_reach_39 hl (by decide) rfl (fun ls hl => ?_)
      refine lv_aload hx hb dX0_reach_41 (lv_at hl 0 rfl) ?_
      refine co_away_n B hK hG.1 dX0_reach_43 ?_
      refine lv_istore (lv' := [(5, .int 70), (4, .ref (fa 6)), (3, .int 0), (0, .ref (ca 0)), (1, .int x1), (2, .int x2)]) hx hb dX0_reach_44 hl (by decide) rfl (fun ls hl => ?_)
      refine lv_iconst (v := 0) hx hb dX0_reach_46 (by decide) ?_
      refine lv_istore (lv' := [(6, .int 0), (5, .int 70), (4, .ref (fa 6)), (3, .int 0), (0, .ref (ca 0)), (1, .int x1), (2, .int x2)]) hx hb dX0_reach_47 hl (by decide) rfl (fun ls hl => ?_)
      obtain ⟨y_11, e_13, hf⟩ := bo hf
      try dsimp only at hf
      refine vC_reach_L49 B hK e_13 ?_ hG (lv_sub hl [6, 3, 2, 1, 0] rfl)
      intro z0 hz
      cases hz
      intro H locs hG ls hl
      refine lv_iload_n hx hb dX0_reach_89 rfl (lv_at hl 0 rfl) ?_
      exact kr _ _ (Option.some.inj hf).symm _ _ hG _ _ dX0_reach_90
    · have hf := ifp c_6 hf
      exact wC_reach_J22 B hK hf kr hG (lv_sub hl [0] rfl)

theorem tC_reach (l : Launch) (X : CX) (ca fa : Nat → Nat) (rest : va_W) (w w' : CW) (x1 : Int32) (x2 : Int32) (r : Int32) (hf : fC_reach w x1 x2 = some (r, w')) : RW l yX0_reach cX0_reach 8 (some .int) 4 0 0 92 [.ref (ca 0), .int x1, .int x2] X (CP X ca fa w ++ rest) (CP X ca fa (w') ++ rest) (some (.int r)) := by
  refine RW.mk (by decide) (Nat.le_of_ble_eq_true rfl) ?_
  intro p e s m below meth c B hr hlk hK hG ls hl
  exact wC_reach B hK hf (fun r w h H locs hG pc ls hd => by cases h; exact w_iretW B hr hlk hG hd) hG hl
end S_C_reach

section S_C_open
variable {p : Program} {l : Launch} {e : Env} {R : Room} {s : State} {m : MethodId} {args : Array Value} {below : List Frame} {meth : Method} {c : Code} {H : Heap} {locs : List Loc} {cells slots : Nat} {Q : State → Prop} {cc : ByteArray} {nL pc : Nat} {ls : Array Slot} {st : List Value} {X : CX} {rest : va_W} {ca fa : Nat → Nat}
noncomputable def fC_open_J47_L23 (w : CW) (x1 : Int32) (x3 : Int32) (t0 : Int32) (t1 : Int32) : Option ((Int32 × Int32) ⊕ (Int32)) :=
  (some (t0 + t1)).bind fun x_1 =>
  (some (x3 + 1)).bind fun x_3 =>
  some (.inl (x_1, x_3))

set_option maxHeartbeats 4000000 in
theorem wC_open_J47_L23 (B : CallFix p m c cX0_open 4 s args lw_all RX0) (hK : KK X s) {w : CW} {x1 : Int32} {x3 : Int32} {t0 : Int32} {t1 : Int32} {res : (Int32 × Int32) ⊕ (Int32)} (hf : fC_open_J47_L23 w x1 x3 t0 t1 = some res) (kc : ∀ (y2 : Int32) (y3 : Int32), res = .inl (y2, y3) → ∀ (H : Heap) (locs : List Loc), GG X (CP X ca fa w ++ rest) s.heap H locs → ∀ (ls : Array Slot), lv_has ls 4 [(0, .ref (ca 0)), (1, .int x1), (2, .int y2), (3, .int y3)] → W p l e (RMw 3 0 0 67) s m args below meth c H locs 0 0 Q (F0 m 23 ls [])) (ke55 : ∀ (y2 : Int32), res = .inr y2 → ∀ (H : Heap) (locs : List Loc), GG X (CP X ca fa w ++ rest) s.heap H locs → ∀ (ls : Array Slot), lv_has ls 4 [(2, .int y2)] → W p l e (RMw 3 0 0 67) s m args below meth c H locs 0 0 Q (F0 m 55 ls [])) {H : Heap} {locs : List Loc} (hG : GG X (CP X ca fa w ++ rest) s.heap H locs) {ls : Array Slot} (hl : lv_has ls 4 [(0, .ref (ca 0)), (1, .int x1), (3, .int x3)]) : W p l e (RMw 3 0 0 67) s m args below meth c H locs 0 0 Q (F0 m 47 ls [.int t1, .int t0]) := by
  have hx := B.1
  have hb := B.2.1
  unfold fC_open_J47_L23 at hf
  refine lv_iadd hx hb dX0_open_47 ?_
  obtain ⟨x_1, e_2, hf⟩ := bo hf
  refine w_istore_n (lv' := [(2, .int x_1), (0, .ref (ca 0)), (1, .int x1), (3, .int x3)]) e_2 hx hb dX0_open_48 rfl hl (by decide) rfl (fun ls hl => ?_)
  obtain ⟨x_3, e_4, hf⟩ := bo hf
  refine w_iinc (k := 3) (lv' := [(3, .int x_3), (2, .int x_1), (0, .ref (ca 0)), (1, .int x1)]) e_4 hx hb dX0_open_49 hl rfl (by decide) rfl (fun ls hl => ?_)
  refine lv_goto (tgt := 23) hx hb dX0_open_52 (by decide) ?_
  exact kc _ _ (Option.some.inj hf).symm _ _ hG _ (lv_sub hl [2, 3, 1, 0] rfl)

noncomputable def fC_open_L23 (w : CW) (x1 : Int32) (x2 : Int32) (x3 : Int32) : Option ((Int32 × Int32) ⊕ (Int32)) :=
  if 5 ≤ x3 then
    some (.inr x2)
  else
    (fF_beside (cfe w) x1 x3).bind fun r_2 =>
    if r_2 = (-1) then
      fC_open_J47_L23 w x1 x3 x2 0
    else
      fC_open_J47_L23 w x1 x3 x2 1

set_option maxHeartbeats 4000000 in
theorem wC_open_L23 (B : CallFix p m c cX0_open 4 s args lw_all RX0) (hK : KK X s) {w : CW} {x1 : Int32} {x2 : Int32} {x3 : Int32} {res : (Int32 × Int32) ⊕ (Int32)} (hf : fC_open_L23 w x1 x2 x3 = some res) (kc : ∀ (y2 : Int32) (y3 : Int32), res = .inl (y2, y3) → ∀ (H : Heap) (locs : List Loc), GG X (CP X ca fa w ++ rest) s.heap H locs → ∀ (ls : Array Slot), lv_has ls 4 [(0, .ref (ca 0)), (1, .int x1), (2, .int y2), (3, .int y3)] → W p l e (RMw 3 0 0 67) s m args below meth c H locs 0 0 Q (F0 m 23 ls [])) (ke55 : ∀ (y2 : Int32), res = .inr y2 → ∀ (H : Heap) (locs : List Loc), GG X (CP X ca fa w ++ rest) s.heap H locs → ∀ (ls : Array Slot), lv_has ls 4 [(2, .int y2)] → W p l e (RMw 3 0 0 67) s m args below meth c H locs 0 0 Q (F0 m 55 ls [])) {H : Heap} {locs : List Loc} (hG : GG X (CP X ca fa w ++ rest) s.heap H locs) {ls : Array Slot} (hl : lv_has ls 4 [(0, .ref (ca 0)), (1, .int x1), (2, .int x2), (3, .int x3)]) : W p l e (RMw 3 0 0 67) s m args below meth c H locs 0 0 Q (F0 m 23 ls []) := by
  have hx := B.1
  have hb := B.2.1
  unfold fC_open_L23 at hf
  refine lv_iload_n hx hb dX0_open_23 rfl (lv_at hl 3 rfl) ?_
  refine lv_iconst (v := 5) hx hb dX0_open_24 (by decide) ?_
  refine lv_icmp_ge (tgt := 55) hx hb dX0_open_25 (by decide) (fun c_1 => ?_) (fun c_1 => ?_)
  · have hf := ifp c_1 hf
    exact ke55 _ (Option.some.inj hf).symm _ _ hG _ (lv_sub hl [2] rfl)
  · have hf := ifn c_1 hf
    refine lv_iload_n hx hb dX0_open_28 rfl (lv_at hl 2 rfl) ?_
    refine lv_aload_n hx hb dX0_open_29 rfl (lv_at hl 0 rfl) ?_
    refine co_this_g0 B hK hG.1 dX0_open_30 ?_
    refine lv_iload_n hx hb dX0_open_33 rfl (lv_at hl 1 rfl) ?_
    refine lv_iload_n hx hb dX0_open_34 rfl (lv_at hl 3 rfl) ?_
    obtain ⟨r_2, e_3, hf⟩ := bo hf
    refine cCF_beside B hK hG.2.2 hG.1 e_3 ⟨Nat.le_of_ble_eq_true rfl, Nat.le_of_ble_eq_true rfl⟩ ⟨Nat.zero_le _, Nat.zero_le _⟩ hl.1 (Nat.le_of_ble_eq_true rfl) dX0_open_35 ?_
    refine lv_iconst (v := (-1)) hx hb dX0_open_38 (by decide) ?_
    refine lv_icmp_eq (tgt := 46) hx hb dX0_open_39 (by decide) (fun c_4 => ?_) (fun c_4 => ?_)
    · have hf := ifp c_4 hf
      refine lv_iconst (v := 0) hx hb dX0_open_46 (by decide) ?_
      exact wC_open_J47_L23 B hK hf kc ke55 hG (lv_sub hl [0, 1, 3] rfl)
    · have hf := ifn c_4 hf
      refine lv_iconst (v := 1) hx hb dX0_open_42 (by decide) ?_
      refine lv_goto (tgt := 47) hx hb dX0_open_43 (by decide) ?_
      exact wC_open_J47_L23 B hK hf kc ke55 hG (lv_sub hl [0, 1, 3] rfl)

set_option maxHeartbeats 4000000 in
theorem vC_open_L23 (B : CallFix p m c cX0_open 4 s args lw_all RX0) (hK : KK X s) {w : CW} {x1 : Int32} {x2 : Int32} {x3 : Int32} {res : Int32} (hf : lp (fun q : Int32 × Int32 => fC_open_L23 w x1 q.1 q.2) (x2, x3) = some res) (ke55 : ∀ (y2 : Int32), res = y2 → ∀ (H : Heap) (locs : List Loc), GG X (CP X ca fa w ++ rest) s.heap H locs → ∀ (ls : Array Slot), lv_has ls 4 [(2, .int y2)] → W p l e (RMw 3 0 0 67) s m args below meth c H locs 0 0 Q (F0 m 55 ls [])) {H : Heap} {locs : List Loc} (hG : GG X (CP X ca fa w ++ rest) s.heap H locs) {ls : Array Slot} (hl : lv_has ls 4 [(0, .ref (ca 0)), (1, .int x1), (2, .int x2), (3, .int x3)]) : W p l e (RMw 3 0 0 67) s m args below meth c H locs 0 0 Q (F0 m 23 ls []) := by
  refine lp_ind (r := res) (P := fun q : Int32 × Int32 => ∀ (H : Heap) (locs : List Loc) (ls : Array Slot), GG X (CP X ca fa w ++ rest) s.heap H locs → lv_has ls 4 [(0, .ref (ca 0)), (1, .int x1), (2, .int q.1), (3, .int q.2)] → W p l e (RMw 3 0 0 67) s m args below meth c H locs 0 0 Q (F0 m 23 ls [])) ?_ ?_ _ hf _ _ _ hG hl
  · intro q hb H locs ls hG hl
    exact wC_open_L23 B hK hb (fun _ _ h => by cases h) (fun z0 h => ke55 z0 (Sum.inr.inj h)) hG hl
  · intro q q2 hb ih H locs ls hG hl
    exact wC_open_L23 B hK hb (fun z0 z1 h => by cases h; exact fun H locs hG ls hl => ih H locs ls hG hl) (fun _ h => by cases h) hG hl

noncomputable def fC_open (w : CW) (x1 : Int32) : Option (Int32 × CW) :=
  (fF_isCell (cfe w) (x1.toInt64)).bind fun r_1 =>
  if r_1 = 0 then
    b2 (fC_no w (-2)) fun r_11 f_8 =>
    (some (f_8)).bind fun w_9 =>
    some (r_11, w_9)
  else
    (lp (fun q : Int32 × Int32 => fC_open_L23 w x1 q.1 q.2) (0, 1)).bind (
      fun q_5 => (fun (y_4 : Int32) =>
        some (y_4, w)
      ) q_5
    )

set_option maxHeartbeats 4000000 in
theorem wC_open (B : CallFix p m c cX0_open 4 s args lw_all RX0) (hK : KK X s) {w : CW} {x1 : Int32} {res : Int32 × CW} (hf : fC_open w x1 = some res) (kr : ∀ (r : Int32) (w1 : CW), res = (r, w1) → ∀ (H : Heap) (locs : List Loc), GG X (CP X ca fa w1 ++ rest) s.heap H locs → ∀ (pc : Nat) (ls : Array Slot), decode cX0_open pc = .ok (.ireturn, 1) → W p l e (RMw 3 0 0 67) s m args below meth c H locs 0 0 Q (F0 m pc ls [.int r])) {H : Heap} {locs : List Loc} (hG : GG X (CP X ca fa w ++ rest) s.heap H locs) {ls : Array Slot} (hl : lv_has ls 4 [(0, .ref (ca 0)), (1, .int x1)]) : W p l e (RMw 3 0 0 67) s m args below meth c H locs 0 0 Q (F0 m 0 ls []) := by
  have hx := B.1
  have hb := B.2.1
  unfold fC_open at hf
  refine lv_aload_n hx hb dX0_open_0 rfl (lv_at hl 0 rfl) ?_
  refine co_this_g0 B hK hG.1 dX0_open_1 ?_
  refine lv_iload_n hx hb dX0_open_4 rfl (lv_at hl 1 rfl) ?_
  refine lv_i2l hx hb dX0_open_5 rfl ?_
  obtain ⟨r_1, e_2, hf⟩ := bo hf
  refine cCF_isCell B hK hG.2.2 hG.1 e_2 ⟨Nat.le_of_ble_eq_true rfl, Nat.le_of_ble_eq_true rfl⟩ ⟨Nat.zero_le _, Nat.zero_le _⟩ hl.1 (Nat.le_of_ble_eq_true rfl) dX0_open_6 ?_
  refine lv_if_ne (tgt := 19) hx hb dX0_open_9 (by decide) (fun c_3 => ?_) (fun c_3 => ?_)
  · have hf := ifn c_3 hf
    refine lv_iconst (v := 0) hx hb dX0_open_19 (by decide) ?_
    refine lv_istore_n (lv' := [(2, .int 0), (0, .ref (ca 0)), (1, .int x1)]) hx hb dX0_open_20 rfl hl (by decide) rfl (fun ls hl => ?_)
    refine lv_iconst (v := 1) hx hb dX0_open_21 (by decide) ?_
    refine lv_istore_n (lv' := [(3, .int 1), (2, .int 0), (0, .ref (ca 0)), (1, .int x1)]) hx hb dX0_open_22 rfl hl (by decide) rfl (fun ls hl => ?_)
    obtain ⟨y_4, e_6, hf⟩ := bo hf
    try dsimp only at hf
    refine vC_open_L23 B hK e_6 ?_ hG (lv_sub hl [2, 3, 1, 0] rfl)
    intro z0 hz
    cases hz
    intro H locs hG ls hl
    refine lv_iload_n hx hb dX0_open_55 rfl (lv_at hl 0 rfl) ?_
    exact kr _ _ (Option.some.inj hf).symm _ _ hG _ _ dX0_open_56
  · have hf := ifp c_3 hf
    refine lv_aload_n hx hb dX0_open_12 rfl (lv_at hl 0 rfl) ?_
    refine lv_bipush (v := (-2)) hx hb dX0_open_13 (by decide) ?_
    obtain ⟨r_11, f_8, e_7, hf⟩ := b2s hf
    obtain ⟨w_9, e_10, hf⟩ := bo hf
    refine cC_no B hK hG e_7 e_10 ⟨Nat.le_of_ble_eq_true rfl, Nat.le_of_ble_eq_true rfl⟩ ⟨Nat.zero_le _, Nat.zero_le _⟩ hl.1 (Nat.le_of_ble_eq_true rfl) dX0_open_15 (fun H locs hG => ?_)
    exact kr _ _ (Option.some.inj hf).symm _ _ hG _ _ dX0_open_18

theorem tC_open (l : Launch) (X : CX) (ca fa : Nat → Nat) (rest : va_W) (w w' : CW) (x1 : Int32) (r : Int32) (hf : fC_open w x1 = some (r, w')) : RW l yX0_open cX0_open 4 (some .int) 3 0 0 67 [.ref (ca 0), .int x1] X (CP X ca fa w ++ rest) (CP X ca fa (w') ++ rest) (some (.int r)) := by
  refine RW.mk (by decide) (Nat.le_of_ble_eq_true rfl) ?_
  intro p e s m below meth c B hr hlk hK hG ls hl
  exact wC_open B hK hf (fun r w h H locs hG pc ls hd => by cases h; exact w_iretW B hr hlk hG hd) hG hl
end S_C_open

section S_C_parts
variable {p : Program} {l : Launch} {e : Env} {R : Room} {s : State} {m : MethodId} {args : Array Value} {below : List Frame} {meth : Method} {c : Code} {H : Heap} {locs : List Loc} {cells slots : Nat} {Q : State → Prop} {cc : ByteArray} {nL pc : Nat} {ls : Array Slot} {st : List Value} {X : CX} {rest : va_W} {ca fa : Nat → Nat}
noncomputable def fC_parts_J63_L37 (w : CW) (x1 : Int32) (x2 : Int32) (x4 : Int32) (t0 : Int32) (t1 : Int32) : Option ((Int32 × Int32) ⊕ (Int32)) :=
  (some (t0 &&& t1)).bind fun x_1 =>
  (fF_next (cfe w) x4).bind fun r_3 =>
  some (.inl (x_1, r_3))

set_option maxHeartbeats 4000000 in
theorem wC_parts_J63_L37 (B : CallFix p m c cX0_parts 5 s args lw_all RX0) (hK : KK X s) {w : CW} {x1 : Int32} {x2 : Int32} {x4 : Int32} {t0 : Int32} {t1 : Int32} {res : (Int32 × Int32) ⊕ (Int32)} (hf : fC_parts_J63_L37 w x1 x2 x4 t0 t1 = some res) (kc : ∀ (y3 : Int32) (y4 : Int32), res = .inl (y3, y4) → ∀ (H : Heap) (locs : List Loc), GG X (CP X ca fa w ++ rest) s.heap H locs → ∀ (ls : Array Slot), lv_has ls 5 [(0, .ref (ca 0)), (1, .int x1), (2, .int x2), (3, .int y3), (4, .int y4)] → W p l e (RMw 4 0 0 92) s m args below meth c H locs 0 0 Q (F0 m 37 ls [])) (ke79 : ∀ (y3 : Int32), res = .inr y3 → ∀ (H : Heap) (locs : List Loc), GG X (CP X ca fa w ++ rest) s.heap H locs → ∀ (ls : Array Slot), lv_has ls 5 [(0, .ref (ca 0)), (1, .int x1), (2, .int x2), (3, .int y3)] → W p l e (RMw 4 0 0 92) s m args below meth c H locs 0 0 Q (F0 m 79 ls [])) {H : Heap} {locs : List Loc} (hG : GG X (CP X ca fa w ++ rest) s.heap H locs) {ls : Array Slot} (hl : lv_has ls 5 [(0, .ref (ca 0)), (1, .int x1), (2, .int x2), (4, .int x4)]) : W p l e (RMw 4 0 0 92) s m args below meth c H locs 0 0 Q (F0 m 63 ls [.int t1, .int t0]) := by
  have hx := B.1
  have hb := B.2.1
  unfold fC_parts_J63_L37 at hf
  refine lv_iand hx hb dX0_parts_63 ?_
  obtain ⟨x_1, e_2, hf⟩ := bo hf
  refine w_istore_n (lv' := [(3, .int x_1), (0, .ref (ca 0)), (1, .int x1), (2, .int x2), (4, .int x4)]) e_2 hx hb dX0_parts_64 rfl hl (by decide) rfl (fun ls hl => ?_)
  refine lv_aload_n hx hb dX0_parts_65 rfl (lv_at hl 1 rfl) ?_
  refine co_this_g0 B hK hG.1 dX0_parts_66 ?_
  refine lv_iload hx hb dX0_parts_69 (lv_at hl 4 rfl) ?_
  obtain ⟨r_3, e_4, hf⟩ := bo hf
  refine cCF_next B hK hG.2.2 hG.1 e_4 ⟨Nat.le_of_ble_eq_true rfl, Nat.le_of_ble_eq_true rfl⟩ ⟨Nat.zero_le _, Nat.zero_le _⟩ hl.1 (Nat.le_of_ble_eq_true rfl) dX0_parts_71 ?_
  refine lv_istore (lv' := [(4, .int r_3), (3, .int x_1), (0, .ref (ca 0)), (1, .int x1), (2, .int x2)]) hx hb dX0_parts_74 hl (by decide) rfl (fun ls hl => ?_)
  refine lv_goto (tgt := 37) hx hb dX0_parts_76 (by decide) ?_
  exact kc _ _ (Option.some.inj hf).symm _ _ hG _ (lv_sub hl [2, 3, 4, 1, 0] rfl)

noncomputable def fC_parts_L37 (w : CW) (x1 : Int32) (x2 : Int32) (x3 : Int32) (x4 : Int32) : Option ((Int32 × Int32) ⊕ (Int32)) :=
  if x4 = x2 then
    some (.inr x3)
  else
    (rd ((cfe w).2.1 5) 70 x4).bind fun v_2 =>
    if v_2 = (-1) then
      fC_parts_J63_L37 w x1 x2 x4 x3 1
    else
      fC_parts_J63_L37 w x1 x2 x4 x3 0

set_option maxHeartbeats 4000000 in
theorem wC_parts_L37 (B : CallFix p m c cX0_parts 5 s args lw_all RX0) (hK : KK X s) {w : CW} {x1 : Int32} {x2 : Int32} {x3 : Int32} {x4 : Int32} {res : (Int32 × Int32) ⊕ (Int32)} (hf : fC_parts_L37 w x1 x2 x3 x4 = some res) (kc : ∀ (y3 : Int32) (y4 : Int32), res = .inl (y3, y4) → ∀ (H : Heap) (locs : List Loc), GG X (CP X ca fa w ++ rest) s.heap H locs → ∀ (ls : Array Slot), lv_has ls 5 [(0, .ref (ca 0)), (1, .int x1), (2, .int x2), (3, .int y3), (4, .int y4)] → W p l e (RMw 4 0 0 92) s m args below meth c H locs 0 0 Q (F0 m 37 ls [])) (ke79 : ∀ (y3 : Int32), res = .inr y3 → ∀ (H : Heap) (locs : List Loc), GG X (CP X ca fa w ++ rest) s.heap H locs → ∀ (ls : Array Slot), lv_has ls 5 [(0, .ref (ca 0)), (1, .int x1), (2, .int x2), (3, .int y3)] → W p l e (RMw 4 0 0 92) s m args below meth c H locs 0 0 Q (F0 m 79 ls [])) {H : Heap} {locs : List Loc} (hG : GG X (CP X ca fa w ++ rest) s.heap H locs) {ls : Array Slot} (hl : lv_has ls 5 [(0, .ref (ca 0)), (1, .int x1), (2, .int x2), (3, .int x3), (4, .int x4)]) : W p l e (RMw 4 0 0 92) s m args below meth c H locs 0 0 Q (F0 m 37 ls []) := by
  have hx := B.1
  have hb := B.2.1
  unfold fC_parts_L37 at hf
  refine lv_iload hx hb dX0_parts_37 (lv_at hl 4 rfl) ?_
  refine lv_iload_n hx hb dX0_parts_39 rfl (lv_at hl 2 rfl) ?_
  refine lv_icmp_eq (tgt := 79) hx hb dX0_parts_40 (by decide) (fun c_1 => ?_) (fun c_1 => ?_)
  · have hf := ifp c_1 hf
    exact ke79 _ (Option.some.inj hf).symm _ _ hG _ (lv_sub hl [0, 1, 2, 3] rfl)
  · have hf := ifn c_1 hf
    refine lv_iload_n hx hb dX0_parts_43 rfl (lv_at hl 3 rfl) ?_
    refine lv_aload_n hx hb dX0_parts_44 rfl (lv_at hl 0 rfl) ?_
    refine co_this_g0 B hK hG.1 dX0_parts_45 ?_
    refine co_fen_g5 B hK hG.1 dX0_parts_48 ?_
    refine lv_iload hx hb dX0_parts_51 (lv_at hl 4 rfl) ?_
    obtain ⟨v_2, e_3, hf⟩ := bo hf
    refine co_away_l B hK hG.1 e_3 dX0_parts_53 ?_
    refine lv_iconst (v := (-1)) hx hb dX0_parts_54 (by decide) ?_
    refine lv_icmp_ne (tgt := 62) hx hb dX0_parts_55 (by decide) (fun c_4 => ?_) (fun c_4 => ?_)
    · have hf := ifn c_4 hf
      refine lv_iconst (v := 0) hx hb dX0_parts_62 (by decide) ?_
      exact wC_parts_J63_L37 B hK hf kc ke79 hG (lv_sub hl [0, 1, 2, 4] rfl)
    · have hf := ifp c_4 hf
      refine lv_iconst (v := 1) hx hb dX0_parts_58 (by decide) ?_
      refine lv_goto (tgt := 63) hx hb dX0_parts_59 (by decide) ?_
      exact wC_parts_J63_L37 B hK hf kc ke79 hG (lv_sub hl [0, 1, 2, 4] rfl)

set_option maxHeartbeats 4000000 in
theorem vC_parts_L37 (B : CallFix p m c cX0_parts 5 s args lw_all RX0) (hK : KK X s) {w : CW} {x1 : Int32} {x2 : Int32} {x3 : Int32} {x4 : Int32} {res : Int32} (hf : lp (fun q : Int32 × Int32 => fC_parts_L37 w x1 x2 q.1 q.2) (x3, x4) = some res) (ke79 : ∀ (y3 : Int32), res = y3 → ∀ (H : Heap) (locs : List Loc), GG X (CP X ca fa w ++ rest) s.heap H locs → ∀ (ls : Array Slot), lv_has ls 5 [(0, .ref (ca 0)), (1, .int x1), (2, .int x2), (3, .int y3)] → W p l e (RMw 4 0 0 92) s m args below meth c H locs 0 0 Q (F0 m 79 ls [])) {H : Heap} {locs : List Loc} (hG : GG X (CP X ca fa w ++ rest) s.heap H locs) {ls : Array Slot} (hl : lv_has ls 5 [(0, .ref (ca 0)), (1, .int x1), (2, .int x2), (3, .int x3), (4, .int x4)]) : W p l e (RMw 4 0 0 92) s m args below meth c H locs 0 0 Q (F0 m 37 ls []) := by
  refine lp_ind (r := res) (P := fun q : Int32 × Int32 => ∀ (H : Heap) (locs : List Loc) (ls : Array Slot), GG X (CP X ca fa w ++ rest) s.heap H locs → lv_has ls 5 [(0, .ref (ca 0)), (1, .int x1), (2, .int x2), (3, .int q.1), (4, .int q.2)] → W p l e (RMw 4 0 0 92) s m args below meth c H locs 0 0 Q (F0 m 37 ls [])) ?_ ?_ _ hf _ _ _ hG hl
  · intro q hb H locs ls hG hl
    exact wC_parts_L37 B hK hb (fun _ _ h => by cases h) (fun z0 h => ke79 z0 (Sum.inr.inj h)) hG hl
  · intro q q2 hb ih H locs ls hG hl
    exact wC_parts_L37 B hK hb (fun z0 z1 h => by cases h; exact fun H locs hG ls hl => ih H locs ls hG hl) (fun _ h => by cases h) hG hl

noncomputable def fC_parts_J89_L11 (w : CW) (x2 : Int32) (t0 : Int32) (t1 : Int32) : Option ((Int32 × Int32 × CW) ⊕ (Int32 × CW)) :=
  (some (t0 + t1)).bind fun x_1 =>
  (fF_next (cfe w) x2).bind fun r_3 =>
  some (.inl (x_1, r_3, w))

set_option maxHeartbeats 4000000 in
theorem wC_parts_J89_L11 (B : CallFix p m c cX0_parts 5 s args lw_all RX0) (hK : KK X s) {w : CW} {x2 : Int32} {t0 : Int32} {t1 : Int32} {res : (Int32 × Int32 × CW) ⊕ (Int32 × CW)} (hf : fC_parts_J89_L11 w x2 t0 t1 = some res) (kc : ∀ (y1 : Int32) (y2 : Int32) (w1 : CW), res = .inl (y1, y2, w1) → ∀ (H : Heap) (locs : List Loc), GG X (CP X ca fa w1 ++ rest) s.heap H locs → ∀ (ls : Array Slot), lv_has ls 5 [(0, .ref (ca 0)), (1, .int y1), (2, .int y2)] → W p l e (RMw 4 0 0 92) s m args below meth c H locs 0 0 Q (F0 m 11 ls [])) (ke103 : ∀ (y1 : Int32) (w1 : CW), res = .inr (y1, w1) → ∀ (H : Heap) (locs : List Loc), GG X (CP X ca fa w1 ++ rest) s.heap H locs → ∀ (ls : Array Slot), lv_has ls 5 [(1, .int y1)] → W p l e (RMw 4 0 0 92) s m args below meth c H locs 0 0 Q (F0 m 103 ls [])) {H : Heap} {locs : List Loc} (hG : GG X (CP X ca fa w ++ rest) s.heap H locs) {ls : Array Slot} (hl : lv_has ls 5 [(0, .ref (ca 0)), (2, .int x2)]) : W p l e (RMw 4 0 0 92) s m args below meth c H locs 0 0 Q (F0 m 89 ls [.int t1, .int t0]) := by
  have hx := B.1
  have hb := B.2.1
  unfold fC_parts_J89_L11 at hf
  refine lv_iadd hx hb dX0_parts_89 ?_
  obtain ⟨x_1, e_2, hf⟩ := bo hf
  refine w_istore_n (lv' := [(1, .int x_1), (0, .ref (ca 0)), (2, .int x2)]) e_2 hx hb dX0_parts_90 rfl hl (by decide) rfl (fun ls hl => ?_)
  refine lv_aload_n hx hb dX0_parts_91 rfl (lv_at hl 1 rfl) ?_
  refine co_this_g0 B hK hG.1 dX0_parts_92 ?_
  refine lv_iload_n hx hb dX0_parts_95 rfl (lv_at hl 2 rfl) ?_
  obtain ⟨r_3, e_4, hf⟩ := bo hf
  refine cCF_next B hK hG.2.2 hG.1 e_4 ⟨Nat.le_of_ble_eq_true rfl, Nat.le_of_ble_eq_true rfl⟩ ⟨Nat.zero_le _, Nat.zero_le _⟩ hl.1 (Nat.le_of_ble_eq_true rfl) dX0_parts_96 ?_
  refine lv_istore_n (lv' := [(2, .int r_3), (1, .int x_1), (0, .ref (ca 0))]) hx hb dX0_parts_99 rfl hl (by decide) rfl (fun ls hl => ?_)
  refine lv_goto (tgt := 11) hx hb dX0_parts_100 (by decide) ?_
  exact kc _ _ _ (Option.some.inj hf).symm _ _ hG _ (lv_sub hl [2, 1, 0] rfl)

noncomputable def fC_parts_L11 (w : CW) (x1 : Int32) (x2 : Int32) : Option ((Int32 × Int32 × CW) ⊕ (Int32 × CW)) :=
  if x2 = (-1) then
    some (.inr (x1, w))
  else
    (fF_spreads (cfe w) x2).bind fun f_3 =>
    (some (cnf w f_3)).bind fun w_4 =>
    (fF_next (cfe w_4) (-1)).bind fun r_6 =>
    (lp (fun q : Int32 × Int32 => fC_parts_L37 w_4 x1 x2 q.1 q.2) (1, r_6)).bind (
      fun q_10 => (fun (y_8 : Int32) =>
        if y_8 = 0 then
          fC_parts_J89_L11 w_4 x2 x1 0
        else
          fC_parts_J89_L11 w_4 x2 x1 1
      ) q_10
    )

set_option maxHeartbeats 4000000 in
theorem wC_parts_L11 (B : CallFix p m c cX0_parts 5 s args lw_all RX0) (hK : KK X s) {w : CW} {x1 : Int32} {x2 : Int32} {res : (Int32 × Int32 × CW) ⊕ (Int32 × CW)} (hf : fC_parts_L11 w x1 x2 = some res) (kc : ∀ (y1 : Int32) (y2 : Int32) (w1 : CW), res = .inl (y1, y2, w1) → ∀ (H : Heap) (locs : List Loc), GG X (CP X ca fa w1 ++ rest) s.heap H locs → ∀ (ls : Array Slot), lv_has ls 5 [(0, .ref (ca 0)), (1, .int y1), (2, .int y2)] → W p l e (RMw 4 0 0 92) s m args below meth c H locs 0 0 Q (F0 m 11 ls [])) (ke103 : ∀ (y1 : Int32) (w1 : CW), res = .inr (y1, w1) → ∀ (H : Heap) (locs : List Loc), GG X (CP X ca fa w1 ++ rest) s.heap H locs → ∀ (ls : Array Slot), lv_has ls 5 [(1, .int y1)] → W p l e (RMw 4 0 0 92) s m args below meth c H locs 0 0 Q (F0 m 103 ls [])) {H : Heap} {locs : List Loc} (hG : GG X (CP X ca fa w ++ rest) s.heap H locs) {ls : Array Slot} (hl : lv_has ls 5 [(0, .ref (ca 0)), (1, .int x1), (2, .int x2)]) : W p l e (RMw 4 0 0 92) s m args below meth c H locs 0 0 Q (F0 m 11 ls []) := by
  have hx := B.1
  have hb := B.2.1
  unfold fC_parts_L11 at hf
  refine lv_iload_n hx hb dX0_parts_11 rfl (lv_at hl 2 rfl) ?_
  refine lv_iconst (v := (-1)) hx hb dX0_parts_12 (by decide) ?_
  refine lv_icmp_eq (tgt := 103) hx hb dX0_parts_13 (by decide) (fun c_1 => ?_) (fun c_1 => ?_)
  · have hf := ifp c_1 hf
    exact ke103 _ _ (Option.some.inj hf).symm _ _ hG _ (lv_sub hl [1] rfl)
  · have hf := ifn c_1 hf
    refine lv_iconst (v := 1) hx hb dX0_parts_16 (by decide) ?_
    refine lv_istore_n (lv' := [(3, .int 1), (0, .ref (ca 0)), (1, .int x1), (2, .int x2)]) hx hb dX0_parts_17 rfl hl (by decide) rfl (fun ls hl => ?_)
    refine lv_aload_n hx hb dX0_parts_18 rfl (lv_at hl 1 rfl) ?_
    refine co_this_g0 B hK hG.1 dX0_parts_19 ?_
    refine lv_iload_n hx hb dX0_parts_22 rfl (lv_at hl 3 rfl) ?_
    obtain ⟨f_3, e_2, hf⟩ := bo hf
    obtain ⟨w_4, e_5, hf⟩ := bo hf
    refine cCF_spreads B hK hG e_2 e_5 ⟨Nat.le_of_ble_eq_true rfl, Nat.le_of_ble_eq_true rfl⟩ ⟨Nat.zero_le _, Nat.zero_le _⟩ hl.1 (Nat.le_of_ble_eq_true rfl) dX0_parts_23 (fun H locs hG => ?_)
    refine lv_pop hx hb dX0_parts_26 rfl ?_
    refine lv_aload_n hx hb dX0_parts_27 rfl (lv_at hl 1 rfl) ?_
    refine co_this_g0 B hK hG.1 dX0_parts_28 ?_
    refine lv_iconst (v := (-1)) hx hb dX0_parts_31 (by decide) ?_
    obtain ⟨r_6, e_7, hf⟩ := bo hf
    refine cCF_next B hK hG.2.2 hG.1 e_7 ⟨Nat.le_of_ble_eq_true rfl, Nat.le_of_ble_eq_true rfl⟩ ⟨Nat.zero_le _, Nat.zero_le _⟩ hl.1 (Nat.le_of_ble_eq_true rfl) dX0_parts_32 ?_
    refine lv_istore (lv' := [(4, .int r_6), (3, .int 1), (0, .ref (ca 0)), (1, .int x1), (2, .int x2)]) hx hb dX0_parts_35 hl (by decide) rfl (fun ls hl => ?_)
    obtain ⟨y_8, e_11, hf⟩ := bo hf
    try dsimp only at hf
    refine vC_parts_L37 B hK e_11 ?_ hG (lv_sub hl [2, 3, 4, 1, 0] rfl)
    intro z0 hz
    cases hz
    intro H locs hG ls hl
    refine lv_iload_n hx hb dX0_parts_79 rfl (lv_at hl 1 rfl) ?_
    refine lv_iload_n hx hb dX0_parts_80 rfl (lv_at hl 3 rfl) ?_
    refine lv_if_eq (tgt := 88) hx hb dX0_parts_81 (by decide) (fun c_9 => ?_) (fun c_9 => ?_)
    · have hf := ifp c_9 hf
      refine lv_iconst (v := 0) hx hb dX0_parts_88 (by decide) ?_
      exact wC_parts_J89_L11 B hK hf kc ke103 hG (lv_sub hl [0, 2] rfl)
    · have hf := ifn c_9 hf
      refine lv_iconst (v := 1) hx hb dX0_parts_84 (by decide) ?_
      refine lv_goto (tgt := 89) hx hb dX0_parts_85 (by decide) ?_
      exact wC_parts_J89_L11 B hK hf kc ke103 hG (lv_sub hl [0, 2] rfl)

set_option maxHeartbeats 4000000 in
theorem vC_parts_L11 (B : CallFix p m c cX0_parts 5 s args lw_all RX0) (hK : KK X s) {w : CW} {x1 : Int32} {x2 : Int32} {res : Int32 × CW} (hf : lp (fun q : Int32 × Int32 × CW => fC_parts_L11 q.2.2 q.1 q.2.1) (x1, x2, w) = some res) (ke103 : ∀ (y1 : Int32) (w1 : CW), res = (y1, w1) → ∀ (H : Heap) (locs : List Loc), GG X (CP X ca fa w1 ++ rest) s.heap H locs → ∀ (ls : Array Slot), lv_has ls 5 [(1, .int y1)] → W p l e (RMw 4 0 0 92) s m args below meth c H locs 0 0 Q (F0 m 103 ls [])) {H : Heap} {locs : List Loc} (hG : GG X (CP X ca fa w ++ rest) s.heap H locs) {ls : Array Slot} (hl : lv_has ls 5 [(0, .ref (ca 0)), (1, .int x1), (2, .int x2)]) : W p l e (RMw 4 0 0 92) s m args below meth c H locs 0 0 Q (F0 m 11 ls []) := by
  refine lp_ind (r := res) (P := fun q : Int32 × Int32 × CW => ∀ (H : Heap) (locs : List Loc) (ls : Array Slot), GG X (CP X ca fa q.2.2 ++ rest) s.heap H locs → lv_has ls 5 [(0, .ref (ca 0)), (1, .int q.1), (2, .int q.2.1)] → W p l e (RMw 4 0 0 92) s m args below meth c H locs 0 0 Q (F0 m 11 ls [])) ?_ ?_ _ hf _ _ _ hG hl
  · intro q hb H locs ls hG hl
    exact wC_parts_L11 B hK hb (fun _ _ _ h => by cases h) (fun z0 z1 h => ke103 z0 z1 (Sum.inr.inj h)) hG hl
  · intro q q2 hb ih H locs ls hG hl
    exact wC_parts_L11 B hK hb (fun z0 z1 z2 h => by cases h; exact fun H locs hG ls hl => ih H locs ls hG hl) (fun _ _ h => by cases h) hG hl

noncomputable def fC_parts (w : CW)  : Option (Int32 × CW) :=
  (fF_next (cfe w) (-1)).bind fun r_1 =>
  (lp (fun q : Int32 × Int32 × CW => fC_parts_L11 q.2.2 q.1 q.2.1) (0, r_1, w)).bind (
    fun q_5 => (fun (y_3 : Int32) (w_4 : CW) =>
      some (y_3, w_4)
    ) q_5.1 q_5.2
  )

set_option maxHeartbeats 4000000 in
theorem wC_parts (B : CallFix p m c cX0_parts 5 s args lw_all RX0) (hK : KK X s) {w : CW}  {res : Int32 × CW} (hf : fC_parts w  = some res) (kr : ∀ (r : Int32) (w1 : CW), res = (r, w1) → ∀ (H : Heap) (locs : List Loc), GG X (CP X ca fa w1 ++ rest) s.heap H locs → ∀ (pc : Nat) (ls : Array Slot), decode cX0_parts pc = .ok (.ireturn, 1) → W p l e (RMw 4 0 0 92) s m args below meth c H locs 0 0 Q (F0 m pc ls [.int r])) {H : Heap} {locs : List Loc} (hG : GG X (CP X ca fa w ++ rest) s.heap H locs) {ls : Array Slot} (hl : lv_has ls 5 [(0, .ref (ca 0))]) : W p l e (RMw 4 0 0 92) s m args below meth c H locs 0 0 Q (F0 m 0 ls []) := by
  have hx := B.1
  have hb := B.2.1
  unfold fC_parts at hf
  refine lv_iconst (v := 0) hx hb dX0_parts_0 (by decide) ?_
  refine lv_istore_n (lv' := [(1, .int 0), (0, .ref (ca 0))]) hx hb dX0_parts_1 rfl hl (by decide) rfl (fun ls hl => ?_)
  refine lv_aload_n hx hb dX0_parts_2 rfl (lv_at hl 1 rfl) ?_
  refine co_this_g0 B hK hG.1 dX0_parts_3 ?_
  refine lv_iconst (v := (-1)) hx hb dX0_parts_6 (by decide) ?_
  obtain ⟨r_1, e_2, hf⟩ := bo hf
  refine cCF_next B hK hG.2.2 hG.1 e_2 ⟨Nat.le_of_ble_eq_true rfl, Nat.le_of_ble_eq_true rfl⟩ ⟨Nat.zero_le _, Nat.zero_le _⟩ hl.1 (Nat.le_of_ble_eq_true rfl) dX0_parts_7 ?_
  refine lv_istore_n (lv' := [(2, .int r_1), (1, .int 0), (0, .ref (ca 0))]) hx hb dX0_parts_10 rfl hl (by decide) rfl (fun ls hl => ?_)
  obtain ⟨⟨y_3, w_4⟩, e_6, hf⟩ := bo hf
  try dsimp only at hf
  refine vC_parts_L11 B hK e_6 ?_ hG (lv_sub hl [2, 1, 0] rfl)
  intro z0 z1 hz
  cases hz
  intro H locs hG ls hl
  refine lv_iload_n hx hb dX0_parts_103 rfl (lv_at hl 0 rfl) ?_
  exact kr _ _ (Option.some.inj hf).symm _ _ hG _ _ dX0_parts_104

theorem tC_parts (l : Launch) (X : CX) (ca fa : Nat → Nat) (rest : va_W) (w w' : CW)  (r : Int32) (hf : fC_parts w  = some (r, w')) : RW l yX0_parts cX0_parts 5 (some .int) 4 0 0 92 [.ref (ca 0)] X (CP X ca fa w ++ rest) (CP X ca fa (w') ++ rest) (some (.int r)) := by
  refine RW.mk (by decide) (Nat.le_of_ble_eq_true rfl) ?_
  intro p e s m below meth c B hr hlk hK hG ls hl
  exact wC_parts B hK hf (fun r w h H locs hG pc ls hd => by cases h; exact w_iretW B hr hlk hG hd) hG hl
end S_C_parts

section S_C_worst
variable {p : Program} {l : Launch} {e : Env} {R : Room} {s : State} {m : MethodId} {args : Array Value} {below : List Frame} {meth : Method} {c : Code} {H : Heap} {locs : List Loc} {cells slots : Nat} {Q : State → Prop} {cc : ByteArray} {nL pc : Nat} {ls : Array Slot} {st : List Value} {X : CX} {rest : va_W} {ca fa : Nat → Nat}
noncomputable def fC_worst_J118_L38 (w : CW) (x1 : Int32) (x3 : Int32) (x4 : Int32) (x6 : Int32) (t0 : Int32) : Option ((Int32 × Int32 × Int32) ⊕ (Int32)) :=
  (some (imax x3 x6)).bind fun x_1 =>
  (some (x4 + 1)).bind fun x_3 =>
  some (.inl (t0, x_1, x_3))

set_option maxHeartbeats 4000000 in
theorem wC_worst_J118_L38 (B : CallFix p m c cX0_worst 7 s args lw_all RX0) (hK : KK X s) {w : CW} {x1 : Int32} {x3 : Int32} {x4 : Int32} {x6 : Int32} {t0 : Int32} {res : (Int32 × Int32 × Int32) ⊕ (Int32)} (hf : fC_worst_J118_L38 w x1 x3 x4 x6 t0 = some res) (kc : ∀ (y2 : Int32) (y3 : Int32) (y4 : Int32), res = .inl (y2, y3, y4) → ∀ (H : Heap) (locs : List Loc), GG X (CP X ca fa w ++ rest) s.heap H locs → ∀ (ls : Array Slot), lv_has ls 7 [(0, .ref (ca 0)), (1, .int x1), (2, .int y2), (3, .int y3), (4, .int y4)] → W p l e (RMw 4 0 0 92) s m args below meth c H locs 0 0 Q (F0 m 38 ls [])) (ke132 : ∀ (y2 : Int32), res = .inr y2 → ∀ (H : Heap) (locs : List Loc), GG X (CP X ca fa w ++ rest) s.heap H locs → ∀ (ls : Array Slot), lv_has ls 7 [(0, .ref (ca 0)), (2, .int y2)] → W p l e (RMw 4 0 0 92) s m args below meth c H locs 0 0 Q (F0 m 132 ls [])) {H : Heap} {locs : List Loc} (hG : GG X (CP X ca fa w ++ rest) s.heap H locs) {ls : Array Slot} (hl : lv_has ls 7 [(0, .ref (ca 0)), (1, .int x1), (3, .int x3), (4, .int x4), (6, .int x6)]) : W p l e (RMw 4 0 0 92) s m args below meth c H locs 0 0 Q (F0 m 118 ls [.int t0]) := by
  have hx := B.1
  have hb := B.2.1
  unfold fC_worst_J118_L38 at hf
  refine lv_istore_n (lv' := [(2, .int t0), (0, .ref (ca 0)), (1, .int x1), (3, .int x3), (4, .int x4), (6, .int x6)]) hx hb dX0_worst_118 rfl hl (by decide) rfl (fun ls hl => ?_)
  refine lv_iload_n hx hb dX0_worst_119 rfl (lv_at hl 3 rfl) ?_
  refine lv_iload hx hb dX0_worst_120 (lv_at hl 5 rfl) ?_
  refine w_max B hl.1 q1181 q813 q104 q814 (Nat.le_of_ble_eq_true rfl) (Nat.le_of_ble_eq_true rfl) (Nat.le_of_ble_eq_true rfl) (Nat.zero_le _) (Nat.zero_le _) dX0_worst_122 ?_
  obtain ⟨x_1, e_2, hf⟩ := bo hf
  refine w_istore_n (lv' := [(3, .int x_1), (2, .int t0), (0, .ref (ca 0)), (1, .int x1), (4, .int x4), (6, .int x6)]) e_2 hx hb dX0_worst_125 rfl hl (by decide) rfl (fun ls hl => ?_)
  obtain ⟨x_3, e_4, hf⟩ := bo hf
  refine w_iinc (k := 4) (lv' := [(4, .int x_3), (3, .int x_1), (2, .int t0), (0, .ref (ca 0)), (1, .int x1), (6, .int x6)]) e_4 hx hb dX0_worst_126 hl rfl (by decide) rfl (fun ls hl => ?_)
  refine lv_goto (tgt := 38) hx hb dX0_worst_129 (by decide) ?_
  exact kc _ _ _ (Option.some.inj hf).symm _ _ hG _ (lv_sub hl [3, 4, 2, 1, 0] rfl)

noncomputable def fC_worst_J104_L38 (w : CW) (x1 : Int32) (x2 : Int32) (x3 : Int32) (x4 : Int32) (t0 : Int32) : Option ((Int32 × Int32 × Int32) ⊕ (Int32)) :=
  if t0 ≤ x3 then
    fC_worst_J118_L38 w x1 x3 x4 t0 x2
  else
    fC_worst_J118_L38 w x1 x3 x4 t0 x4

set_option maxHeartbeats 4000000 in
theorem wC_worst_J104_L38 (B : CallFix p m c cX0_worst 7 s args lw_all RX0) (hK : KK X s) {w : CW} {x1 : Int32} {x2 : Int32} {x3 : Int32} {x4 : Int32} {t0 : Int32} {res : (Int32 × Int32 × Int32) ⊕ (Int32)} (hf : fC_worst_J104_L38 w x1 x2 x3 x4 t0 = some res) (kc : ∀ (y2 : Int32) (y3 : Int32) (y4 : Int32), res = .inl (y2, y3, y4) → ∀ (H : Heap) (locs : List Loc), GG X (CP X ca fa w ++ rest) s.heap H locs → ∀ (ls : Array Slot), lv_has ls 7 [(0, .ref (ca 0)), (1, .int x1), (2, .int y2), (3, .int y3), (4, .int y4)] → W p l e (RMw 4 0 0 92) s m args below meth c H locs 0 0 Q (F0 m 38 ls [])) (ke132 : ∀ (y2 : Int32), res = .inr y2 → ∀ (H : Heap) (locs : List Loc), GG X (CP X ca fa w ++ rest) s.heap H locs → ∀ (ls : Array Slot), lv_has ls 7 [(0, .ref (ca 0)), (2, .int y2)] → W p l e (RMw 4 0 0 92) s m args below meth c H locs 0 0 Q (F0 m 132 ls [])) {H : Heap} {locs : List Loc} (hG : GG X (CP X ca fa w ++ rest) s.heap H locs) {ls : Array Slot} (hl : lv_has ls 7 [(0, .ref (ca 0)), (1, .int x1), (2, .int x2), (3, .int x3), (4, .int x4)]) : W p l e (RMw 4 0 0 92) s m args below meth c H locs 0 0 Q (F0 m 104 ls [.int t0]) := by
  have hx := B.1
  have hb := B.2.1
  unfold fC_worst_J104_L38 at hf
  refine lv_istore (lv' := [(6, .int t0), (0, .ref (ca 0)), (1, .int x1), (2, .int x2), (3, .int x3), (4, .int x4)]) hx hb dX0_worst_104 hl (by decide) rfl (fun ls hl => ?_)
  refine lv_iload hx hb dX0_worst_106 (lv_at hl 0 rfl) ?_
  refine lv_iload_n hx hb dX0_worst_108 rfl (lv_at hl 4 rfl) ?_
  refine lv_icmp_le (tgt := 117) hx hb dX0_worst_109 (by decide) (fun c_1 => ?_) (fun c_1 => ?_)
  · have hf := ifp c_1 hf
    refine lv_iload_n hx hb dX0_worst_117 rfl (lv_at hl 3 rfl) ?_
    exact wC_worst_J118_L38 B hK hf kc ke132 hG (lv_sub hl [1, 2, 4, 5, 0] rfl)
  · have hf := ifn c_1 hf
    refine lv_iload hx hb dX0_worst_112 (lv_at hl 5 rfl) ?_
    refine lv_goto (tgt := 118) hx hb dX0_worst_114 (by decide) ?_
    exact wC_worst_J118_L38 B hK hf kc ke132 hG (lv_sub hl [1, 2, 4, 5, 0] rfl)

noncomputable def fC_worst_L38 (w : CW) (x1 : Int32) (x2 : Int32) (x3 : Int32) (x4 : Int32) : Option ((Int32 × Int32 × Int32) ⊕ (Int32)) :=
  if ((cfe w).1 9) ≤ x4 then
    some (.inr x2)
  else
    (rd ((cfe w).2.1 2) 4 x4).bind fun v_2 =>
    (rd ((cfe w).2.1 5) 70 v_2).bind fun v_4 =>
    if x1 = 0 then
      (rd ((cfe w).2.1 3) 4 x4).bind fun v_8 =>
      fC_worst_J104_L38 w x1 x2 x3 x4 (9 - v_8)
    else
      if v_4 = (-1) then
        fC_worst_J104_L38 w x1 x2 x3 x4 100000
      else
        fC_worst_J104_L38 w x1 x2 x3 x4 v_4

set_option maxHeartbeats 4000000 in
theorem wC_worst_L38 (B : CallFix p m c cX0_worst 7 s args lw_all RX0) (hK : KK X s) {w : CW} {x1 : Int32} {x2 : Int32} {x3 : Int32} {x4 : Int32} {res : (Int32 × Int32 × Int32) ⊕ (Int32)} (hf : fC_worst_L38 w x1 x2 x3 x4 = some res) (kc : ∀ (y2 : Int32) (y3 : Int32) (y4 : Int32), res = .inl (y2, y3, y4) → ∀ (H : Heap) (locs : List Loc), GG X (CP X ca fa w ++ rest) s.heap H locs → ∀ (ls : Array Slot), lv_has ls 7 [(0, .ref (ca 0)), (1, .int x1), (2, .int y2), (3, .int y3), (4, .int y4)] → W p l e (RMw 4 0 0 92) s m args below meth c H locs 0 0 Q (F0 m 38 ls [])) (ke132 : ∀ (y2 : Int32), res = .inr y2 → ∀ (H : Heap) (locs : List Loc), GG X (CP X ca fa w ++ rest) s.heap H locs → ∀ (ls : Array Slot), lv_has ls 7 [(0, .ref (ca 0)), (2, .int y2)] → W p l e (RMw 4 0 0 92) s m args below meth c H locs 0 0 Q (F0 m 132 ls [])) {H : Heap} {locs : List Loc} (hG : GG X (CP X ca fa w ++ rest) s.heap H locs) {ls : Array Slot} (hl : lv_has ls 7 [(0, .ref (ca 0)), (1, .int x1), (2, .int x2), (3, .int x3), (4, .int x4)]) : W p l e (RMw 4 0 0 92) s m args below meth c H locs 0 0 Q (F0 m 38 ls []) := by
  have hx := B.1
  have hb := B.2.1
  unfold fC_worst_L38 at hf
  refine lv_iload hx hb dX0_worst_38 (lv_at hl 4 rfl) ?_
  refine lv_aload_n hx hb dX0_worst_40 rfl (lv_at hl 0 rfl) ?_
  refine co_this_g0 B hK hG.1 dX0_worst_41 ?_
  refine co_fen_g9 B hK hG.1 dX0_worst_44 ?_
  refine lv_icmp_ge (tgt := 132) hx hb dX0_worst_47 (by decide) (fun c_1 => ?_) (fun c_1 => ?_)
  · have hf := ifp c_1 hf
    exact ke132 _ (Option.some.inj hf).symm _ _ hG _ (lv_sub hl [0, 2] rfl)
  · have hf := ifn c_1 hf
    refine lv_aload_n hx hb dX0_worst_50 rfl (lv_at hl 0 rfl) ?_
    refine co_this_g0 B hK hG.1 dX0_worst_51 ?_
    refine co_fen_g5 B hK hG.1 dX0_worst_54 ?_
    refine lv_aload_n hx hb dX0_worst_57 rfl (lv_at hl 0 rfl) ?_
    refine co_this_g0 B hK hG.1 dX0_worst_58 ?_
    refine co_fen_g2 B hK hG.1 dX0_worst_61 ?_
    refine lv_iload hx hb dX0_worst_64 (lv_at hl 4 rfl) ?_
    obtain ⟨v_2, e_3, hf⟩ := bo hf
    refine co_cell_l B hK hG.1 e_3 dX0_worst_66 ?_
    obtain ⟨v_4, e_5, hf⟩ := bo hf
    refine co_away_l B hK hG.1 e_5 dX0_worst_67 ?_
    refine lv_istore (lv' := [(5, .int v_4), (0, .ref (ca 0)), (1, .int x1), (2, .int x2), (3, .int x3), (4, .int x4)]) hx hb dX0_worst_68 hl (by decide) rfl (fun ls hl => ?_)
    refine lv_iload_n hx hb dX0_worst_70 rfl (lv_at hl 2 rfl) ?_
    refine lv_if_ne (tgt := 90) hx hb dX0_worst_71 (by decide) (fun c_6 => ?_) (fun c_6 => ?_)
    · have hf := ifn c_6 hf
      refine lv_iload hx hb dX0_worst_90 (lv_at hl 0 rfl) ?_
      refine lv_iconst (v := (-1)) hx hb dX0_worst_92 (by decide) ?_
      refine lv_icmp_ne (tgt := 102) hx hb dX0_worst_93 (by decide) (fun c_7 => ?_) (fun c_7 => ?_)
      · have hf := ifn c_7 hf
        refine lv_iload hx hb dX0_worst_102 (lv_at hl 0 rfl) ?_
        exact wC_worst_J104_L38 B hK hf kc ke132 hG (lv_sub hl [1, 2, 3, 4, 5] rfl)
      · have hf := ifp c_7 hf
        refine lv_ldcw (v := 100000) hx hb B.2.2.2.1 (B.2.2.2.2 _ q1176) dX0_worst_96 ?_
        refine lv_goto (tgt := 104) hx hb dX0_worst_99 (by decide) ?_
        exact wC_worst_J104_L38 B hK hf kc ke132 hG (lv_sub hl [1, 2, 3, 4, 5] rfl)
    · have hf := ifp c_6 hf
      refine lv_bipush (v := 9) hx hb dX0_worst_74 (by decide) ?_
      refine lv_aload_n hx hb dX0_worst_76 rfl (lv_at hl 1 rfl) ?_
      refine co_this_g0 B hK hG.1 dX0_worst_77 ?_
      refine co_fen_g3 B hK hG.1 dX0_worst_80 ?_
      refine lv_iload hx hb dX0_worst_83 (lv_at hl 5 rfl) ?_
      obtain ⟨v_8, e_9, hf⟩ := bo hf
      refine co_sure_l B hK hG.1 e_9 dX0_worst_85 ?_
      refine lv_isub hx hb dX0_worst_86 ?_
      refine lv_goto (tgt := 104) hx hb dX0_worst_87 (by decide) ?_
      exact wC_worst_J104_L38 B hK hf kc ke132 hG (lv_sub hl [1, 2, 3, 4, 5] rfl)

set_option maxHeartbeats 4000000 in
theorem vC_worst_L38 (B : CallFix p m c cX0_worst 7 s args lw_all RX0) (hK : KK X s) {w : CW} {x1 : Int32} {x2 : Int32} {x3 : Int32} {x4 : Int32} {res : Int32} (hf : lp (fun q : Int32 × Int32 × Int32 => fC_worst_L38 w x1 q.1 q.2.1 q.2.2) (x2, x3, x4) = some res) (ke132 : ∀ (y2 : Int32), res = y2 → ∀ (H : Heap) (locs : List Loc), GG X (CP X ca fa w ++ rest) s.heap H locs → ∀ (ls : Array Slot), lv_has ls 7 [(0, .ref (ca 0)), (2, .int y2)] → W p l e (RMw 4 0 0 92) s m args below meth c H locs 0 0 Q (F0 m 132 ls [])) {H : Heap} {locs : List Loc} (hG : GG X (CP X ca fa w ++ rest) s.heap H locs) {ls : Array Slot} (hl : lv_has ls 7 [(0, .ref (ca 0)), (1, .int x1), (2, .int x2), (3, .int x3), (4, .int x4)]) : W p l e (RMw 4 0 0 92) s m args below meth c H locs 0 0 Q (F0 m 38 ls []) := by
  refine lp_ind (r := res) (P := fun q : Int32 × Int32 × Int32 => ∀ (H : Heap) (locs : List Loc) (ls : Array Slot), GG X (CP X ca fa w ++ rest) s.heap H locs → lv_has ls 7 [(0, .ref (ca 0)), (1, .int x1), (2, .int q.1), (3, .int q.2.1), (4, .int q.2.2)] → W p l e (RMw 4 0 0 92) s m args below meth c H locs 0 0 Q (F0 m 38 ls [])) ?_ ?_ _ hf _ _ _ hG hl
  · intro q hb H locs ls hG hl
    exact wC_worst_L38 B hK hb (fun _ _ _ h => by cases h) (fun z0 h => ke132 z0 (Sum.inr.inj h)) hG hl
  · intro q q2 hb ih H locs ls hG hl
    exact wC_worst_L38 B hK hb (fun z0 z1 z2 h => by cases h; exact fun H locs hG ls hl => ih H locs ls hG hl) (fun _ h => by cases h) hG hl

noncomputable def fC_worst (w : CW) (x1 : Int32) : Option (Int32 × CW) :=
  (fC_isIn x1 0 1).bind fun r_1 =>
  if r_1 = 0 then
    b2 (fC_no w (-2)) fun r_21 f_18 =>
    (some (f_18)).bind fun w_19 =>
    some (r_21, w_19)
  else
    (fF_spreads (cfe w) ((cfe w).1 7)).bind fun f_5 =>
    (some (cnf w f_5)).bind fun w_6 =>
    (lp (fun q : Int32 × Int32 × Int32 => fC_worst_L38 w_6 x1 q.1 q.2.1 q.2.2) ((-1), (-1), 0)).bind (
      fun q_15 => (fun (y_8 : Int32) =>
        if y_8 = (-1) then
          b2 (fC_no w_6 (-5)) fun r_14 f_11 =>
          (some (f_11)).bind fun w_12 =>
          some (r_14, w_12)
        else
          some (y_8, w_6)
      ) q_15
    )

set_option maxHeartbeats 4000000 in
theorem wC_worst (B : CallFix p m c cX0_worst 7 s args lw_all RX0) (hK : KK X s) {w : CW} {x1 : Int32} {res : Int32 × CW} (hf : fC_worst w x1 = some res) (kr : ∀ (r : Int32) (w1 : CW), res = (r, w1) → ∀ (H : Heap) (locs : List Loc), GG X (CP X ca fa w1 ++ rest) s.heap H locs → ∀ (pc : Nat) (ls : Array Slot), decode cX0_worst pc = .ok (.ireturn, 1) → W p l e (RMw 4 0 0 92) s m args below meth c H locs 0 0 Q (F0 m pc ls [.int r])) {H : Heap} {locs : List Loc} (hG : GG X (CP X ca fa w ++ rest) s.heap H locs) {ls : Array Slot} (hl : lv_has ls 7 [(0, .ref (ca 0)), (1, .int x1)]) : W p l e (RMw 4 0 0 92) s m args below meth c H locs 0 0 Q (F0 m 0 ls []) := by
  have hx := B.1
  have hb := B.2.1
  unfold fC_worst at hf
  refine lv_iload_n hx hb dX0_worst_0 rfl (lv_at hl 1 rfl) ?_
  refine lv_iconst (v := 0) hx hb dX0_worst_1 (by decide) ?_
  refine lv_iconst (v := 1) hx hb dX0_worst_2 (by decide) ?_
  obtain ⟨r_1, e_2, hf⟩ := bo hf
  refine cC_isIn B e_2 ⟨Nat.le_of_ble_eq_true rfl, Nat.le_of_ble_eq_true rfl⟩ ⟨Nat.zero_le _, Nat.zero_le _⟩ hl.1 (Nat.le_of_ble_eq_true rfl) dX0_worst_3 ?_
  refine lv_if_ne (tgt := 16) hx hb dX0_worst_6 (by decide) (fun c_3 => ?_) (fun c_3 => ?_)
  · have hf := ifn c_3 hf
    refine lv_aload_n hx hb dX0_worst_16 rfl (lv_at hl 0 rfl) ?_
    refine co_this_g0 B hK hG.1 dX0_worst_17 ?_
    refine lv_aload_n hx hb dX0_worst_20 rfl (lv_at hl 0 rfl) ?_
    refine co_this_g0 B hK hG.1 dX0_worst_21 ?_
    refine co_fen_g7 B hK hG.1 dX0_worst_24 ?_
    obtain ⟨f_5, e_4, hf⟩ := bo hf
    obtain ⟨w_6, e_7, hf⟩ := bo hf
    refine cCF_spreads B hK hG e_4 e_7 ⟨Nat.le_of_ble_eq_true rfl, Nat.le_of_ble_eq_true rfl⟩ ⟨Nat.zero_le _, Nat.zero_le _⟩ hl.1 (Nat.le_of_ble_eq_true rfl) dX0_worst_27 (fun H locs hG => ?_)
    refine lv_pop hx hb dX0_worst_30 rfl ?_
    refine lv_iconst (v := (-1)) hx hb dX0_worst_31 (by decide) ?_
    refine lv_istore_n (lv' := [(2, .int (-1)), (0, .ref (ca 0)), (1, .int x1)]) hx hb dX0_worst_32 rfl hl (by decide) rfl (fun ls hl => ?_)
    refine lv_iconst (v := (-1)) hx hb dX0_worst_33 (by decide) ?_
    refine lv_istore_n (lv' := [(3, .int (-1)), (2, .int (-1)), (0, .ref (ca 0)), (1, .int x1)]) hx hb dX0_worst_34 rfl hl (by decide) rfl (fun ls hl => ?_)
    refine lv_iconst (v := 0) hx hb dX0_worst_35 (by decide) ?_
    refine lv_istore (lv' := [(4, .int 0), (3, .int (-1)), (2, .int (-1)), (0, .ref (ca 0)), (1, .int x1)]) hx hb dX0_worst_36 hl (by decide) rfl (fun ls hl => ?_)
    obtain ⟨y_8, e_16, hf⟩ := bo hf
    try dsimp only at hf
    refine vC_worst_L38 B hK e_16 ?_ hG (lv_sub hl [3, 4, 2, 1, 0] rfl)
    intro z0 hz
    cases hz
    intro H locs hG ls hl
    refine lv_iload_n hx hb dX0_worst_132 rfl (lv_at hl 1 rfl) ?_
    refine lv_iconst (v := (-1)) hx hb dX0_worst_133 (by decide) ?_
    refine lv_icmp_ne (tgt := 146) hx hb dX0_worst_134 (by decide) (fun c_9 => ?_) (fun c_9 => ?_)
    · have hf := ifn c_9 hf
      refine lv_iload_n hx hb dX0_worst_146 rfl (lv_at hl 1 rfl) ?_
      exact kr _ _ (Option.some.inj hf).symm _ _ hG _ _ dX0_worst_147
    · have hf := ifp c_9 hf
      refine lv_aload_n hx hb dX0_worst_137 rfl (lv_at hl 0 rfl) ?_
      refine lv_bipush (v := (-5)) hx hb dX0_worst_138 (by decide) ?_
      obtain ⟨r_14, f_11, e_10, hf⟩ := b2s hf
      obtain ⟨w_12, e_13, hf⟩ := bo hf
      refine cC_no B hK hG e_10 e_13 ⟨Nat.le_of_ble_eq_true rfl, Nat.le_of_ble_eq_true rfl⟩ ⟨Nat.zero_le _, Nat.zero_le _⟩ hl.1 (Nat.le_of_ble_eq_true rfl) dX0_worst_140 (fun H locs hG => ?_)
      refine lv_goto (tgt := 147) hx hb dX0_worst_143 (by decide) ?_
      exact kr _ _ (Option.some.inj hf).symm _ _ hG _ _ dX0_worst_147
  · have hf := ifp c_3 hf
    refine lv_aload_n hx hb dX0_worst_9 rfl (lv_at hl 0 rfl) ?_
    refine lv_bipush (v := (-2)) hx hb dX0_worst_10 (by decide) ?_
    obtain ⟨r_21, f_18, e_17, hf⟩ := b2s hf
    obtain ⟨w_19, e_20, hf⟩ := bo hf
    refine cC_no B hK hG e_17 e_20 ⟨Nat.le_of_ble_eq_true rfl, Nat.le_of_ble_eq_true rfl⟩ ⟨Nat.zero_le _, Nat.zero_le _⟩ hl.1 (Nat.le_of_ble_eq_true rfl) dX0_worst_12 (fun H locs hG => ?_)
    exact kr _ _ (Option.some.inj hf).symm _ _ hG _ _ dX0_worst_15

theorem tC_worst (l : Launch) (X : CX) (ca fa : Nat → Nat) (rest : va_W) (w w' : CW) (x1 : Int32) (r : Int32) (hf : fC_worst w x1 = some (r, w')) : RW l yX0_worst cX0_worst 7 (some .int) 4 0 0 92 [.ref (ca 0), .int x1] X (CP X ca fa w ++ rest) (CP X ca fa (w') ++ rest) (some (.int r)) := by
  refine RW.mk (by decide) (Nat.le_of_ble_eq_true rfl) ?_
  intro p e s m below meth c B hr hlk hK hG ls hl
  exact wC_worst B hK hf (fun r w h H locs hG pc ls hd => by cases h; exact w_iretW B hr hlk hG hd) hG hl
end S_C_worst

section S_C_longest
variable {p : Program} {l : Launch} {e : Env} {R : Room} {s : State} {m : MethodId} {args : Array Value} {below : List Frame} {meth : Method} {c : Code} {H : Heap} {locs : List Loc} {cells slots : Nat} {Q : State → Prop} {cc : ByteArray} {nL pc : Nat} {ls : Array Slot} {st : List Value} {X : CX} {rest : va_W} {ca fa : Nat → Nat}
noncomputable def fC_longest_J58_L13 (w : CW) (x3 : Int32) (t0 : Int32) (t1 : Int32) : Option ((Int32 × Int32) ⊕ (Int32)) :=
  (some (imax t0 t1)).bind fun x_1 =>
  (some (x3 + 1)).bind fun x_3 =>
  some (.inl (x_1, x_3))

set_option maxHeartbeats 4000000 in
theorem wC_longest_J58_L13 (B : CallFix p m c cX0_longest 5 s args lw_all RX0) (hK : KK X s) {w : CW} {x3 : Int32} {t0 : Int32} {t1 : Int32} {res : (Int32 × Int32) ⊕ (Int32)} (hf : fC_longest_J58_L13 w x3 t0 t1 = some res) (kc : ∀ (y2 : Int32) (y3 : Int32), res = .inl (y2, y3) → ∀ (H : Heap) (locs : List Loc), GG X (CP X ca fa w ++ rest) s.heap H locs → ∀ (ls : Array Slot), lv_has ls 5 [(0, .ref (ca 0)), (2, .int y2), (3, .int y3)] → W p l e (RMw 4 0 0 92) s m args below meth c H locs 0 0 Q (F0 m 13 ls [])) (ke68 : ∀ (y2 : Int32), res = .inr y2 → ∀ (H : Heap) (locs : List Loc), GG X (CP X ca fa w ++ rest) s.heap H locs → ∀ (ls : Array Slot), lv_has ls 5 [(2, .int y2)] → W p l e (RMw 4 0 0 92) s m args below meth c H locs 0 0 Q (F0 m 68 ls [])) {H : Heap} {locs : List Loc} (hG : GG X (CP X ca fa w ++ rest) s.heap H locs) {ls : Array Slot} (hl : lv_has ls 5 [(0, .ref (ca 0)), (3, .int x3)]) : W p l e (RMw 4 0 0 92) s m args below meth c H locs 0 0 Q (F0 m 58 ls [.int t1, .int t0]) := by
  have hx := B.1
  have hb := B.2.1
  unfold fC_longest_J58_L13 at hf
  refine w_max B hl.1 q1181 q813 q104 q814 (Nat.le_of_ble_eq_true rfl) (Nat.le_of_ble_eq_true rfl) (Nat.le_of_ble_eq_true rfl) (Nat.zero_le _) (Nat.zero_le _) dX0_longest_58 ?_
  obtain ⟨x_1, e_2, hf⟩ := bo hf
  refine w_istore_n (lv' := [(2, .int x_1), (0, .ref (ca 0)), (3, .int x3)]) e_2 hx hb dX0_longest_61 rfl hl (by decide) rfl (fun ls hl => ?_)
  obtain ⟨x_3, e_4, hf⟩ := bo hf
  refine w_iinc (k := 2) (lv' := [(3, .int x_3), (2, .int x_1), (0, .ref (ca 0))]) e_4 hx hb dX0_longest_62 hl rfl (by decide) rfl (fun ls hl => ?_)
  refine lv_goto (tgt := 13) hx hb dX0_longest_65 (by decide) ?_
  exact kc _ _ (Option.some.inj hf).symm _ _ hG _ (lv_sub hl [2, 1, 0] rfl)

noncomputable def fC_longest_L13 (w : CW) (x2 : Int32) (x3 : Int32) : Option ((Int32 × Int32) ⊕ (Int32)) :=
  if ((cfe w).1 9) ≤ x3 then
    some (.inr x2)
  else
    (rd ((cfe w).2.1 2) 4 x3).bind fun v_2 =>
    (rd ((cfe w).2.1 5) 70 v_2).bind fun v_4 =>
    if v_4 = (-1) then
      fC_longest_J58_L13 w x3 x2 100000
    else
      fC_longest_J58_L13 w x3 x2 v_4

set_option maxHeartbeats 4000000 in
theorem wC_longest_L13 (B : CallFix p m c cX0_longest 5 s args lw_all RX0) (hK : KK X s) {w : CW} {x2 : Int32} {x3 : Int32} {res : (Int32 × Int32) ⊕ (Int32)} (hf : fC_longest_L13 w x2 x3 = some res) (kc : ∀ (y2 : Int32) (y3 : Int32), res = .inl (y2, y3) → ∀ (H : Heap) (locs : List Loc), GG X (CP X ca fa w ++ rest) s.heap H locs → ∀ (ls : Array Slot), lv_has ls 5 [(0, .ref (ca 0)), (2, .int y2), (3, .int y3)] → W p l e (RMw 4 0 0 92) s m args below meth c H locs 0 0 Q (F0 m 13 ls [])) (ke68 : ∀ (y2 : Int32), res = .inr y2 → ∀ (H : Heap) (locs : List Loc), GG X (CP X ca fa w ++ rest) s.heap H locs → ∀ (ls : Array Slot), lv_has ls 5 [(2, .int y2)] → W p l e (RMw 4 0 0 92) s m args below meth c H locs 0 0 Q (F0 m 68 ls [])) {H : Heap} {locs : List Loc} (hG : GG X (CP X ca fa w ++ rest) s.heap H locs) {ls : Array Slot} (hl : lv_has ls 5 [(0, .ref (ca 0)), (2, .int x2), (3, .int x3)]) : W p l e (RMw 4 0 0 92) s m args below meth c H locs 0 0 Q (F0 m 13 ls []) := by
  have hx := B.1
  have hb := B.2.1
  unfold fC_longest_L13 at hf
  refine lv_iload_n hx hb dX0_longest_13 rfl (lv_at hl 2 rfl) ?_
  refine lv_aload_n hx hb dX0_longest_14 rfl (lv_at hl 0 rfl) ?_
  refine co_this_g0 B hK hG.1 dX0_longest_15 ?_
  refine co_fen_g9 B hK hG.1 dX0_longest_18 ?_
  refine lv_icmp_ge (tgt := 68) hx hb dX0_longest_21 (by decide) (fun c_1 => ?_) (fun c_1 => ?_)
  · have hf := ifp c_1 hf
    exact ke68 _ (Option.some.inj hf).symm _ _ hG _ (lv_sub hl [1] rfl)
  · have hf := ifn c_1 hf
    refine lv_aload_n hx hb dX0_longest_24 rfl (lv_at hl 0 rfl) ?_
    refine co_this_g0 B hK hG.1 dX0_longest_25 ?_
    refine co_fen_g5 B hK hG.1 dX0_longest_28 ?_
    refine lv_aload_n hx hb dX0_longest_31 rfl (lv_at hl 0 rfl) ?_
    refine co_this_g0 B hK hG.1 dX0_longest_32 ?_
    refine co_fen_g2 B hK hG.1 dX0_longest_35 ?_
    refine lv_iload_n hx hb dX0_longest_38 rfl (lv_at hl 2 rfl) ?_
    obtain ⟨v_2, e_3, hf⟩ := bo hf
    refine co_cell_l B hK hG.1 e_3 dX0_longest_39 ?_
    obtain ⟨v_4, e_5, hf⟩ := bo hf
    refine co_away_l B hK hG.1 e_5 dX0_longest_40 ?_
    refine lv_istore (lv' := [(4, .int v_4), (0, .ref (ca 0)), (2, .int x2), (3, .int x3)]) hx hb dX0_longest_41 hl (by decide) rfl (fun ls hl => ?_)
    refine lv_iload_n hx hb dX0_longest_43 rfl (lv_at hl 2 rfl) ?_
    refine lv_iload hx hb dX0_longest_44 (lv_at hl 0 rfl) ?_
    refine lv_iconst (v := (-1)) hx hb dX0_longest_46 (by decide) ?_
    refine lv_icmp_ne (tgt := 56) hx hb dX0_longest_47 (by decide) (fun c_6 => ?_) (fun c_6 => ?_)
    · have hf := ifn c_6 hf
      refine lv_iload hx hb dX0_longest_56 (lv_at hl 0 rfl) ?_
      exact wC_longest_J58_L13 B hK hf kc ke68 hG (lv_sub hl [1, 3] rfl)
    · have hf := ifp c_6 hf
      refine lv_ldcw (v := 100000) hx hb B.2.2.2.1 (B.2.2.2.2 _ q1176) dX0_longest_50 ?_
      refine lv_goto (tgt := 58) hx hb dX0_longest_53 (by decide) ?_
      exact wC_longest_J58_L13 B hK hf kc ke68 hG (lv_sub hl [1, 3] rfl)

set_option maxHeartbeats 4000000 in
theorem vC_longest_L13 (B : CallFix p m c cX0_longest 5 s args lw_all RX0) (hK : KK X s) {w : CW} {x2 : Int32} {x3 : Int32} {res : Int32} (hf : lp (fun q : Int32 × Int32 => fC_longest_L13 w q.1 q.2) (x2, x3) = some res) (ke68 : ∀ (y2 : Int32), res = y2 → ∀ (H : Heap) (locs : List Loc), GG X (CP X ca fa w ++ rest) s.heap H locs → ∀ (ls : Array Slot), lv_has ls 5 [(2, .int y2)] → W p l e (RMw 4 0 0 92) s m args below meth c H locs 0 0 Q (F0 m 68 ls [])) {H : Heap} {locs : List Loc} (hG : GG X (CP X ca fa w ++ rest) s.heap H locs) {ls : Array Slot} (hl : lv_has ls 5 [(0, .ref (ca 0)), (2, .int x2), (3, .int x3)]) : W p l e (RMw 4 0 0 92) s m args below meth c H locs 0 0 Q (F0 m 13 ls []) := by
  refine lp_ind (r := res) (P := fun q : Int32 × Int32 => ∀ (H : Heap) (locs : List Loc) (ls : Array Slot), GG X (CP X ca fa w ++ rest) s.heap H locs → lv_has ls 5 [(0, .ref (ca 0)), (2, .int q.1), (3, .int q.2)] → W p l e (RMw 4 0 0 92) s m args below meth c H locs 0 0 Q (F0 m 13 ls [])) ?_ ?_ _ hf _ _ _ hG hl
  · intro q hb H locs ls hG hl
    exact wC_longest_L13 B hK hb (fun _ _ h => by cases h) (fun z0 h => ke68 z0 (Sum.inr.inj h)) hG hl
  · intro q q2 hb ih H locs ls hG hl
    exact wC_longest_L13 B hK hb (fun z0 z1 h => by cases h; exact fun H locs hG ls hl => ih H locs ls hG hl) (fun _ h => by cases h) hG hl

noncomputable def fC_longest (w : CW) (x1 : Int32) : Option (Int32 × CW) :=
  (fF_spreads (cfe w) x1).bind fun f_2 =>
  (some (cnf w f_2)).bind fun w_3 =>
  (lp (fun q : Int32 × Int32 => fC_longest_L13 w_3 q.1 q.2) (0, 0)).bind (
    fun q_6 => (fun (y_5 : Int32) =>
      some (y_5, w_3)
    ) q_6
  )

set_option maxHeartbeats 4000000 in
theorem wC_longest (B : CallFix p m c cX0_longest 5 s args lw_all RX0) (hK : KK X s) {w : CW} {x1 : Int32} {res : Int32 × CW} (hf : fC_longest w x1 = some res) (kr : ∀ (r : Int32) (w1 : CW), res = (r, w1) → ∀ (H : Heap) (locs : List Loc), GG X (CP X ca fa w1 ++ rest) s.heap H locs → ∀ (pc : Nat) (ls : Array Slot), decode cX0_longest pc = .ok (.ireturn, 1) → W p l e (RMw 4 0 0 92) s m args below meth c H locs 0 0 Q (F0 m pc ls [.int r])) {H : Heap} {locs : List Loc} (hG : GG X (CP X ca fa w ++ rest) s.heap H locs) {ls : Array Slot} (hl : lv_has ls 5 [(0, .ref (ca 0)), (1, .int x1)]) : W p l e (RMw 4 0 0 92) s m args below meth c H locs 0 0 Q (F0 m 0 ls []) := by
  have hx := B.1
  have hb := B.2.1
  unfold fC_longest at hf
  refine lv_iconst (v := 0) hx hb dX0_longest_0 (by decide) ?_
  refine lv_istore_n (lv' := [(2, .int 0), (0, .ref (ca 0)), (1, .int x1)]) hx hb dX0_longest_1 rfl hl (by decide) rfl (fun ls hl => ?_)
  refine lv_aload_n hx hb dX0_longest_2 rfl (lv_at hl 1 rfl) ?_
  refine co_this_g0 B hK hG.1 dX0_longest_3 ?_
  refine lv_iload_n hx hb dX0_longest_6 rfl (lv_at hl 2 rfl) ?_
  obtain ⟨f_2, e_1, hf⟩ := bo hf
  obtain ⟨w_3, e_4, hf⟩ := bo hf
  refine cCF_spreads B hK hG e_1 e_4 ⟨Nat.le_of_ble_eq_true rfl, Nat.le_of_ble_eq_true rfl⟩ ⟨Nat.zero_le _, Nat.zero_le _⟩ hl.1 (Nat.le_of_ble_eq_true rfl) dX0_longest_7 (fun H locs hG => ?_)
  refine lv_pop hx hb dX0_longest_10 rfl ?_
  refine lv_iconst (v := 0) hx hb dX0_longest_11 (by decide) ?_
  refine lv_istore_n (lv' := [(3, .int 0), (2, .int 0), (0, .ref (ca 0)), (1, .int x1)]) hx hb dX0_longest_12 rfl hl (by decide) rfl (fun ls hl => ?_)
  obtain ⟨y_5, e_7, hf⟩ := bo hf
  try dsimp only at hf
  refine vC_longest_L13 B hK e_7 ?_ hG (lv_sub hl [2, 1, 0] rfl)
  intro z0 hz
  cases hz
  intro H locs hG ls hl
  refine lv_iload_n hx hb dX0_longest_68 rfl (lv_at hl 0 rfl) ?_
  exact kr _ _ (Option.some.inj hf).symm _ _ hG _ _ dX0_longest_69

theorem tC_longest (l : Launch) (X : CX) (ca fa : Nat → Nat) (rest : va_W) (w w' : CW) (x1 : Int32) (r : Int32) (hf : fC_longest w x1 = some (r, w')) : RW l yX0_longest cX0_longest 5 (some .int) 4 0 0 92 [.ref (ca 0), .int x1] X (CP X ca fa w ++ rest) (CP X ca fa (w') ++ rest) (some (.int r)) := by
  refine RW.mk (by decide) (Nat.le_of_ble_eq_true rfl) ?_
  intro p e s m below meth c B hr hlk hK hG ls hl
  exact wC_longest B hK hf (fun r w h H locs hG pc ls hd => by cases h; exact w_iretW B hr hlk hG hd) hG hl
end S_C_longest

section K_cC_longest
variable {p : Program} {l : Launch} {e : Env} {R : Room} {s : State} {m : MethodId} {args : Array Value} {below : List Frame} {meth : Method} {c : Code} {H : Heap} {locs : List Loc} {cells slots : Nat} {Q : State → Prop} {cc : ByteArray} {nL pc : Nat} {ls : Array Slot} {st : List Value} {X : CX} {rest : va_W} {ca fa : Nat → Nat}
theorem cC_longest (B : CallFix p m c cc nL s args lw_all RX0) (hK : KK X s) {w : CW} (hG : GG X (CP X ca fa w ++ rest) s.heap H locs) {x1 : Int32} {r : Int32} {f1 : CW} {w' : CW} (hf : fC_longest w x1 = some (r, f1)) (hw : some (f1) = some w') (hR : 4 + 1 ≤ R.frames ∧ 116 ≤ R.locals) (hcs : cells ≤ R.cells ∧ slots ≤ R.slots) (hl : ls.size = nL) (hcat : (st.map fun v => v.category).sum ≤ 8) (hdg : decode cc pc = .ok (.invokevirtual 348, 3)) (kk : ∀ (H1 : Heap) (locs1 : List Loc), GG X (CP X ca fa (w') ++ rest) s.heap H1 locs1 → W p l e R s m args below meth c H1 locs1 cells slots Q (F0 m (pc + 3) ls (.int r :: st))) : W p l e R s m args below meth c H locs cells slots Q (F0 m pc ls (.int x1 :: .ref (ca 0) :: st)) := by
  cases hw
  exact w_afterW (w_rV_RW (ws := CP X ca fa w ++ rest) (As := [.int x1]) B hK hG (tC_longest l X ca fa rest w f1 x1 r hf) (lw_V q1303 q1305 qs29 q87 q1306) 8 rfl rfl (n := 1) (by decide +kernel) hR hcs rfl hl rfl hcat hdg) hG.2.2 kk
end K_cC_longest

section S_C_meet
variable {p : Program} {l : Launch} {e : Env} {R : Room} {s : State} {m : MethodId} {args : Array Value} {below : List Frame} {meth : Method} {c : Code} {H : Heap} {locs : List Loc} {cells slots : Nat} {Q : State → Prop} {cc : ByteArray} {nL pc : Nat} {ls : Array Slot} {st : List Value} {X : CX} {rest : va_W} {ca fa : Nat → Nat}
noncomputable def fC_meet_J48_L15 (w : CW) (x2 : Int32) (x3 : Int32) (x4 : Int32) (t0 : Int32) : Option ((Int32 × Int32 × Int32 × CW) ⊕ (Int32 × CW)) :=
  (some (if x4 < x2 then x4 else x2)).bind fun x_1 =>
  (fF_next (cfe w) x3).bind fun r_3 =>
  some (.inl (t0, x_1, r_3, w))

set_option maxHeartbeats 4000000 in
theorem wC_meet_J48_L15 (B : CallFix p m c cX0_meet 5 s args lw_all RX0) (hK : KK X s) {w : CW} {x2 : Int32} {x3 : Int32} {x4 : Int32} {t0 : Int32} {res : (Int32 × Int32 × Int32 × CW) ⊕ (Int32 × CW)} (hf : fC_meet_J48_L15 w x2 x3 x4 t0 = some res) (kc : ∀ (y1 : Int32) (y2 : Int32) (y3 : Int32) (w1 : CW), res = .inl (y1, y2, y3, w1) → ∀ (H : Heap) (locs : List Loc), GG X (CP X ca fa w1 ++ rest) s.heap H locs → ∀ (ls : Array Slot), lv_has ls 5 [(0, .ref (ca 0)), (1, .int y1), (2, .int y2), (3, .int y3)] → W p l e (RMw 5 0 0 116) s m args below meth c H locs 0 0 Q (F0 m 15 ls [])) (ke68 : ∀ (y1 : Int32) (w1 : CW), res = .inr (y1, w1) → ∀ (H : Heap) (locs : List Loc), GG X (CP X ca fa w1 ++ rest) s.heap H locs → ∀ (ls : Array Slot), lv_has ls 5 [(0, .ref (ca 0)), (1, .int y1)] → W p l e (RMw 5 0 0 116) s m args below meth c H locs 0 0 Q (F0 m 68 ls [])) {H : Heap} {locs : List Loc} (hG : GG X (CP X ca fa w ++ rest) s.heap H locs) {ls : Array Slot} (hl : lv_has ls 5 [(0, .ref (ca 0)), (2, .int x2), (3, .int x3), (4, .int x4)]) : W p l e (RMw 5 0 0 116) s m args below meth c H locs 0 0 Q (F0 m 48 ls [.int t0]) := by
  have hx := B.1
  have hb := B.2.1
  unfold fC_meet_J48_L15 at hf
  refine lv_istore_n (lv' := [(1, .int t0), (0, .ref (ca 0)), (2, .int x2), (3, .int x3), (4, .int x4)]) hx hb dX0_meet_48 rfl hl (by decide) rfl (fun ls hl => ?_)
  refine lv_iload_n hx hb dX0_meet_49 rfl (lv_at hl 2 rfl) ?_
  refine lv_iload hx hb dX0_meet_50 (lv_at hl 4 rfl) ?_
  refine w_min B hl.1 q1182 q831 q104 q832 (Nat.le_of_ble_eq_true rfl) (Nat.le_of_ble_eq_true rfl) (Nat.le_of_ble_eq_true rfl) (Nat.zero_le _) (Nat.zero_le _) dX0_meet_52 ?_
  obtain ⟨x_1, e_2, hf⟩ := bo hf
  refine w_istore_n (lv' := [(2, .int x_1), (1, .int t0), (0, .ref (ca 0)), (3, .int x3), (4, .int x4)]) e_2 hx hb dX0_meet_55 rfl hl (by decide) rfl (fun ls hl => ?_)
  refine lv_aload_n hx hb dX0_meet_56 rfl (lv_at hl 2 rfl) ?_
  refine co_this_g0 B hK hG.1 dX0_meet_57 ?_
  refine lv_iload_n hx hb dX0_meet_60 rfl (lv_at hl 3 rfl) ?_
  obtain ⟨r_3, e_4, hf⟩ := bo hf
  refine cCF_next B hK hG.2.2 hG.1 e_4 ⟨Nat.le_of_ble_eq_true rfl, Nat.le_of_ble_eq_true rfl⟩ ⟨Nat.zero_le _, Nat.zero_le _⟩ hl.1 (Nat.le_of_ble_eq_true rfl) dX0_meet_61 ?_
  refine lv_istore_n (lv' := [(3, .int r_3), (2, .int x_1), (1, .int t0), (0, .ref (ca 0)), (4, .int x4)]) hx hb dX0_meet_64 rfl hl (by decide) rfl (fun ls hl => ?_)
  refine lv_goto (tgt := 15) hx hb dX0_meet_65 (by decide) ?_
  exact kc _ _ _ _ (Option.some.inj hf).symm _ _ hG _ (lv_sub hl [3, 2, 1, 0] rfl)

noncomputable def fC_meet_L15 (w : CW) (x1 : Int32) (x2 : Int32) (x3 : Int32) : Option ((Int32 × Int32 × Int32 × CW) ⊕ (Int32 × CW)) :=
  if x3 = (-1) then
    some (.inr (x1, w))
  else
    if ((cfe w).1 9) ≤ 0 then
      some (.inr (x1, w))
    else
      b2 (fC_longest w x3) fun r_7 f_4 =>
      (some (f_4)).bind fun w_5 =>
      if x2 ≤ r_7 then
        fC_meet_J48_L15 w_5 x2 x3 r_7 x1
      else
        fC_meet_J48_L15 w_5 x2 x3 r_7 x3

set_option maxHeartbeats 4000000 in
theorem wC_meet_L15 (B : CallFix p m c cX0_meet 5 s args lw_all RX0) (hK : KK X s) {w : CW} {x1 : Int32} {x2 : Int32} {x3 : Int32} {res : (Int32 × Int32 × Int32 × CW) ⊕ (Int32 × CW)} (hf : fC_meet_L15 w x1 x2 x3 = some res) (kc : ∀ (y1 : Int32) (y2 : Int32) (y3 : Int32) (w1 : CW), res = .inl (y1, y2, y3, w1) → ∀ (H : Heap) (locs : List Loc), GG X (CP X ca fa w1 ++ rest) s.heap H locs → ∀ (ls : Array Slot), lv_has ls 5 [(0, .ref (ca 0)), (1, .int y1), (2, .int y2), (3, .int y3)] → W p l e (RMw 5 0 0 116) s m args below meth c H locs 0 0 Q (F0 m 15 ls [])) (ke68 : ∀ (y1 : Int32) (w1 : CW), res = .inr (y1, w1) → ∀ (H : Heap) (locs : List Loc), GG X (CP X ca fa w1 ++ rest) s.heap H locs → ∀ (ls : Array Slot), lv_has ls 5 [(0, .ref (ca 0)), (1, .int y1)] → W p l e (RMw 5 0 0 116) s m args below meth c H locs 0 0 Q (F0 m 68 ls [])) {H : Heap} {locs : List Loc} (hG : GG X (CP X ca fa w ++ rest) s.heap H locs) {ls : Array Slot} (hl : lv_has ls 5 [(0, .ref (ca 0)), (1, .int x1), (2, .int x2), (3, .int x3)]) : W p l e (RMw 5 0 0 116) s m args below meth c H locs 0 0 Q (F0 m 15 ls []) := by
  have hx := B.1
  have hb := B.2.1
  unfold fC_meet_L15 at hf
  refine lv_iload_n hx hb dX0_meet_15 rfl (lv_at hl 3 rfl) ?_
  refine lv_iconst (v := (-1)) hx hb dX0_meet_16 (by decide) ?_
  refine lv_icmp_eq (tgt := 68) hx hb dX0_meet_17 (by decide) (fun c_1 => ?_) (fun c_1 => ?_)
  · have hf := ifp c_1 hf
    exact ke68 _ _ (Option.some.inj hf).symm _ _ hG _ (lv_sub hl [0, 1] rfl)
  · have hf := ifn c_1 hf
    refine lv_aload_n hx hb dX0_meet_20 rfl (lv_at hl 0 rfl) ?_
    refine co_this_g0 B hK hG.1 dX0_meet_21 ?_
    refine co_fen_g9 B hK hG.1 dX0_meet_24 ?_
    refine lv_if_le (tgt := 68) hx hb dX0_meet_27 (by decide) (fun c_2 => ?_) (fun c_2 => ?_)
    · have hf := ifp c_2 hf
      exact ke68 _ _ (Option.some.inj hf).symm _ _ hG _ (lv_sub hl [0, 1] rfl)
    · have hf := ifn c_2 hf
      refine lv_aload_n hx hb dX0_meet_30 rfl (lv_at hl 0 rfl) ?_
      refine lv_iload_n hx hb dX0_meet_31 rfl (lv_at hl 3 rfl) ?_
      obtain ⟨r_7, f_4, e_3, hf⟩ := b2s hf
      obtain ⟨w_5, e_6, hf⟩ := bo hf
      refine cC_longest B hK hG e_3 e_6 ⟨Nat.le_of_ble_eq_true rfl, Nat.le_of_ble_eq_true rfl⟩ ⟨Nat.zero_le _, Nat.zero_le _⟩ hl.1 (Nat.le_of_ble_eq_true rfl) dX0_meet_32 (fun H locs hG => ?_)
      refine lv_istore (lv' := [(4, .int r_7), (0, .ref (ca 0)), (1, .int x1), (2, .int x2), (3, .int x3)]) hx hb dX0_meet_35 hl (by decide) rfl (fun ls hl => ?_)
      refine lv_iload hx hb dX0_meet_37 (lv_at hl 0 rfl) ?_
      refine lv_iload_n hx hb dX0_meet_39 rfl (lv_at hl 3 rfl) ?_
      refine lv_icmp_ge (tgt := 47) hx hb dX0_meet_40 (by decide) (fun c_8 => ?_) (fun c_8 => ?_)
      · have hf := ifp c_8 hf
        refine lv_iload_n hx hb dX0_meet_47 rfl (lv_at hl 2 rfl) ?_
        exact wC_meet_J48_L15 B hK hf kc ke68 hG (lv_sub hl [1, 3, 4, 0] rfl)
      · have hf := ifn c_8 hf
        refine lv_iload_n hx hb dX0_meet_43 rfl (lv_at hl 4 rfl) ?_
        refine lv_goto (tgt := 48) hx hb dX0_meet_44 (by decide) ?_
        exact wC_meet_J48_L15 B hK hf kc ke68 hG (lv_sub hl [1, 3, 4, 0] rfl)

set_option maxHeartbeats 4000000 in
theorem vC_meet_L15 (B : CallFix p m c cX0_meet 5 s args lw_all RX0) (hK : KK X s) {w : CW} {x1 : Int32} {x2 : Int32} {x3 : Int32} {res : Int32 × CW} (hf : lp (fun q : Int32 × Int32 × Int32 × CW => fC_meet_L15 q.2.2.2 q.1 q.2.1 q.2.2.1) (x1, x2, x3, w) = some res) (ke68 : ∀ (y1 : Int32) (w1 : CW), res = (y1, w1) → ∀ (H : Heap) (locs : List Loc), GG X (CP X ca fa w1 ++ rest) s.heap H locs → ∀ (ls : Array Slot), lv_has ls 5 [(0, .ref (ca 0)), (1, .int y1)] → W p l e (RMw 5 0 0 116) s m args below meth c H locs 0 0 Q (F0 m 68 ls [])) {H : Heap} {locs : List Loc} (hG : GG X (CP X ca fa w ++ rest) s.heap H locs) {ls : Array Slot} (hl : lv_has ls 5 [(0, .ref (ca 0)), (1, .int x1), (2, .int x2), (3, .int x3)]) : W p l e (RMw 5 0 0 116) s m args below meth c H locs 0 0 Q (F0 m 15 ls []) := by
  refine lp_ind (r := res) (P := fun q : Int32 × Int32 × Int32 × CW => ∀ (H : Heap) (locs : List Loc) (ls : Array Slot), GG X (CP X ca fa q.2.2.2 ++ rest) s.heap H locs → lv_has ls 5 [(0, .ref (ca 0)), (1, .int q.1), (2, .int q.2.1), (3, .int q.2.2.1)] → W p l e (RMw 5 0 0 116) s m args below meth c H locs 0 0 Q (F0 m 15 ls [])) ?_ ?_ _ hf _ _ _ hG hl
  · intro q hb H locs ls hG hl
    exact wC_meet_L15 B hK hb (fun _ _ _ _ h => by cases h) (fun z0 z1 h => ke68 z0 z1 (Sum.inr.inj h)) hG hl
  · intro q q2 hb ih H locs ls hG hl
    exact wC_meet_L15 B hK hb (fun z0 z1 z2 z3 h => by cases h; exact fun H locs hG ls hl => ih H locs ls hG hl) (fun _ _ h => by cases h) hG hl

noncomputable def fC_meet_J68 (w : CW) (x1 : Int32) : Option (Int32 × CW) :=
  if ((cfe w).1 9) = 0 then
    some (0, w)
  else
    some (x1, w)

set_option maxHeartbeats 4000000 in
theorem wC_meet_J68 (B : CallFix p m c cX0_meet 5 s args lw_all RX0) (hK : KK X s) {w : CW} {x1 : Int32} {res : Int32 × CW} (hf : fC_meet_J68 w x1 = some res) (kr : ∀ (r : Int32) (w1 : CW), res = (r, w1) → ∀ (H : Heap) (locs : List Loc), GG X (CP X ca fa w1 ++ rest) s.heap H locs → ∀ (pc : Nat) (ls : Array Slot), decode cX0_meet pc = .ok (.ireturn, 1) → W p l e (RMw 5 0 0 116) s m args below meth c H locs 0 0 Q (F0 m pc ls [.int r])) {H : Heap} {locs : List Loc} (hG : GG X (CP X ca fa w ++ rest) s.heap H locs) {ls : Array Slot} (hl : lv_has ls 5 [(0, .ref (ca 0)), (1, .int x1)]) : W p l e (RMw 5 0 0 116) s m args below meth c H locs 0 0 Q (F0 m 68 ls []) := by
  have hx := B.1
  have hb := B.2.1
  unfold fC_meet_J68 at hf
  refine lv_aload_n hx hb dX0_meet_68 rfl (lv_at hl 0 rfl) ?_
  refine co_this_g0 B hK hG.1 dX0_meet_69 ?_
  refine co_fen_g9 B hK hG.1 dX0_meet_72 ?_
  refine lv_if_ne (tgt := 82) hx hb dX0_meet_75 (by decide) (fun c_1 => ?_) (fun c_1 => ?_)
  · have hf := ifn c_1 hf
    refine lv_iload_n hx hb dX0_meet_82 rfl (lv_at hl 1 rfl) ?_
    exact kr _ _ (Option.some.inj hf).symm _ _ hG _ _ dX0_meet_83
  · have hf := ifp c_1 hf
    refine lv_iconst (v := 0) hx hb dX0_meet_78 (by decide) ?_
    refine lv_goto (tgt := 83) hx hb dX0_meet_79 (by decide) ?_
    exact kr _ _ (Option.some.inj hf).symm _ _ hG _ _ dX0_meet_83

noncomputable def fC_meet (w : CW)  : Option (Int32 × CW) :=
  (fF_next (cfe w) (-1)).bind fun r_1 =>
  (lp (fun q : Int32 × Int32 × Int32 × CW => fC_meet_L15 q.2.2.2 q.1 q.2.1 q.2.2.1) ((-1), 100000, r_1, w)).bind (
    fun q_5 => (fun (y_3 : Int32) (w_4 : CW) =>
      fC_meet_J68 w_4 y_3
    ) q_5.1 q_5.2
  )

set_option maxHeartbeats 4000000 in
theorem wC_meet (B : CallFix p m c cX0_meet 5 s args lw_all RX0) (hK : KK X s) {w : CW}  {res : Int32 × CW} (hf : fC_meet w  = some res) (kr : ∀ (r : Int32) (w1 : CW), res = (r, w1) → ∀ (H : Heap) (locs : List Loc), GG X (CP X ca fa w1 ++ rest) s.heap H locs → ∀ (pc : Nat) (ls : Array Slot), decode cX0_meet pc = .ok (.ireturn, 1) → W p l e (RMw 5 0 0 116) s m args below meth c H locs 0 0 Q (F0 m pc ls [.int r])) {H : Heap} {locs : List Loc} (hG : GG X (CP X ca fa w ++ rest) s.heap H locs) {ls : Array Slot} (hl : lv_has ls 5 [(0, .ref (ca 0))]) : W p l e (RMw 5 0 0 116) s m args below meth c H locs 0 0 Q (F0 m 0 ls []) := by
  have hx := B.1
  have hb := B.2.1
  unfold fC_meet at hf
  refine lv_iconst (v := (-1)) hx hb dX0_meet_0 (by decide) ?_
  refine lv_istore_n (lv' := [(1, .int (-1)), (0, .ref (ca 0))]) hx hb dX0_meet_1 rfl hl (by decide) rfl (fun ls hl => ?_)
  refine lv_ldcw (v := 100000) hx hb B.2.2.2.1 (B.2.2.2.2 _ q1176) dX0_meet_2 ?_
  refine lv_istore_n (lv' := [(2, .int 100000), (1, .int (-1)), (0, .ref (ca 0))]) hx hb dX0_meet_5 rfl hl (by decide) rfl (fun ls hl => ?_)
  refine lv_aload_n hx hb dX0_meet_6 rfl (lv_at hl 2 rfl) ?_
  refine co_this_g0 B hK hG.1 dX0_meet_7 ?_
  refine lv_iconst (v := (-1)) hx hb dX0_meet_10 (by decide) ?_
  obtain ⟨r_1, e_2, hf⟩ := bo hf
  refine cCF_next B hK hG.2.2 hG.1 e_2 ⟨Nat.le_of_ble_eq_true rfl, Nat.le_of_ble_eq_true rfl⟩ ⟨Nat.zero_le _, Nat.zero_le _⟩ hl.1 (Nat.le_of_ble_eq_true rfl) dX0_meet_11 ?_
  refine lv_istore_n (lv' := [(3, .int r_1), (2, .int 100000), (1, .int (-1)), (0, .ref (ca 0))]) hx hb dX0_meet_14 rfl hl (by decide) rfl (fun ls hl => ?_)
  obtain ⟨⟨y_3, w_4⟩, e_6, hf⟩ := bo hf
  try dsimp only at hf
  refine vC_meet_L15 B hK e_6 ?_ hG (lv_sub hl [3, 2, 1, 0] rfl)
  intro z0 z1 hz
  cases hz
  intro H locs hG ls hl
  exact wC_meet_J68 B hK hf kr hG hl

theorem tC_meet (l : Launch) (X : CX) (ca fa : Nat → Nat) (rest : va_W) (w w' : CW)  (r : Int32) (hf : fC_meet w  = some (r, w')) : RW l yX0_meet cX0_meet 5 (some .int) 5 0 0 116 [.ref (ca 0)] X (CP X ca fa w ++ rest) (CP X ca fa (w') ++ rest) (some (.int r)) := by
  refine RW.mk (by decide) (Nat.le_of_ble_eq_true rfl) ?_
  intro p e s m below meth c B hr hlk hK hG ls hl
  exact wC_meet B hK hf (fun r w h H locs hG pc ls hd => by cases h; exact w_iretW B hr hlk hG hd) hG hl
end S_C_meet

section K_cCF_stands
variable {p : Program} {l : Launch} {e : Env} {R : Room} {s : State} {m : MethodId} {args : Array Value} {below : List Frame} {meth : Method} {c : Code} {H : Heap} {locs : List Loc} {cells slots : Nat} {Q : State → Prop} {cc : ByteArray} {nL pc : Nat} {ls : Array Slot} {st : List Value} {X : CX} {rest : va_W} {ca fa : Nat → Nat}
theorem cCF_stands (B : CallFix p m c cc nL s args lw_all RX0) (hK : KK X s) {w : CW} (hG : GG X (CP X ca fa w ++ rest) s.heap H locs) {x1 : Int32} {x2 : Int32} {x3 : Int32} {f1 : FW} {w' : CW} (hf : fF_stands (cfe w) x1 x2 x3 = some f1) (hw : some (cnf w f1) = some w') (hR : 1 + 1 ≤ R.frames ∧ 44 ≤ R.locals) (hcs : cells ≤ R.cells ∧ slots ≤ R.slots) (hl : ls.size = nL) (hcat : (st.map fun v => v.category).sum ≤ 8) (hdg : decode cc pc = .ok (.invokevirtual 361, 3)) (kk : ∀ (H1 : Heap) (locs1 : List Loc), GG X (CP X ca fa (w') ++ rest) s.heap H1 locs1 → W p l e R s m args below meth c H1 locs1 cells slots Q (F0 m (pc + 3) ls st)) : W p l e R s m args below meth c H locs cells slots Q (F0 m pc ls (.int x3 :: .int x2 :: .int x1 :: .ref (fa 0) :: st)) := by
  cases hw
  exact w_afterWv (w_rV_RW (ws := FP X fa (cfe w) ++ (CPr X ca fa w ++ rest)) (As := [.int x1, .int x2, .int x3]) B hK hG (tF_stands l X fa (CPr X ca fa w ++ rest) (cfe w) f1 x1 x2 x3 hf) (lw_V q1328 q1329 q1330 q88 q1331) 0 rfl rfl (n := 3) (by decide +kernel) hR hcs rfl hl rfl hcat hdg) hG.2.2 kk
end K_cCF_stands

section S_C_goes
variable {p : Program} {l : Launch} {e : Env} {R : Room} {s : State} {m : MethodId} {args : Array Value} {below : List Frame} {meth : Method} {c : Code} {H : Heap} {locs : List Loc} {cells slots : Nat} {Q : State → Prop} {cc : ByteArray} {nL pc : Nat} {ls : Array Slot} {st : List Value} {X : CX} {rest : va_W} {ca fa : Nat → Nat}
noncomputable def fC_goes_J20 (w : CW)  : Option (Int32 × CW) :=
  b2 (fC_no w (-2)) fun r_5 f_2 =>
  (some (f_2)).bind fun w_3 =>
  some (r_5, w_3)

set_option maxHeartbeats 4000000 in
theorem wC_goes_J20 (B : CallFix p m c cX0_goes 5 s args lw_all RX0) (hK : KK X s) {w : CW}  {res : Int32 × CW} (hf : fC_goes_J20 w  = some res) (kr : ∀ (r : Int32) (w1 : CW), res = (r, w1) → ∀ (H : Heap) (locs : List Loc), GG X (CP X ca fa w1 ++ rest) s.heap H locs → ∀ (pc : Nat) (ls : Array Slot), decode cX0_goes pc = .ok (.ireturn, 1) → W p l e (RMw 3 0 0 67) s m args below meth c H locs 0 0 Q (F0 m pc ls [.int r])) {H : Heap} {locs : List Loc} (hG : GG X (CP X ca fa w ++ rest) s.heap H locs) {ls : Array Slot} (hl : lv_has ls 5 [(0, .ref (ca 0))]) : W p l e (RMw 3 0 0 67) s m args below meth c H locs 0 0 Q (F0 m 20 ls []) := by
  have hx := B.1
  have hb := B.2.1
  unfold fC_goes_J20 at hf
  refine lv_aload_n hx hb dX0_goes_20 rfl (lv_at hl 0 rfl) ?_
  refine lv_bipush (v := (-2)) hx hb dX0_goes_21 (by decide) ?_
  obtain ⟨r_5, f_2, e_1, hf⟩ := b2s hf
  obtain ⟨w_3, e_4, hf⟩ := bo hf
  refine cC_no B hK hG e_1 e_4 ⟨Nat.le_of_ble_eq_true rfl, Nat.le_of_ble_eq_true rfl⟩ ⟨Nat.zero_le _, Nat.zero_le _⟩ hl.1 (Nat.le_of_ble_eq_true rfl) dX0_goes_23 (fun H locs hG => ?_)
  exact kr _ _ (Option.some.inj hf).symm _ _ hG _ _ dX0_goes_26

noncomputable def fC_goes_J85 (w : CW) (x4 : Int32) (t1 : Int32) (t2 : Int32) (t3 : Int32) : Option (Int32 × CW) :=
  (fF_stands (cfe w) t1 t2 t3).bind fun f_2 =>
  (some (cnf w f_2)).bind fun w_3 =>
  some (x4, w_3)

set_option maxHeartbeats 4000000 in
theorem wC_goes_J85 (B : CallFix p m c cX0_goes 5 s args lw_all RX0) (hK : KK X s) {w : CW} {x4 : Int32} {t1 : Int32} {t2 : Int32} {t3 : Int32} {res : Int32 × CW} (hf : fC_goes_J85 w x4 t1 t2 t3 = some res) (kr : ∀ (r : Int32) (w1 : CW), res = (r, w1) → ∀ (H : Heap) (locs : List Loc), GG X (CP X ca fa w1 ++ rest) s.heap H locs → ∀ (pc : Nat) (ls : Array Slot), decode cX0_goes pc = .ok (.ireturn, 1) → W p l e (RMw 3 0 0 67) s m args below meth c H locs 0 0 Q (F0 m pc ls [.int r])) {H : Heap} {locs : List Loc} (hG : GG X (CP X ca fa w ++ rest) s.heap H locs) {ls : Array Slot} (hl : lv_has ls 5 [(4, .int x4)]) : W p l e (RMw 3 0 0 67) s m args below meth c H locs 0 0 Q (F0 m 85 ls [.int t3, .int t2, .int t1, .ref (fa 0)]) := by
  have hx := B.1
  have hb := B.2.1
  unfold fC_goes_J85 at hf
  obtain ⟨f_2, e_1, hf⟩ := bo hf
  obtain ⟨w_3, e_4, hf⟩ := bo hf
  refine cCF_stands B hK hG e_1 e_4 ⟨Nat.le_of_ble_eq_true rfl, Nat.le_of_ble_eq_true rfl⟩ ⟨Nat.zero_le _, Nat.zero_le _⟩ hl.1 (Nat.le_of_ble_eq_true rfl) dX0_goes_85 (fun H locs hG => ?_)
  refine lv_iload hx hb dX0_goes_88 (lv_at hl 0 rfl) ?_
  exact kr _ _ (Option.some.inj hf).symm _ _ hG _ _ dX0_goes_90

noncomputable def fC_goes_J54 (w : CW) (x1 : Int32) (x2 : Int32) (t0 : Int32) : Option (Int32 × CW) :=
  if t0 = (-1) then
    b2 (fC_no w (-5)) fun r_7 f_4 =>
    (some (f_4)).bind fun w_5 =>
    some (r_7, w_5)
  else
    if x2 = 0 then
      fC_goes_J85 w t0 x1 t0 0
    else
      fC_goes_J85 w t0 x1 t0 1

set_option maxHeartbeats 4000000 in
theorem wC_goes_J54 (B : CallFix p m c cX0_goes 5 s args lw_all RX0) (hK : KK X s) {w : CW} {x1 : Int32} {x2 : Int32} {t0 : Int32} {res : Int32 × CW} (hf : fC_goes_J54 w x1 x2 t0 = some res) (kr : ∀ (r : Int32) (w1 : CW), res = (r, w1) → ∀ (H : Heap) (locs : List Loc), GG X (CP X ca fa w1 ++ rest) s.heap H locs → ∀ (pc : Nat) (ls : Array Slot), decode cX0_goes pc = .ok (.ireturn, 1) → W p l e (RMw 3 0 0 67) s m args below meth c H locs 0 0 Q (F0 m pc ls [.int r])) {H : Heap} {locs : List Loc} (hG : GG X (CP X ca fa w ++ rest) s.heap H locs) {ls : Array Slot} (hl : lv_has ls 5 [(0, .ref (ca 0)), (1, .int x1), (2, .int x2)]) : W p l e (RMw 3 0 0 67) s m args below meth c H locs 0 0 Q (F0 m 54 ls [.int t0]) := by
  have hx := B.1
  have hb := B.2.1
  unfold fC_goes_J54 at hf
  refine lv_istore (lv' := [(4, .int t0), (0, .ref (ca 0)), (1, .int x1), (2, .int x2)]) hx hb dX0_goes_54 hl (by decide) rfl (fun ls hl => ?_)
  refine lv_iload hx hb dX0_goes_56 (lv_at hl 0 rfl) ?_
  refine lv_iconst (v := (-1)) hx hb dX0_goes_58 (by decide) ?_
  refine lv_icmp_ne (tgt := 69) hx hb dX0_goes_59 (by decide) (fun c_1 => ?_) (fun c_1 => ?_)
  · have hf := ifn c_1 hf
    refine lv_aload_n hx hb dX0_goes_69 rfl (lv_at hl 1 rfl) ?_
    refine co_this_g0 B hK hG.1 dX0_goes_70 ?_
    refine lv_iload_n hx hb dX0_goes_73 rfl (lv_at hl 2 rfl) ?_
    refine lv_iload hx hb dX0_goes_74 (lv_at hl 0 rfl) ?_
    refine lv_iload_n hx hb dX0_goes_76 rfl (lv_at hl 3 rfl) ?_
    refine lv_if_eq (tgt := 84) hx hb dX0_goes_77 (by decide) (fun c_2 => ?_) (fun c_2 => ?_)
    · have hf := ifp c_2 hf
      refine lv_iconst (v := 0) hx hb dX0_goes_84 (by decide) ?_
      exact wC_goes_J85 B hK hf kr hG (lv_sub hl [0] rfl)
    · have hf := ifn c_2 hf
      refine lv_iconst (v := 1) hx hb dX0_goes_80 (by decide) ?_
      refine lv_goto (tgt := 85) hx hb dX0_goes_81 (by decide) ?_
      exact wC_goes_J85 B hK hf kr hG (lv_sub hl [0] rfl)
  · have hf := ifp c_1 hf
    refine lv_aload_n hx hb dX0_goes_62 rfl (lv_at hl 1 rfl) ?_
    refine lv_bipush (v := (-5)) hx hb dX0_goes_63 (by decide) ?_
    obtain ⟨r_7, f_4, e_3, hf⟩ := b2s hf
    obtain ⟨w_5, e_6, hf⟩ := bo hf
    refine cC_no B hK hG e_3 e_6 ⟨Nat.le_of_ble_eq_true rfl, Nat.le_of_ble_eq_true rfl⟩ ⟨Nat.zero_le _, Nat.zero_le _⟩ hl.1 (Nat.le_of_ble_eq_true rfl) dX0_goes_65 (fun H locs hG => ?_)
    exact kr _ _ (Option.some.inj hf).symm _ _ hG _ _ dX0_goes_68

noncomputable def fC_goes (w : CW) (x1 : Int32) (x2 : Int32) : Option (Int32 × CW) :=
  (fF_isWalker (cfe w) x1).bind fun r_1 =>
  if r_1 = 0 then
    fC_goes_J20 w 
  else
    (fC_isIn x2 0 4).bind fun r_4 =>
    if r_4 = 0 then
      fC_goes_J20 w 
    else
      (rd ((cfe w).2.1 2) 4 x1).bind fun v_7 =>
      if x2 = 0 then
        fC_goes_J54 w x1 x2 v_7
      else
        (fF_beside (cfe w) v_7 x2).bind fun r_10 =>
        fC_goes_J54 w x1 x2 r_10

set_option maxHeartbeats 4000000 in
theorem wC_goes (B : CallFix p m c cX0_goes 5 s args lw_all RX0) (hK : KK X s) {w : CW} {x1 : Int32} {x2 : Int32} {res : Int32 × CW} (hf : fC_goes w x1 x2 = some res) (kr : ∀ (r : Int32) (w1 : CW), res = (r, w1) → ∀ (H : Heap) (locs : List Loc), GG X (CP X ca fa w1 ++ rest) s.heap H locs → ∀ (pc : Nat) (ls : Array Slot), decode cX0_goes pc = .ok (.ireturn, 1) → W p l e (RMw 3 0 0 67) s m args below meth c H locs 0 0 Q (F0 m pc ls [.int r])) {H : Heap} {locs : List Loc} (hG : GG X (CP X ca fa w ++ rest) s.heap H locs) {ls : Array Slot} (hl : lv_has ls 5 [(0, .ref (ca 0)), (1, .int x1), (2, .int x2)]) : W p l e (RMw 3 0 0 67) s m args below meth c H locs 0 0 Q (F0 m 0 ls []) := by
  have hx := B.1
  have hb := B.2.1
  unfold fC_goes at hf
  refine lv_aload_n hx hb dX0_goes_0 rfl (lv_at hl 0 rfl) ?_
  refine co_this_g0 B hK hG.1 dX0_goes_1 ?_
  refine lv_iload_n hx hb dX0_goes_4 rfl (lv_at hl 1 rfl) ?_
  obtain ⟨r_1, e_2, hf⟩ := bo hf
  refine cCF_isWalker B hK hG.2.2 hG.1 e_2 ⟨Nat.le_of_ble_eq_true rfl, Nat.le_of_ble_eq_true rfl⟩ ⟨Nat.zero_le _, Nat.zero_le _⟩ hl.1 (Nat.le_of_ble_eq_true rfl) dX0_goes_5 ?_
  refine lv_if_eq (tgt := 20) hx hb dX0_goes_8 (by decide) (fun c_3 => ?_) (fun c_3 => ?_)
  · have hf := ifp c_3 hf
    exact wC_goes_J20 B hK hf kr hG (lv_sub hl [0] rfl)
  · have hf := ifn c_3 hf
    refine lv_iload_n hx hb dX0_goes_11 rfl (lv_at hl 2 rfl) ?_
    refine lv_iconst (v := 0) hx hb dX0_goes_12 (by decide) ?_
    refine lv_iconst (v := 4) hx hb dX0_goes_13 (by decide) ?_
    obtain ⟨r_4, e_5, hf⟩ := bo hf
    refine cC_isIn B e_5 ⟨Nat.le_of_ble_eq_true rfl, Nat.le_of_ble_eq_true rfl⟩ ⟨Nat.zero_le _, Nat.zero_le _⟩ hl.1 (Nat.le_of_ble_eq_true rfl) dX0_goes_14 ?_
    refine lv_if_ne (tgt := 27) hx hb dX0_goes_17 (by decide) (fun c_6 => ?_) (fun c_6 => ?_)
    · have hf := ifn c_6 hf
      refine lv_aload_n hx hb dX0_goes_27 rfl (lv_at hl 0 rfl) ?_
      refine co_this_g0 B hK hG.1 dX0_goes_28 ?_
      refine co_fen_g2 B hK hG.1 dX0_goes_31 ?_
      refine lv_iload_n hx hb dX0_goes_34 rfl (lv_at hl 1 rfl) ?_
      obtain ⟨v_7, e_8, hf⟩ := bo hf
      refine co_cell_l B hK hG.1 e_8 dX0_goes_35 ?_
      refine lv_istore_n (lv' := [(3, .int v_7), (0, .ref (ca 0)), (1, .int x1), (2, .int x2)]) hx hb dX0_goes_36 rfl hl (by decide) rfl (fun ls hl => ?_)
      refine lv_iload_n hx hb dX0_goes_37 rfl (lv_at hl 3 rfl) ?_
      refine lv_if_ne (tgt := 45) hx hb dX0_goes_38 (by decide) (fun c_9 => ?_) (fun c_9 => ?_)
      · have hf := ifn c_9 hf
        refine lv_aload_n hx hb dX0_goes_45 rfl (lv_at hl 1 rfl) ?_
        refine co_this_g0 B hK hG.1 dX0_goes_46 ?_
        refine lv_iload_n hx hb dX0_goes_49 rfl (lv_at hl 0 rfl) ?_
        refine lv_iload_n hx hb dX0_goes_50 rfl (lv_at hl 3 rfl) ?_
        obtain ⟨r_10, e_11, hf⟩ := bo hf
        refine cCF_beside B hK hG.2.2 hG.1 e_11 ⟨Nat.le_of_ble_eq_true rfl, Nat.le_of_ble_eq_true rfl⟩ ⟨Nat.zero_le _, Nat.zero_le _⟩ hl.1 (Nat.le_of_ble_eq_true rfl) dX0_goes_51 ?_
        exact wC_goes_J54 B hK hf kr hG (lv_sub hl [1, 2, 3] rfl)
      · have hf := ifp c_9 hf
        refine lv_iload_n hx hb dX0_goes_41 rfl (lv_at hl 0 rfl) ?_
        refine lv_goto (tgt := 54) hx hb dX0_goes_42 (by decide) ?_
        exact wC_goes_J54 B hK hf kr hG (lv_sub hl [1, 2, 3] rfl)
    · have hf := ifp c_6 hf
      exact wC_goes_J20 B hK hf kr hG (lv_sub hl [0] rfl)

theorem tC_goes (l : Launch) (X : CX) (ca fa : Nat → Nat) (rest : va_W) (w w' : CW) (x1 : Int32) (x2 : Int32) (r : Int32) (hf : fC_goes w x1 x2 = some (r, w')) : RW l yX0_goes cX0_goes 5 (some .int) 3 0 0 67 [.ref (ca 0), .int x1, .int x2] X (CP X ca fa w ++ rest) (CP X ca fa (w') ++ rest) (some (.int r)) := by
  refine RW.mk (by decide) (Nat.le_of_ble_eq_true rfl) ?_
  intro p e s m below meth c B hr hlk hK hG ls hl
  exact wC_goes B hK hf (fun r w h H locs hG pc ls hd => by cases h; exact w_iretW B hr hlk hG hd) hG hl
end S_C_goes

section S_C_manyLost
variable {p : Program} {l : Launch} {e : Env} {R : Room} {s : State} {m : MethodId} {args : Array Value} {below : List Frame} {meth : Method} {c : Code} {H : Heap} {locs : List Loc} {cells slots : Nat} {Q : State → Prop} {cc : ByteArray} {nL pc : Nat} {ls : Array Slot} {st : List Value} {X : CX} {rest : va_W} {ca fa : Nat → Nat}
noncomputable def fC_manyLost (w : CW)  : Option (Int32 × CW) :=
  (fF_lost (cfe w) ).bind fun f_2 =>
  (some (cnf w f_2)).bind fun w_3 =>
  some (((cfe w_3).1 11), w_3)

set_option maxHeartbeats 4000000 in
theorem wC_manyLost (B : CallFix p m c cX0_manyLost 1 s args lw_all RX0) (hK : KK X s) {w : CW}  {res : Int32 × CW} (hf : fC_manyLost w  = some res) (kr : ∀ (r : Int32) (w1 : CW), res = (r, w1) → ∀ (H : Heap) (locs : List Loc), GG X (CP X ca fa w1 ++ rest) s.heap H locs → ∀ (pc : Nat) (ls : Array Slot), decode cX0_manyLost pc = .ok (.ireturn, 1) → W p l e (RMw 2 0 0 42) s m args below meth c H locs 0 0 Q (F0 m pc ls [.int r])) {H : Heap} {locs : List Loc} (hG : GG X (CP X ca fa w ++ rest) s.heap H locs) {ls : Array Slot} (hl : lv_has ls 1 [(0, .ref (ca 0))]) : W p l e (RMw 2 0 0 42) s m args below meth c H locs 0 0 Q (F0 m 0 ls []) := by
  have hx := B.1
  have hb := B.2.1
  unfold fC_manyLost at hf
  refine lv_aload_n hx hb dX0_manyLost_0 rfl (lv_at hl 0 rfl) ?_
  refine co_this_g0 B hK hG.1 dX0_manyLost_1 ?_
  obtain ⟨f_2, e_1, hf⟩ := bo hf
  obtain ⟨w_3, e_4, hf⟩ := bo hf
  refine cCF_lost B hK hG e_1 e_4 ⟨Nat.le_of_ble_eq_true rfl, Nat.le_of_ble_eq_true rfl⟩ ⟨Nat.zero_le _, Nat.zero_le _⟩ hl.1 (Nat.le_of_ble_eq_true rfl) dX0_manyLost_4 (fun H locs hG => ?_)
  refine co_lost_g1 B hK hG.1 dX0_manyLost_7 ?_
  exact kr _ _ (Option.some.inj hf).symm _ _ hG _ _ dX0_manyLost_10

theorem tC_manyLost (l : Launch) (X : CX) (ca fa : Nat → Nat) (rest : va_W) (w w' : CW)  (r : Int32) (hf : fC_manyLost w  = some (r, w')) : RW l yX0_manyLost cX0_manyLost 1 (some .int) 2 0 0 42 [.ref (ca 0)] X (CP X ca fa w ++ rest) (CP X ca fa (w') ++ rest) (some (.int r)) := by
  refine RW.mk (by decide) (Nat.le_of_ble_eq_true rfl) ?_
  intro p e s m below meth c B hr hlk hK hG ls hl
  exact wC_manyLost B hK hf (fun r w h H locs hG pc ls hd => by cases h; exact w_iretW B hr hlk hG hd) hG hl
end S_C_manyLost

section K_cCF_day
variable {p : Program} {l : Launch} {e : Env} {R : Room} {s : State} {m : MethodId} {args : Array Value} {below : List Frame} {meth : Method} {c : Code} {H : Heap} {locs : List Loc} {cells slots : Nat} {Q : State → Prop} {cc : ByteArray} {nL pc : Nat} {ls : Array Slot} {st : List Value} {X : CX} {rest : va_W} {ca fa : Nat → Nat}
theorem cCF_day (B : CallFix p m c cc nL s args lw_all RX0) (hK : KK X s) {w : CW} (hG : GG X (CP X ca fa w ++ rest) s.heap H locs)  {f1 : FW} {w' : CW} (hf : fF_day (cfe w)  = some f1) (hw : some (cnf w f1) = some w') (hR : 5 + 1 ≤ R.frames ∧ 138 ≤ R.locals) (hcs : cells ≤ R.cells ∧ slots ≤ R.slots) (hl : ls.size = nL) (hcat : (st.map fun v => v.category).sum ≤ 8) (hdg : decode cc pc = .ok (.invokevirtual 367, 3)) (kk : ∀ (H1 : Heap) (locs1 : List Loc), GG X (CP X ca fa (w') ++ rest) s.heap H1 locs1 → W p l e R s m args below meth c H1 locs1 cells slots Q (F0 m (pc + 3) ls st)) : W p l e R s m args below meth c H locs cells slots Q (F0 m pc ls (.ref (fa 0) :: st)) := by
  cases hw
  exact w_afterWv (w_rV_RW (ws := FP X fa (cfe w) ++ (CPr X ca fa w ++ rest)) (As := []) B hK hG (tF_day l X fa (CPr X ca fa w ++ rest) (cfe w) f1  hf) (lw_V q1341 q1342 q1343 q88 q1344) 0 rfl rfl (n := 0) (by decide +kernel) hR hcs rfl hl rfl hcat hdg) hG.2.2 kk
end K_cCF_day

section K_cC_manyLost
variable {p : Program} {l : Launch} {e : Env} {R : Room} {s : State} {m : MethodId} {args : Array Value} {below : List Frame} {meth : Method} {c : Code} {H : Heap} {locs : List Loc} {cells slots : Nat} {Q : State → Prop} {cc : ByteArray} {nL pc : Nat} {ls : Array Slot} {st : List Value} {X : CX} {rest : va_W} {ca fa : Nat → Nat}
theorem cC_manyLost (B : CallFix p m c cc nL s args lw_all RX0) (hK : KK X s) {w : CW} (hG : GG X (CP X ca fa w ++ rest) s.heap H locs)  {r : Int32} {f1 : CW} {w' : CW} (hf : fC_manyLost w  = some (r, f1)) (hw : some (f1) = some w') (hR : 2 + 1 ≤ R.frames ∧ 62 ≤ R.locals) (hcs : cells ≤ R.cells ∧ slots ≤ R.slots) (hl : ls.size = nL) (hcat : (st.map fun v => v.category).sum ≤ 8) (hdg : decode cc pc = .ok (.invokevirtual 370, 3)) (kk : ∀ (H1 : Heap) (locs1 : List Loc), GG X (CP X ca fa (w') ++ rest) s.heap H1 locs1 → W p l e R s m args below meth c H1 locs1 cells slots Q (F0 m (pc + 3) ls (.int r :: st))) : W p l e R s m args below meth c H locs cells slots Q (F0 m pc ls (.ref (ca 0) :: st)) := by
  cases hw
  exact w_afterW (w_rV_RW (ws := CP X ca fa w ++ rest) (As := []) B hK hG (tC_manyLost l X ca fa rest w f1  r hf) (lw_V q1355 q1357 qs33 q87 q1358) 8 rfl rfl (n := 0) (by decide +kernel) hR hcs rfl hl rfl hcat hdg) hG.2.2 kk
end K_cC_manyLost

section S_C_days
variable {p : Program} {l : Launch} {e : Env} {R : Room} {s : State} {m : MethodId} {args : Array Value} {below : List Frame} {meth : Method} {c : Code} {H : Heap} {locs : List Loc} {cells slots : Nat} {Q : State → Prop} {cc : ByteArray} {nL pc : Nat} {ls : Array Slot} {st : List Value} {X : CX} {rest : va_W} {ca fa : Nat → Nat}
noncomputable def fC_days_L19 (w : CW) (x1 : Int32) (x2 : Int32) : Option ((Int32 × CW) ⊕ (CW)) :=
  if x1 ≤ x2 then
    some (.inr w)
  else
    (fF_day (cfe w) ).bind fun f_3 =>
    (some (cnf w f_3)).bind fun w_4 =>
    (some (x2 + 1)).bind fun x_6 =>
    some (.inl (x_6, w_4))

set_option maxHeartbeats 4000000 in
theorem wC_days_L19 (B : CallFix p m c cX0_days 3 s args lw_all RX0) (hK : KK X s) {w : CW} {x1 : Int32} {x2 : Int32} {res : (Int32 × CW) ⊕ (CW)} (hf : fC_days_L19 w x1 x2 = some res) (kc : ∀ (y2 : Int32) (w1 : CW), res = .inl (y2, w1) → ∀ (H : Heap) (locs : List Loc), GG X (CP X ca fa w1 ++ rest) s.heap H locs → ∀ (ls : Array Slot), lv_has ls 3 [(0, .ref (ca 0)), (1, .int x1), (2, .int y2)] → W p l e (RMw 6 0 0 138) s m args below meth c H locs 0 0 Q (F0 m 19 ls [])) (ke37 : ∀ (w1 : CW), res = .inr w1 → ∀ (H : Heap) (locs : List Loc), GG X (CP X ca fa w1 ++ rest) s.heap H locs → ∀ (ls : Array Slot), lv_has ls 3 [(0, .ref (ca 0))] → W p l e (RMw 6 0 0 138) s m args below meth c H locs 0 0 Q (F0 m 37 ls [])) {H : Heap} {locs : List Loc} (hG : GG X (CP X ca fa w ++ rest) s.heap H locs) {ls : Array Slot} (hl : lv_has ls 3 [(0, .ref (ca 0)), (1, .int x1), (2, .int x2)]) : W p l e (RMw 6 0 0 138) s m args below meth c H locs 0 0 Q (F0 m 19 ls []) := by
  have hx := B.1
  have hb := B.2.1
  unfold fC_days_L19 at hf
  refine lv_iload_n hx hb dX0_days_19 rfl (lv_at hl 2 rfl) ?_
  refine lv_iload_n hx hb dX0_days_20 rfl (lv_at hl 1 rfl) ?_
  refine lv_icmp_ge (tgt := 37) hx hb dX0_days_21 (by decide) (fun c_1 => ?_) (fun c_1 => ?_)
  · have hf := ifp c_1 hf
    exact ke37 _ (Option.some.inj hf).symm _ _ hG _ (lv_sub hl [0] rfl)
  · have hf := ifn c_1 hf
    refine lv_aload_n hx hb dX0_days_24 rfl (lv_at hl 0 rfl) ?_
    refine co_this_g0 B hK hG.1 dX0_days_25 ?_
    obtain ⟨f_3, e_2, hf⟩ := bo hf
    obtain ⟨w_4, e_5, hf⟩ := bo hf
    refine cCF_day B hK hG e_2 e_5 ⟨Nat.le_of_ble_eq_true rfl, Nat.le_of_ble_eq_true rfl⟩ ⟨Nat.zero_le _, Nat.zero_le _⟩ hl.1 (Nat.le_of_ble_eq_true rfl) dX0_days_28 (fun H locs hG => ?_)
    obtain ⟨x_6, e_7, hf⟩ := bo hf
    refine w_iinc (k := 2) (lv' := [(2, .int x_6), (0, .ref (ca 0)), (1, .int x1)]) e_7 hx hb dX0_days_31 hl rfl (by decide) rfl (fun ls hl => ?_)
    refine lv_goto (tgt := 19) hx hb dX0_days_34 (by decide) ?_
    exact kc _ _ (Option.some.inj hf).symm _ _ hG _ (lv_sub hl [1, 2, 0] rfl)

set_option maxHeartbeats 4000000 in
theorem vC_days_L19 (B : CallFix p m c cX0_days 3 s args lw_all RX0) (hK : KK X s) {w : CW} {x1 : Int32} {x2 : Int32} {res : CW} (hf : lp (fun q : Int32 × CW => fC_days_L19 q.2 x1 q.1) (x2, w) = some res) (ke37 : ∀ (w1 : CW), res = w1 → ∀ (H : Heap) (locs : List Loc), GG X (CP X ca fa w1 ++ rest) s.heap H locs → ∀ (ls : Array Slot), lv_has ls 3 [(0, .ref (ca 0))] → W p l e (RMw 6 0 0 138) s m args below meth c H locs 0 0 Q (F0 m 37 ls [])) {H : Heap} {locs : List Loc} (hG : GG X (CP X ca fa w ++ rest) s.heap H locs) {ls : Array Slot} (hl : lv_has ls 3 [(0, .ref (ca 0)), (1, .int x1), (2, .int x2)]) : W p l e (RMw 6 0 0 138) s m args below meth c H locs 0 0 Q (F0 m 19 ls []) := by
  refine lp_ind (r := res) (P := fun q : Int32 × CW => ∀ (H : Heap) (locs : List Loc) (ls : Array Slot), GG X (CP X ca fa q.2 ++ rest) s.heap H locs → lv_has ls 3 [(0, .ref (ca 0)), (1, .int x1), (2, .int q.1)] → W p l e (RMw 6 0 0 138) s m args below meth c H locs 0 0 Q (F0 m 19 ls [])) ?_ ?_ _ hf _ _ _ hG hl
  · intro q hb H locs ls hG hl
    exact wC_days_L19 B hK hb (fun _ _ h => by cases h) (fun z0 h => ke37 z0 (Sum.inr.inj h)) hG hl
  · intro q q2 hb ih H locs ls hG hl
    exact wC_days_L19 B hK hb (fun z0 z1 h => by cases h; exact fun H locs hG ls hl => ih H locs ls hG hl) (fun _ h => by cases h) hG hl

noncomputable def fC_days (w : CW) (x1 : Int32) : Option (Int32 × CW) :=
  (fC_isIn x1 1 60).bind fun r_1 =>
  if r_1 = 0 then
    b2 (fC_no w (-2)) fun r_16 f_13 =>
    (some (f_13)).bind fun w_14 =>
    some (r_16, w_14)
  else
    (lp (fun q : Int32 × CW => fC_days_L19 q.2 x1 q.1) (0, w)).bind (
      fun q_10 => (fun (w_4 : CW) =>
        b2 (fC_manyLost w_4 ) fun r_9 f_6 =>
        (some (f_6)).bind fun w_7 =>
        some ((((cfe w_4).1 9) - r_9), w_7)
      ) q_10
    )

set_option maxHeartbeats 4000000 in
theorem wC_days (B : CallFix p m c cX0_days 3 s args lw_all RX0) (hK : KK X s) {w : CW} {x1 : Int32} {res : Int32 × CW} (hf : fC_days w x1 = some res) (kr : ∀ (r : Int32) (w1 : CW), res = (r, w1) → ∀ (H : Heap) (locs : List Loc), GG X (CP X ca fa w1 ++ rest) s.heap H locs → ∀ (pc : Nat) (ls : Array Slot), decode cX0_days pc = .ok (.ireturn, 1) → W p l e (RMw 6 0 0 138) s m args below meth c H locs 0 0 Q (F0 m pc ls [.int r])) {H : Heap} {locs : List Loc} (hG : GG X (CP X ca fa w ++ rest) s.heap H locs) {ls : Array Slot} (hl : lv_has ls 3 [(0, .ref (ca 0)), (1, .int x1)]) : W p l e (RMw 6 0 0 138) s m args below meth c H locs 0 0 Q (F0 m 0 ls []) := by
  have hx := B.1
  have hb := B.2.1
  unfold fC_days at hf
  refine lv_iload_n hx hb dX0_days_0 rfl (lv_at hl 1 rfl) ?_
  refine lv_iconst (v := 1) hx hb dX0_days_1 (by decide) ?_
  refine lv_bipush (v := 60) hx hb dX0_days_2 (by decide) ?_
  obtain ⟨r_1, e_2, hf⟩ := bo hf
  refine cC_isIn B e_2 ⟨Nat.le_of_ble_eq_true rfl, Nat.le_of_ble_eq_true rfl⟩ ⟨Nat.zero_le _, Nat.zero_le _⟩ hl.1 (Nat.le_of_ble_eq_true rfl) dX0_days_4 ?_
  refine lv_if_ne (tgt := 17) hx hb dX0_days_7 (by decide) (fun c_3 => ?_) (fun c_3 => ?_)
  · have hf := ifn c_3 hf
    refine lv_iconst (v := 0) hx hb dX0_days_17 (by decide) ?_
    refine lv_istore_n (lv' := [(2, .int 0), (0, .ref (ca 0)), (1, .int x1)]) hx hb dX0_days_18 rfl hl (by decide) rfl (fun ls hl => ?_)
    obtain ⟨w_4, e_11, hf⟩ := bo hf
    try dsimp only at hf
    refine vC_days_L19 B hK e_11 ?_ hG (lv_sub hl [1, 2, 0] rfl)
    intro z0 hz
    cases hz
    intro H locs hG ls hl
    refine lv_aload_n hx hb dX0_days_37 rfl (lv_at hl 0 rfl) ?_
    refine co_this_g0 B hK hG.1 dX0_days_38 ?_
    refine co_fen_g9 B hK hG.1 dX0_days_41 ?_
    refine lv_aload_n hx hb dX0_days_44 rfl (lv_at hl 0 rfl) ?_
    obtain ⟨r_9, f_6, e_5, hf⟩ := b2s hf
    obtain ⟨w_7, e_8, hf⟩ := bo hf
    refine cC_manyLost B hK hG e_5 e_8 ⟨Nat.le_of_ble_eq_true rfl, Nat.le_of_ble_eq_true rfl⟩ ⟨Nat.zero_le _, Nat.zero_le _⟩ hl.1 (Nat.le_of_ble_eq_true rfl) dX0_days_45 (fun H locs hG => ?_)
    refine lv_isub hx hb dX0_days_48 ?_
    exact kr _ _ (Option.some.inj hf).symm _ _ hG _ _ dX0_days_49
  · have hf := ifp c_3 hf
    refine lv_aload_n hx hb dX0_days_10 rfl (lv_at hl 0 rfl) ?_
    refine lv_bipush (v := (-2)) hx hb dX0_days_11 (by decide) ?_
    obtain ⟨r_16, f_13, e_12, hf⟩ := b2s hf
    obtain ⟨w_14, e_15, hf⟩ := bo hf
    refine cC_no B hK hG e_12 e_15 ⟨Nat.le_of_ble_eq_true rfl, Nat.le_of_ble_eq_true rfl⟩ ⟨Nat.zero_le _, Nat.zero_le _⟩ hl.1 (Nat.le_of_ble_eq_true rfl) dX0_days_13 (fun H locs hG => ?_)
    exact kr _ _ (Option.some.inj hf).symm _ _ hG _ _ dX0_days_16

theorem tC_days (l : Launch) (X : CX) (ca fa : Nat → Nat) (rest : va_W) (w w' : CW) (x1 : Int32) (r : Int32) (hf : fC_days w x1 = some (r, w')) : RW l yX0_days cX0_days 3 (some .int) 6 0 0 138 [.ref (ca 0), .int x1] X (CP X ca fa w ++ rest) (CP X ca fa (w') ++ rest) (some (.int r)) := by
  refine RW.mk (by decide) (Nat.le_of_ble_eq_true rfl) ?_
  intro p e s m below meth c B hr hlk hK hG ls hl
  exact wC_days B hK hf (fun r w h H locs hG pc ls hd => by cases h; exact w_iretW B hr hlk hG hd) hG hl
end S_C_days

section S_C_seed
variable {p : Program} {l : Launch} {e : Env} {R : Room} {s : State} {m : MethodId} {args : Array Value} {below : List Frame} {meth : Method} {c : Code} {H : Heap} {locs : List Loc} {cells slots : Nat} {Q : State → Prop} {cc : ByteArray} {nL pc : Nat} {ls : Array Slot} {st : List Value} {X : CX} {rest : va_W} {ca fa : Nat → Nat}
noncomputable def fC_seed (w : CW) (x1 : Int32) : Option (Int32 × CW) :=
  (some ((cfe w).1 10)).bind fun x_1 =>
  (some (cnf w (fpt (cfe w) 10 x1))).bind fun w_3 =>
  some (x_1, w_3)

set_option maxHeartbeats 4000000 in
theorem wC_seed (B : CallFix p m c cX0_seed 3 s args lw_all RX0) (hK : KK X s) {w : CW} {x1 : Int32} {res : Int32 × CW} (hf : fC_seed w x1 = some res) (kr : ∀ (r : Int32) (w1 : CW), res = (r, w1) → ∀ (H : Heap) (locs : List Loc), GG X (CP X ca fa w1 ++ rest) s.heap H locs → ∀ (pc : Nat) (ls : Array Slot), decode cX0_seed pc = .ok (.ireturn, 1) → W p l e (RMw 0 0 0 0) s m args below meth c H locs 0 0 Q (F0 m pc ls [.int r])) {H : Heap} {locs : List Loc} (hG : GG X (CP X ca fa w ++ rest) s.heap H locs) {ls : Array Slot} (hl : lv_has ls 3 [(0, .ref (ca 0)), (1, .int x1)]) : W p l e (RMw 0 0 0 0) s m args below meth c H locs 0 0 Q (F0 m 0 ls []) := by
  have hx := B.1
  have hb := B.2.1
  unfold fC_seed at hf
  refine lv_aload_n hx hb dX0_seed_0 rfl (lv_at hl 0 rfl) ?_
  refine co_this_g0 B hK hG.1 dX0_seed_1 ?_
  refine co_fen_g10 B hK hG.1 dX0_seed_4 ?_
  obtain ⟨x_1, e_2, hf⟩ := bo hf
  refine w_istore_n (lv' := [(2, .int x_1), (0, .ref (ca 0)), (1, .int x1)]) e_2 hx hb dX0_seed_7 rfl hl (by decide) rfl (fun ls hl => ?_)
  refine lv_aload_n hx hb dX0_seed_8 rfl (lv_at hl 1 rfl) ?_
  refine co_this_g0 B hK hG.1 dX0_seed_9 ?_
  refine lv_iload_n hx hb dX0_seed_12 rfl (lv_at hl 2 rfl) ?_
  obtain ⟨w_3, e_4, hf⟩ := bo hf
  refine co_fen_p10 B hK hG e_4 dX0_seed_13 (fun H locs hG => ?_)
  refine lv_iload_n hx hb dX0_seed_16 rfl (lv_at hl 0 rfl) ?_
  exact kr _ _ (Option.some.inj hf).symm _ _ hG _ _ dX0_seed_17

theorem tC_seed (l : Launch) (X : CX) (ca fa : Nat → Nat) (rest : va_W) (w w' : CW) (x1 : Int32) (r : Int32) (hf : fC_seed w x1 = some (r, w')) : RW l yX0_seed cX0_seed 3 (some .int) 0 0 0 0 [.ref (ca 0), .int x1] X (CP X ca fa w ++ rest) (CP X ca fa (w') ++ rest) (some (.int r)) := by
  refine RW.mk (by decide) (Nat.le_of_ble_eq_true rfl) ?_
  intro p e s m below meth c B hr hlk hK hG ls hl
  exact wC_seed B hK hf (fun r w h H locs hG pc ls hd => by cases h; exact w_iretW B hr hlk hG hd) hG hl
end S_C_seed

section S_C_postOf
variable {p : Program} {l : Launch} {e : Env} {R : Room} {s : State} {m : MethodId} {args : Array Value} {below : List Frame} {meth : Method} {c : Code} {H : Heap} {locs : List Loc} {cells slots : Nat} {Q : State → Prop} {cc : ByteArray} {nL pc : Nat} {ls : Array Slot} {st : List Value} {X : CX} {rest : va_W} {ca fa : Nat → Nat}
noncomputable def fC_postOf (w : CW) (x1 : Int32) (x2 : Int32) : Option (Int32 × CW) :=
  (fF_isPost (cfe w) (x1.toInt64)).bind fun r_1 =>
  if r_1 = 0 then
    b2 (fC_no w (-2)) fun r_38 f_35 =>
    (some (f_35)).bind fun w_36 =>
    some (r_38, w_36)
  else
    if x2 = 0 then
      (rdP (cfe w).2.2 8 x1).bind fun p_5 =>
      (inL (cpl w) p_5).bind fun u_7 =>
      (some (fKind p_5)).bind fun r_9 =>
      some (r_9, w)
    else
      if x2 = 1 then
        (rdP (cfe w).2.2 8 x1).bind fun p_12 =>
        (inL (cpl w) p_12).bind fun u_14 =>
        some (p_12.2.2.2.1, w)
      else
        if x2 = 2 then
          (rdP (cfe w).2.2 8 x1).bind fun p_17 =>
          (inL (cpl w) p_17).bind fun u_19 =>
          some (p_17.2.2.2.2, w)
        else
          if x2 = 3 then
            (rdP (cfe w).2.2 8 x1).bind fun p_22 =>
            b2 (fC_armOf w p_22) fun r_28 f_25 =>
            (some (f_25)).bind fun w_26 =>
            some (r_28, w_26)
          else
            b2 (fC_no w (-2)) fun r_33 f_30 =>
            (some (f_30)).bind fun w_31 =>
            some (r_33, w_31)

set_option maxHeartbeats 4000000 in
theorem wC_postOf (B : CallFix p m c cX0_postOf 3 s args lw_all RX0) (hK : KK X s) {w : CW} {x1 : Int32} {x2 : Int32} {res : Int32 × CW} (hf : fC_postOf w x1 x2 = some res) (kr : ∀ (r : Int32) (w1 : CW), res = (r, w1) → ∀ (H : Heap) (locs : List Loc), GG X (CP X ca fa w1 ++ rest) s.heap H locs → ∀ (pc : Nat) (ls : Array Slot), decode cX0_postOf pc = .ok (.ireturn, 1) → W p l e (RMw 7 0 0 149) s m args below meth c H locs 0 0 Q (F0 m pc ls [.int r])) {H : Heap} {locs : List Loc} (hG : GG X (CP X ca fa w ++ rest) s.heap H locs) {ls : Array Slot} (hl : lv_has ls 3 [(0, .ref (ca 0)), (1, .int x1), (2, .int x2)]) : W p l e (RMw 7 0 0 149) s m args below meth c H locs 0 0 Q (F0 m 0 ls []) := by
  have hx := B.1
  have hb := B.2.1
  unfold fC_postOf at hf
  refine lv_aload_n hx hb dX0_postOf_0 rfl (lv_at hl 0 rfl) ?_
  refine co_this_g0 B hK hG.1 dX0_postOf_1 ?_
  refine lv_iload_n hx hb dX0_postOf_4 rfl (lv_at hl 1 rfl) ?_
  refine lv_i2l hx hb dX0_postOf_5 rfl ?_
  obtain ⟨r_1, e_2, hf⟩ := bo hf
  refine cCF_isPost B hK hG.2.2 hG.1 e_2 ⟨Nat.le_of_ble_eq_true rfl, Nat.le_of_ble_eq_true rfl⟩ ⟨Nat.zero_le _, Nat.zero_le _⟩ hl.1 (Nat.le_of_ble_eq_true rfl) dX0_postOf_6 ?_
  refine lv_if_ne (tgt := 19) hx hb dX0_postOf_9 (by decide) (fun c_3 => ?_) (fun c_3 => ?_)
  · have hf := ifn c_3 hf
    refine lv_iload_n hx hb dX0_postOf_19 rfl (lv_at hl 2 rfl) ?_
    by_cases c_4 : x2 = 0
    · have hf := ifp c_4 hf
      refine w_tab (tgt := 52) 0 c_4 hx hb dX0_postOf_20 (by decide) (by decide) rfl (by decide) ?_
      refine lv_aload_n hx hb dX0_postOf_52 rfl (lv_at hl 0 rfl) ?_
      refine co_this_g0 B hK hG.1 dX0_postOf_53 ?_
      refine co_fen_g1 B hK hG.1 dX0_postOf_56 ?_
      refine lv_iload_n hx hb dX0_postOf_59 rfl (lv_at hl 1 rfl) ?_
      obtain ⟨p_5, e_6, hf⟩ := bo hf
      refine co_post_l B hK hG.1 e_6 dX0_postOf_60 ?_
      obtain ⟨u_7, e_8, hf⟩ := bo hf
      obtain ⟨r_9, e_10, hf⟩ := bo hf
      refine w_kind B hK hG.2.2 (cp_N (inL_in e_8) hG.1) e_10 ⟨Nat.le_of_ble_eq_true rfl, Nat.le_of_ble_eq_true rfl⟩ ⟨Nat.zero_le _, Nat.zero_le _⟩ hl.1 (Nat.le_of_ble_eq_true rfl) dX0_postOf_61 ?_
      exact kr _ _ (Option.some.inj hf).symm _ _ hG _ _ dX0_postOf_64
    · have hf := ifn c_4 hf
      by_cases c_11 : x2 = 1
      · have hf := ifp c_11 hf
        refine w_tab (tgt := 65) 1 c_11 hx hb dX0_postOf_20 (by decide) (by decide) rfl (by decide) ?_
        refine lv_aload_n hx hb dX0_postOf_65 rfl (lv_at hl 0 rfl) ?_
        refine co_this_g0 B hK hG.1 dX0_postOf_66 ?_
        refine co_fen_g1 B hK hG.1 dX0_postOf_69 ?_
        refine lv_iload_n hx hb dX0_postOf_72 rfl (lv_at hl 1 rfl) ?_
        obtain ⟨p_12, e_13, hf⟩ := bo hf
        refine co_post_l B hK hG.1 e_13 dX0_postOf_73 ?_
        obtain ⟨u_14, e_15, hf⟩ := bo hf
        refine po_C1 B hK (cp_P (inL_in e_15) hG.1) dX0_postOf_74 ?_
        exact kr _ _ (Option.some.inj hf).symm _ _ hG _ _ dX0_postOf_77
      · have hf := ifn c_11 hf
        by_cases c_16 : x2 = 2
        · have hf := ifp c_16 hf
          refine w_tab (tgt := 78) 2 c_16 hx hb dX0_postOf_20 (by decide) (by decide) rfl (by decide) ?_
          refine lv_aload_n hx hb dX0_postOf_78 rfl (lv_at hl 0 rfl) ?_
          refine co_this_g0 B hK hG.1 dX0_postOf_79 ?_
          refine co_fen_g1 B hK hG.1 dX0_postOf_82 ?_
          refine lv_iload_n hx hb dX0_postOf_85 rfl (lv_at hl 1 rfl) ?_
          obtain ⟨p_17, e_18, hf⟩ := bo hf
          refine co_post_l B hK hG.1 e_18 dX0_postOf_86 ?_
          obtain ⟨u_19, e_20, hf⟩ := bo hf
          refine po_C2 B hK (cp_P (inL_in e_20) hG.1) dX0_postOf_87 ?_
          exact kr _ _ (Option.some.inj hf).symm _ _ hG _ _ dX0_postOf_90
        · have hf := ifn c_16 hf
          by_cases c_21 : x2 = 3
          · have hf := ifp c_21 hf
            refine w_tab (tgt := 91) 3 c_21 hx hb dX0_postOf_20 (by decide) (by decide) rfl (by decide) ?_
            refine lv_aload_n hx hb dX0_postOf_91 rfl (lv_at hl 0 rfl) ?_
            refine lv_aload_n hx hb dX0_postOf_92 rfl (lv_at hl 0 rfl) ?_
            refine co_this_g0 B hK hG.1 dX0_postOf_93 ?_
            refine co_fen_g1 B hK hG.1 dX0_postOf_96 ?_
            refine lv_iload_n hx hb dX0_postOf_99 rfl (lv_at hl 1 rfl) ?_
            obtain ⟨p_22, e_23, hf⟩ := bo hf
            refine co_post_l B hK hG.1 e_23 dX0_postOf_100 ?_
            obtain ⟨r_28, f_25, e_24, hf⟩ := b2s hf
            obtain ⟨w_26, e_27, hf⟩ := bo hf
            refine cC_armOf B hK hG e_24 e_27 ⟨Nat.le_of_ble_eq_true rfl, Nat.le_of_ble_eq_true rfl⟩ ⟨Nat.zero_le _, Nat.zero_le _⟩ hl.1 (Nat.le_of_ble_eq_true rfl) dX0_postOf_101 (fun H locs hG => ?_)
            exact kr _ _ (Option.some.inj hf).symm _ _ hG _ _ dX0_postOf_104
          · have hf := ifn c_21 hf
            refine lv_tableOut (tgt := 105) hx hb dX0_postOf_20 (by have := lv_neT c_4 (a := 0) rfl; have := lv_neT c_11 (a := 1) rfl; have := lv_neT c_16 (a := 2) rfl; have := lv_neT c_21 (a := 3) rfl; omega) (by decide) ?_
            refine lv_aload_n hx hb dX0_postOf_105 rfl (lv_at hl 0 rfl) ?_
            refine lv_bipush (v := (-2)) hx hb dX0_postOf_106 (by decide) ?_
            obtain ⟨r_33, f_30, e_29, hf⟩ := b2s hf
            obtain ⟨w_31, e_32, hf⟩ := bo hf
            refine cC_no B hK hG e_29 e_32 ⟨Nat.le_of_ble_eq_true rfl, Nat.le_of_ble_eq_true rfl⟩ ⟨Nat.zero_le _, Nat.zero_le _⟩ hl.1 (Nat.le_of_ble_eq_true rfl) dX0_postOf_108 (fun H locs hG => ?_)
            exact kr _ _ (Option.some.inj hf).symm _ _ hG _ _ dX0_postOf_111
  · have hf := ifp c_3 hf
    refine lv_aload_n hx hb dX0_postOf_12 rfl (lv_at hl 0 rfl) ?_
    refine lv_bipush (v := (-2)) hx hb dX0_postOf_13 (by decide) ?_
    obtain ⟨r_38, f_35, e_34, hf⟩ := b2s hf
    obtain ⟨w_36, e_37, hf⟩ := bo hf
    refine cC_no B hK hG e_34 e_37 ⟨Nat.le_of_ble_eq_true rfl, Nat.le_of_ble_eq_true rfl⟩ ⟨Nat.zero_le _, Nat.zero_le _⟩ hl.1 (Nat.le_of_ble_eq_true rfl) dX0_postOf_15 (fun H locs hG => ?_)
    exact kr _ _ (Option.some.inj hf).symm _ _ hG _ _ dX0_postOf_18

theorem tC_postOf (l : Launch) (X : CX) (ca fa : Nat → Nat) (rest : va_W) (w w' : CW) (x1 : Int32) (x2 : Int32) (r : Int32) (hf : fC_postOf w x1 x2 = some (r, w')) : RW l yX0_postOf cX0_postOf 3 (some .int) 7 0 0 149 [.ref (ca 0), .int x1, .int x2] X (CP X ca fa w ++ rest) (CP X ca fa (w') ++ rest) (some (.int r)) := by
  refine RW.mk (by decide) (Nat.le_of_ble_eq_true rfl) ?_
  intro p e s m below meth c B hr hlk hK hG ls hl
  exact wC_postOf B hK hf (fun r w h H locs hG pc ls hd => by cases h; exact w_iretW B hr hlk hG hd) hG hl
end S_C_postOf
