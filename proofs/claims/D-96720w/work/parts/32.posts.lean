set_option maxRecDepth 100000
abbrev PLW : Type := PV × LW
section A_p0
variable {p : Program} {l : Launch} {e : Env} {R : Room} {s : State} {m : MethodId} {args : Array Value} {below : List Frame} {meth : Method} {c : Code} {H : Heap} {locs : List Loc} {cells slots : Nat} {Q : State → Prop} {cc : ByteArray} {nL pc : Nat} {ls : Array Slot} {st : List Value} {X : CX} {rest : va_W} {la : Nat → Nat}
theorem p0_lost_g0 (B : CallFix p m c cc nL s args lw_all RX6) (hK : KK X s) {w : PLW} (hP : va_P X.2.2.1 vwCl (PC w.1 :: (LoP X la w.2 ++ rest)) H) (hdg : decode cc pc = .ok (.getfield 26, 3)) (kk : W p l e R s m args below meth c H locs cells slots Q (F0 m (pc + 3) ls (.ref (la 1) :: st))) : W p l e R s m args below meth c H locs cells slots Q (F0 m pc ls (.ref (la 0) :: st)) := w_get B hK hP 1 0 rfl rfl in_X2 (by decide) q144 rfl rfl hdg kk
theorem p0_lost_g1 (B : CallFix p m c cc nL s args lw_all RX6) (hK : KK X s) {w : PLW} (hP : va_P X.2.2.1 vwCl (PC w.1 :: (LoP X la w.2 ++ rest)) H) (hdg : decode cc pc = .ok (.getfield 21, 3)) (kk : W p l e R s m args below meth c H locs cells slots Q (F0 m (pc + 3) ls (.int w.2.1 :: st))) : W p l e R s m args below meth c H locs cells slots Q (F0 m pc ls (.ref (la 0) :: st)) := w_get B hK hP 1 1 rfl rfl in_X2 (by decide) q150 rfl rfl hdg kk
theorem p0_cell_l (B : CallFix p m c cc nL s args lw_all RX6) (hK : KK X s) {w : PLW} (hP : va_P X.2.2.1 vwCl (PC w.1 :: (LoP X la w.2 ++ rest)) H) {i : Int32} {v : Int32} (hv : rd w.2.2 4 i = some v) (hdg : decode cc pc = .ok (.iaload, 1)) (kk : W p l e R s m args below meth c H locs cells slots Q (F0 m (pc + 1) ls (.int v :: st))) : W p l e R s m args below meth c H locs cells slots Q (F0 m pc ls (.int i :: .ref (la 1) :: st)) := by
  obtain ⟨h1, h2⟩ := rd_in hv
  subst h2
  exact va_iald B.1 B.2.1 hK.k hP 2 0 rfl rfl h1 hdg kk
theorem p0_cell_n (B : CallFix p m c cc nL s args lw_all RX6) (hK : KK X s) {w : PLW} (hP : va_P X.2.2.1 vwCl (PC w.1 :: (LoP X la w.2 ++ rest)) H) (hdg : decode cc pc = .ok (.arraylength, 1)) (kk : W p l e R s m args below meth c H locs cells slots Q (F0 m (pc + 1) ls (.int 4 :: st))) : W p l e R s m args below meth c H locs cells slots Q (F0 m pc ls (.ref (la 1) :: st)) := va_alen B.1 B.2.1 hK.k hP 2 0 rfl rfl rfl hdg kk
end A_p0

section A_p1
variable {p : Program} {l : Launch} {e : Env} {R : Room} {s : State} {m : MethodId} {args : Array Value} {below : List Frame} {meth : Method} {c : Code} {H : Heap} {locs : List Loc} {cells slots : Nat} {Q : State → Prop} {cc : ByteArray} {nL pc : Nat} {ls : Array Slot} {st : List Value} {X : CX} {rest : va_W} {la : Nat → Nat}
theorem p1_lost_g0 (B : CallFix p m c cc nL s args lw_all RX7) (hK : KK X s) {w : PLW} (hP : va_P X.2.2.1 vwCl (PC w.1 :: (LoP X la w.2 ++ rest)) H) (hdg : decode cc pc = .ok (.getfield 21, 3)) (kk : W p l e R s m args below meth c H locs cells slots Q (F0 m (pc + 3) ls (.ref (la 1) :: st))) : W p l e R s m args below meth c H locs cells slots Q (F0 m pc ls (.ref (la 0) :: st)) := w_get B hK hP 1 0 rfl rfl in_X2 (by decide) q147 rfl rfl hdg kk
theorem p1_cell_l (B : CallFix p m c cc nL s args lw_all RX7) (hK : KK X s) {w : PLW} (hP : va_P X.2.2.1 vwCl (PC w.1 :: (LoP X la w.2 ++ rest)) H) {i : Int32} {v : Int32} (hv : rd w.2.2 4 i = some v) (hdg : decode cc pc = .ok (.iaload, 1)) (kk : W p l e R s m args below meth c H locs cells slots Q (F0 m (pc + 1) ls (.int v :: st))) : W p l e R s m args below meth c H locs cells slots Q (F0 m pc ls (.int i :: .ref (la 1) :: st)) := by
  obtain ⟨h1, h2⟩ := rd_in hv
  subst h2
  exact va_iald B.1 B.2.1 hK.k hP 2 0 rfl rfl h1 hdg kk
theorem p1_cell_n (B : CallFix p m c cc nL s args lw_all RX7) (hK : KK X s) {w : PLW} (hP : va_P X.2.2.1 vwCl (PC w.1 :: (LoP X la w.2 ++ rest)) H) (hdg : decode cc pc = .ok (.arraylength, 1)) (kk : W p l e R s m args below meth c H locs cells slots Q (F0 m (pc + 1) ls (.int 4 :: st))) : W p l e R s m args below meth c H locs cells slots Q (F0 m pc ls (.ref (la 1) :: st)) := va_alen B.1 B.2.1 hK.k hP 2 0 rfl rfl rfl hdg kk
end A_p1

section A_p2
variable {p : Program} {l : Launch} {e : Env} {R : Room} {s : State} {m : MethodId} {args : Array Value} {below : List Frame} {meth : Method} {c : Code} {H : Heap} {locs : List Loc} {cells slots : Nat} {Q : State → Prop} {cc : ByteArray} {nL pc : Nat} {ls : Array Slot} {st : List Value} {X : CX} {rest : va_W} {la : Nat → Nat}
theorem p2_lost_g0 (B : CallFix p m c cc nL s args lw_all RX8) (hK : KK X s) {w : PLW} (hP : va_P X.2.2.1 vwCl (PC w.1 :: (LoP X la w.2 ++ rest)) H) (hdg : decode cc pc = .ok (.getfield 19, 3)) (kk : W p l e R s m args below meth c H locs cells slots Q (F0 m (pc + 3) ls (.ref (la 1) :: st))) : W p l e R s m args below meth c H locs cells slots Q (F0 m pc ls (.ref (la 0) :: st)) := w_get B hK hP 1 0 rfl rfl in_X2 (by decide) q145 rfl rfl hdg kk
theorem p2_cell_l (B : CallFix p m c cc nL s args lw_all RX8) (hK : KK X s) {w : PLW} (hP : va_P X.2.2.1 vwCl (PC w.1 :: (LoP X la w.2 ++ rest)) H) {i : Int32} {v : Int32} (hv : rd w.2.2 4 i = some v) (hdg : decode cc pc = .ok (.iaload, 1)) (kk : W p l e R s m args below meth c H locs cells slots Q (F0 m (pc + 1) ls (.int v :: st))) : W p l e R s m args below meth c H locs cells slots Q (F0 m pc ls (.int i :: .ref (la 1) :: st)) := by
  obtain ⟨h1, h2⟩ := rd_in hv
  subst h2
  exact va_iald B.1 B.2.1 hK.k hP 2 0 rfl rfl h1 hdg kk
theorem p2_cell_n (B : CallFix p m c cc nL s args lw_all RX8) (hK : KK X s) {w : PLW} (hP : va_P X.2.2.1 vwCl (PC w.1 :: (LoP X la w.2 ++ rest)) H) (hdg : decode cc pc = .ok (.arraylength, 1)) (kk : W p l e R s m args below meth c H locs cells slots Q (F0 m (pc + 1) ls (.int 4 :: st))) : W p l e R s m args below meth c H locs cells slots Q (F0 m pc ls (.ref (la 1) :: st)) := va_alen B.1 B.2.1 hK.k hP 2 0 rfl rfl rfl hdg kk
end A_p2

section A_p3
variable {p : Program} {l : Launch} {e : Env} {R : Room} {s : State} {m : MethodId} {args : Array Value} {below : List Frame} {meth : Method} {c : Code} {H : Heap} {locs : List Loc} {cells slots : Nat} {Q : State → Prop} {cc : ByteArray} {nL pc : Nat} {ls : Array Slot} {st : List Value} {X : CX} {rest : va_W} {la : Nat → Nat}
theorem p3_cell_l (B : CallFix p m c cc nL s args lw_all RX9) (hK : KK X s) {w : PLW} (hP : va_P X.2.2.1 vwCl (PC w.1 :: (LoP X la w.2 ++ rest)) H) {i : Int32} {v : Int32} (hv : rd w.2.2 4 i = some v) (hdg : decode cc pc = .ok (.iaload, 1)) (kk : W p l e R s m args below meth c H locs cells slots Q (F0 m (pc + 1) ls (.int v :: st))) : W p l e R s m args below meth c H locs cells slots Q (F0 m pc ls (.int i :: .ref (la 1) :: st)) := by
  obtain ⟨h1, h2⟩ := rd_in hv
  subst h2
  exact va_iald B.1 B.2.1 hK.k hP 2 0 rfl rfl h1 hdg kk
theorem p3_cell_n (B : CallFix p m c cc nL s args lw_all RX9) (hK : KK X s) {w : PLW} (hP : va_P X.2.2.1 vwCl (PC w.1 :: (LoP X la w.2 ++ rest)) H) (hdg : decode cc pc = .ok (.arraylength, 1)) (kk : W p l e R s m args below meth c H locs cells slots Q (F0 m (pc + 1) ls (.int 4 :: st))) : W p l e R s m args below meth c H locs cells slots Q (F0 m pc ls (.ref (la 1) :: st)) := va_alen B.1 B.2.1 hK.k hP 2 0 rfl rfl rfl hdg kk
end A_p3

section A_p4
variable {p : Program} {l : Launch} {e : Env} {R : Room} {s : State} {m : MethodId} {args : Array Value} {below : List Frame} {meth : Method} {c : Code} {H : Heap} {locs : List Loc} {cells slots : Nat} {Q : State → Prop} {cc : ByteArray} {nL pc : Nat} {ls : Array Slot} {st : List Value} {X : CX} {rest : va_W} {la : Nat → Nat}
theorem p4_cell_l (B : CallFix p m c cc nL s args lw_all RX10) (hK : KK X s) {w : PLW} (hP : va_P X.2.2.1 vwCl (PC w.1 :: (LoP X la w.2 ++ rest)) H) {i : Int32} {v : Int32} (hv : rd w.2.2 4 i = some v) (hdg : decode cc pc = .ok (.iaload, 1)) (kk : W p l e R s m args below meth c H locs cells slots Q (F0 m (pc + 1) ls (.int v :: st))) : W p l e R s m args below meth c H locs cells slots Q (F0 m pc ls (.int i :: .ref (la 1) :: st)) := by
  obtain ⟨h1, h2⟩ := rd_in hv
  subst h2
  exact va_iald B.1 B.2.1 hK.k hP 2 0 rfl rfl h1 hdg kk
theorem p4_cell_n (B : CallFix p m c cc nL s args lw_all RX10) (hK : KK X s) {w : PLW} (hP : va_P X.2.2.1 vwCl (PC w.1 :: (LoP X la w.2 ++ rest)) H) (hdg : decode cc pc = .ok (.arraylength, 1)) (kk : W p l e R s m args below meth c H locs cells slots Q (F0 m (pc + 1) ls (.int 4 :: st))) : W p l e R s m args below meth c H locs cells slots Q (F0 m pc ls (.ref (la 1) :: st)) := va_alen B.1 B.2.1 hK.k hP 2 0 rfl rfl rfl hdg kk
end A_p4

section A_p5
variable {p : Program} {l : Launch} {e : Env} {R : Room} {s : State} {m : MethodId} {args : Array Value} {below : List Frame} {meth : Method} {c : Code} {H : Heap} {locs : List Loc} {cells slots : Nat} {Q : State → Prop} {cc : ByteArray} {nL pc : Nat} {ls : Array Slot} {st : List Value} {X : CX} {rest : va_W} {la : Nat → Nat}
theorem p5_lost_g0 (B : CallFix p m c cc nL s args lw_all RX11) (hK : KK X s) {w : PLW} (hP : va_P X.2.2.1 vwCl (PC w.1 :: (LoP X la w.2 ++ rest)) H) (hdg : decode cc pc = .ok (.getfield 15, 3)) (kk : W p l e R s m args below meth c H locs cells slots Q (F0 m (pc + 3) ls (.ref (la 1) :: st))) : W p l e R s m args below meth c H locs cells slots Q (F0 m pc ls (.ref (la 0) :: st)) := w_get B hK hP 1 0 rfl rfl in_X2 (by decide) q146 rfl rfl hdg kk
theorem p5_lost_g1 (B : CallFix p m c cc nL s args lw_all RX11) (hK : KK X s) {w : PLW} (hP : va_P X.2.2.1 vwCl (PC w.1 :: (LoP X la w.2 ++ rest)) H) (hdg : decode cc pc = .ok (.getfield 9, 3)) (kk : W p l e R s m args below meth c H locs cells slots Q (F0 m (pc + 3) ls (.int w.2.1 :: st))) : W p l e R s m args below meth c H locs cells slots Q (F0 m pc ls (.ref (la 0) :: st)) := w_get B hK hP 1 1 rfl rfl in_X2 (by decide) q151 rfl rfl hdg kk
theorem p5_cell_l (B : CallFix p m c cc nL s args lw_all RX11) (hK : KK X s) {w : PLW} (hP : va_P X.2.2.1 vwCl (PC w.1 :: (LoP X la w.2 ++ rest)) H) {i : Int32} {v : Int32} (hv : rd w.2.2 4 i = some v) (hdg : decode cc pc = .ok (.iaload, 1)) (kk : W p l e R s m args below meth c H locs cells slots Q (F0 m (pc + 1) ls (.int v :: st))) : W p l e R s m args below meth c H locs cells slots Q (F0 m pc ls (.int i :: .ref (la 1) :: st)) := by
  obtain ⟨h1, h2⟩ := rd_in hv
  subst h2
  exact va_iald B.1 B.2.1 hK.k hP 2 0 rfl rfl h1 hdg kk
theorem p5_cell_n (B : CallFix p m c cc nL s args lw_all RX11) (hK : KK X s) {w : PLW} (hP : va_P X.2.2.1 vwCl (PC w.1 :: (LoP X la w.2 ++ rest)) H) (hdg : decode cc pc = .ok (.arraylength, 1)) (kk : W p l e R s m args below meth c H locs cells slots Q (F0 m (pc + 1) ls (.int 4 :: st))) : W p l e R s m args below meth c H locs cells slots Q (F0 m pc ls (.ref (la 1) :: st)) := va_alen B.1 B.2.1 hK.k hP 2 0 rfl rfl rfl hdg kk
end A_p5

section K_cP0C_wayOf
variable {p : Program} {l : Launch} {e : Env} {R : Room} {s : State} {m : MethodId} {args : Array Value} {below : List Frame} {meth : Method} {c : Code} {H : Heap} {locs : List Loc} {cells slots : Nat} {Q : State → Prop} {cc : ByteArray} {nL pc : Nat} {ls : Array Slot} {st : List Value} {X : CX} {rest : va_W}
theorem cP0C_wayOf (B : CallFix p m c cc nL s args lw_all RX6) (hK : KK X s) {x0 : Int32} {x1 : Int32} {r : Int32} (hf : fC_wayOf x0 x1 = some r) (hR : 2 + 1 ≤ R.frames ∧ 63 ≤ R.locals) (hcs : cells ≤ R.cells ∧ slots ≤ R.slots) (hl : ls.size = nL) (hcat : (st.map fun v => v.category).sum ≤ 8) (hdg : decode cc pc = .ok (.invokestatic 29, 3)) (kk : W p l e R s m args below meth c H locs cells slots Q (F0 m (pc + 3) ls (.int r :: st))) : W p l e R s m args below meth c H locs cells slots Q (F0 m pc ls (.int x1 :: .int x0 :: st)) :=
  w_afterR (w_rSN_ST (As := [.int x0, .int x1]) B hK (tC_wayOf l x0 x1 r hf) q564 q534 q87 q535 (n := 2) (by decide +kernel) hR hcs rfl hl rfl hcat hdg) kk
end K_cP0C_wayOf

section S_P0_arm
variable {p : Program} {l : Launch} {e : Env} {R : Room} {s : State} {m : MethodId} {args : Array Value} {below : List Frame} {meth : Method} {c : Code} {H : Heap} {locs : List Loc} {cells slots : Nat} {Q : State → Prop} {cc : ByteArray} {nL pc : Nat} {ls : Array Slot} {st : List Value} {X : CX} {rest : va_W} {la : Nat → Nat}
noncomputable def fP0_arm (w : PLW)  : Option (Int32) :=
  if w.2.1 = 1 then
    (rd w.2.2 4 0).bind fun v_2 =>
    (fC_wayOf w.1.2.2.2.2 v_2).bind fun r_4 =>
    some r_4
  else
    some (-1)

set_option maxHeartbeats 4000000 in
theorem wP0_arm (B : CallFix p m c cX6_arm 2 s args lw_all RX6) (hK : KK X s) {w : PLW} (hP : va_P X.2.2.1 vwCl (PC w.1 :: (LoP X la w.2 ++ rest)) s.heap)  {res : Int32} (hf : fP0_arm w  = some res) (kr : ∀ (r : Int32), res = r → ∀ (pc : Nat) (ls : Array Slot), decode cX6_arm pc = .ok (.ireturn, 1) → W p l e (RM 3 63) s m args below meth c s.heap [] 0 0 Q (F0 m pc ls [.int r])) {ls : Array Slot} (hl : lv_has ls 2 [(0, .ref w.1.1), (1, .ref (la 0))]) : W p l e (RM 3 63) s m args below meth c s.heap [] 0 0 Q (F0 m 0 ls []) := by
  have hx := B.1
  have hb := B.2.1
  unfold fP0_arm at hf
  refine lv_aload_n hx hb dX6_arm_0 rfl (lv_at hl 1 rfl) ?_
  refine p0_lost_g1 B hK hP dX6_arm_1 ?_
  refine lv_iconst (v := 1) hx hb dX6_arm_4 (by decide) ?_
  refine lv_icmp_ne (tgt := 24) hx hb dX6_arm_5 (by decide) (fun c_1 => ?_) (fun c_1 => ?_)
  · have hf := ifn c_1 hf
    refine lv_iconst (v := (-1)) hx hb dX6_arm_24 (by decide) ?_
    exact kr _ (Option.some.inj hf).symm _ _ dX6_arm_25
  · have hf := ifp c_1 hf
    refine lv_aload_n hx hb dX6_arm_8 rfl (lv_at hl 0 rfl) ?_
    refine po_X62 B hK hP dX6_arm_9 ?_
    refine lv_aload_n hx hb dX6_arm_12 rfl (lv_at hl 1 rfl) ?_
    refine p0_lost_g0 B hK hP dX6_arm_13 ?_
    refine lv_iconst (v := 0) hx hb dX6_arm_16 (by decide) ?_
    obtain ⟨v_2, e_3, hf⟩ := bo hf
    refine p0_cell_l B hK hP e_3 dX6_arm_17 ?_
    obtain ⟨r_4, e_5, hf⟩ := bo hf
    refine cP0C_wayOf B hK e_5 ⟨Nat.le_of_ble_eq_true rfl, Nat.le_of_ble_eq_true rfl⟩ ⟨Nat.zero_le _, Nat.zero_le _⟩ hl.1 (Nat.le_of_ble_eq_true rfl) dX6_arm_18 ?_
    refine lv_goto (tgt := 25) hx hb dX6_arm_21 (by decide) ?_
    exact kr _ (Option.some.inj hf).symm _ _ dX6_arm_25

theorem tP0_arm (l : Launch) (X : CX) (la : Nat → Nat) (rest : va_W) (w : PLW)  (r : Int32) (hf : fP0_arm w  = some r) : RO l yX6_arm cX6_arm 2 (some .int) 3 63 [.ref w.1.1, .ref (la 0)] X (PC w.1 :: (LoP X la w.2 ++ rest)) (some (.int r)) := by
  refine RO.mk (by decide) (Nat.le_of_ble_eq_true rfl) ?_
  intro p e s m below meth c B hr hlk hK hP ls hl
  exact wP0_arm B hK hP hf (fun r h pc ls hd => by cases h; exact w_iretR B hr hlk rfl hd) hl
end S_P0_arm

section S_P0_kind
variable {p : Program} {l : Launch} {e : Env} {R : Room} {s : State} {m : MethodId} {args : Array Value} {below : List Frame} {meth : Method} {c : Code} {H : Heap} {locs : List Loc} {cells slots : Nat} {Q : State → Prop} {cc : ByteArray} {nL pc : Nat} {ls : Array Slot} {st : List Value} {X : CX} {rest : va_W} {la : Nat → Nat}
noncomputable def fP0_kind (w : PLW)  : Option (Int32) :=
  some 0

set_option maxHeartbeats 4000000 in
theorem wP0_kind (B : CallFix p m c cX6_kind 1 s args lw_all RX6) (hK : KK X s) {w : PLW} (hP : va_P X.2.2.1 vwCl (PC w.1 :: (LoP X la w.2 ++ rest)) s.heap)  {res : Int32} (hf : fP0_kind w  = some res) (kr : ∀ (r : Int32), res = r → ∀ (pc : Nat) (ls : Array Slot), decode cX6_kind pc = .ok (.ireturn, 1) → W p l e (RM 0 0) s m args below meth c s.heap [] 0 0 Q (F0 m pc ls [.int r])) {ls : Array Slot} (hl : lv_has ls 1 [(0, .ref w.1.1)]) : W p l e (RM 0 0) s m args below meth c s.heap [] 0 0 Q (F0 m 0 ls []) := by
  have hx := B.1
  have hb := B.2.1
  unfold fP0_kind at hf
  refine lv_iconst (v := 0) hx hb dX6_kind_0 (by decide) ?_
  exact kr _ (Option.some.inj hf).symm _ _ dX6_kind_1

theorem tP0_kind (l : Launch) (X : CX) (la : Nat → Nat) (rest : va_W) (w : PLW)  (r : Int32) (hf : fP0_kind w  = some r) : RO l yX6_kind cX6_kind 1 (some .int) 0 0 [.ref w.1.1] X (PC w.1 :: (LoP X la w.2 ++ rest)) (some (.int r)) := by
  refine RO.mk (by decide) (Nat.le_of_ble_eq_true rfl) ?_
  intro p e s m below meth c B hr hlk hK hP ls hl
  exact wP0_kind B hK hP hf (fun r h pc ls hd => by cases h; exact w_iretR B hr hlk rfl hd) hl
end S_P0_kind

section K_cP1L_nearest
variable {p : Program} {l : Launch} {e : Env} {R : Room} {s : State} {m : MethodId} {args : Array Value} {below : List Frame} {meth : Method} {c : Code} {H : Heap} {locs : List Loc} {cells slots : Nat} {Q : State → Prop} {cc : ByteArray} {nL pc : Nat} {ls : Array Slot} {st : List Value} {X : CX} {rest : va_W} {la : Nat → Nat}
theorem cP1L_nearest (B : CallFix p m c cc nL s args lw_all RX7) (hK : KK X s) (hS : va_S (Az X) s.heap H locs) {w : PLW} (hP : va_P X.2.2.1 vwCl (PC w.1 :: (LoP X la w.2 ++ rest)) H) {x1 : Int32} {r : Int32} (hf : fL_nearest w.2 x1 = some r) (hR : 2 + 1 ≤ R.frames ∧ 65 ≤ R.locals) (hcs : cells ≤ R.cells ∧ slots ≤ R.slots) (hl : ls.size = nL) (hcat : (st.map fun v => v.category).sum ≤ 8) (hdg : decode cc pc = .ok (.invokevirtual 15, 3)) (kk : W p l e R s m args below meth c H locs cells slots Q (F0 m (pc + 3) ls (.int r :: st))) : W p l e R s m args below meth c H locs cells slots Q (F0 m pc ls (.int x1 :: .ref (la 0) :: st)) :=
  w_afterR (w_rV_RO (ws := LoP X la w.2 ++ rest) (As := [.int x1]) B hK hS (va_P_tl hP) (tL_nearest l X la rest w.2 x1 r hf) (lw_V q523 q524 q525 q89 q526) 0 rfl rfl (n := 1) (by decide +kernel) hR hcs rfl hl rfl hcat hdg) kk
end K_cP1L_nearest

section K_cP1C_wayOf
variable {p : Program} {l : Launch} {e : Env} {R : Room} {s : State} {m : MethodId} {args : Array Value} {below : List Frame} {meth : Method} {c : Code} {H : Heap} {locs : List Loc} {cells slots : Nat} {Q : State → Prop} {cc : ByteArray} {nL pc : Nat} {ls : Array Slot} {st : List Value} {X : CX} {rest : va_W}
theorem cP1C_wayOf (B : CallFix p m c cc nL s args lw_all RX7) (hK : KK X s) {x0 : Int32} {x1 : Int32} {r : Int32} (hf : fC_wayOf x0 x1 = some r) (hR : 2 + 1 ≤ R.frames ∧ 63 ≤ R.locals) (hcs : cells ≤ R.cells ∧ slots ≤ R.slots) (hl : ls.size = nL) (hcat : (st.map fun v => v.category).sum ≤ 8) (hdg : decode cc pc = .ok (.invokestatic 24, 3)) (kk : W p l e R s m args below meth c H locs cells slots Q (F0 m (pc + 3) ls (.int r :: st))) : W p l e R s m args below meth c H locs cells slots Q (F0 m pc ls (.int x1 :: .int x0 :: st)) :=
  w_afterR (w_rSN_ST (As := [.int x0, .int x1]) B hK (tC_wayOf l x0 x1 r hf) q533 q534 q87 q535 (n := 2) (by decide +kernel) hR hcs rfl hl rfl hcat hdg) kk
end K_cP1C_wayOf

section S_P1_arm
variable {p : Program} {l : Launch} {e : Env} {R : Room} {s : State} {m : MethodId} {args : Array Value} {below : List Frame} {meth : Method} {c : Code} {H : Heap} {locs : List Loc} {cells slots : Nat} {Q : State → Prop} {cc : ByteArray} {nL pc : Nat} {ls : Array Slot} {st : List Value} {X : CX} {rest : va_W} {la : Nat → Nat}
noncomputable def fP1_arm (w : PLW)  : Option (Int32) :=
  (fL_nearest w.2 w.1.2.2.2.2).bind fun r_1 =>
  if r_1 = (-1) then
    some (-1)
  else
    (rd w.2.2 4 r_1).bind fun v_4 =>
    (fC_wayOf w.1.2.2.2.2 v_4).bind fun r_6 =>
    some r_6

set_option maxHeartbeats 4000000 in
theorem wP1_arm (B : CallFix p m c cX7_arm 3 s args lw_all RX7) (hK : KK X s) {w : PLW} (hP : va_P X.2.2.1 vwCl (PC w.1 :: (LoP X la w.2 ++ rest)) s.heap)  {res : Int32} (hf : fP1_arm w  = some res) (kr : ∀ (r : Int32), res = r → ∀ (pc : Nat) (ls : Array Slot), decode cX7_arm pc = .ok (.ireturn, 1) → W p l e (RM 3 65) s m args below meth c s.heap [] 0 0 Q (F0 m pc ls [.int r])) {ls : Array Slot} (hl : lv_has ls 3 [(0, .ref w.1.1), (1, .ref (la 0))]) : W p l e (RM 3 65) s m args below meth c s.heap [] 0 0 Q (F0 m 0 ls []) := by
  have hx := B.1
  have hb := B.2.1
  unfold fP1_arm at hf
  refine lv_aload_n hx hb dX7_arm_0 rfl (lv_at hl 1 rfl) ?_
  refine lv_aload_n hx hb dX7_arm_1 rfl (lv_at hl 0 rfl) ?_
  refine po_X72 B hK hP dX7_arm_2 ?_
  obtain ⟨r_1, e_2, hf⟩ := bo hf
  refine cP1L_nearest B hK va_S.rf hP e_2 ⟨Nat.le_of_ble_eq_true rfl, Nat.le_of_ble_eq_true rfl⟩ ⟨Nat.zero_le _, Nat.zero_le _⟩ hl.1 (Nat.le_of_ble_eq_true rfl) dX7_arm_5 ?_
  refine lv_istore_n (lv' := [(2, .int r_1), (0, .ref w.1.1), (1, .ref (la 0))]) hx hb dX7_arm_8 rfl hl (by decide) rfl (fun ls hl => ?_)
  refine lv_iload_n hx hb dX7_arm_9 rfl (lv_at hl 0 rfl) ?_
  refine lv_iconst (v := (-1)) hx hb dX7_arm_10 (by decide) ?_
  refine lv_icmp_ne (tgt := 18) hx hb dX7_arm_11 (by decide) (fun c_3 => ?_) (fun c_3 => ?_)
  · have hf := ifn c_3 hf
    refine lv_aload_n hx hb dX7_arm_18 rfl (lv_at hl 1 rfl) ?_
    refine po_X72 B hK hP dX7_arm_19 ?_
    refine lv_aload_n hx hb dX7_arm_22 rfl (lv_at hl 2 rfl) ?_
    refine p1_lost_g0 B hK hP dX7_arm_23 ?_
    refine lv_iload_n hx hb dX7_arm_26 rfl (lv_at hl 0 rfl) ?_
    obtain ⟨v_4, e_5, hf⟩ := bo hf
    refine p1_cell_l B hK hP e_5 dX7_arm_27 ?_
    obtain ⟨r_6, e_7, hf⟩ := bo hf
    refine cP1C_wayOf B hK e_7 ⟨Nat.le_of_ble_eq_true rfl, Nat.le_of_ble_eq_true rfl⟩ ⟨Nat.zero_le _, Nat.zero_le _⟩ hl.1 (Nat.le_of_ble_eq_true rfl) dX7_arm_28 ?_
    exact kr _ (Option.some.inj hf).symm _ _ dX7_arm_31
  · have hf := ifp c_3 hf
    refine lv_iconst (v := (-1)) hx hb dX7_arm_14 (by decide) ?_
    refine lv_goto (tgt := 31) hx hb dX7_arm_15 (by decide) ?_
    exact kr _ (Option.some.inj hf).symm _ _ dX7_arm_31

theorem tP1_arm (l : Launch) (X : CX) (la : Nat → Nat) (rest : va_W) (w : PLW)  (r : Int32) (hf : fP1_arm w  = some r) : RO l yX7_arm cX7_arm 3 (some .int) 3 65 [.ref w.1.1, .ref (la 0)] X (PC w.1 :: (LoP X la w.2 ++ rest)) (some (.int r)) := by
  refine RO.mk (by decide) (Nat.le_of_ble_eq_true rfl) ?_
  intro p e s m below meth c B hr hlk hK hP ls hl
  exact wP1_arm B hK hP hf (fun r h pc ls hd => by cases h; exact w_iretR B hr hlk rfl hd) hl
end S_P1_arm

section S_P1_kind
variable {p : Program} {l : Launch} {e : Env} {R : Room} {s : State} {m : MethodId} {args : Array Value} {below : List Frame} {meth : Method} {c : Code} {H : Heap} {locs : List Loc} {cells slots : Nat} {Q : State → Prop} {cc : ByteArray} {nL pc : Nat} {ls : Array Slot} {st : List Value} {X : CX} {rest : va_W} {la : Nat → Nat}
noncomputable def fP1_kind (w : PLW)  : Option (Int32) :=
  some 1

set_option maxHeartbeats 4000000 in
theorem wP1_kind (B : CallFix p m c cX7_kind 1 s args lw_all RX7) (hK : KK X s) {w : PLW} (hP : va_P X.2.2.1 vwCl (PC w.1 :: (LoP X la w.2 ++ rest)) s.heap)  {res : Int32} (hf : fP1_kind w  = some res) (kr : ∀ (r : Int32), res = r → ∀ (pc : Nat) (ls : Array Slot), decode cX7_kind pc = .ok (.ireturn, 1) → W p l e (RM 0 0) s m args below meth c s.heap [] 0 0 Q (F0 m pc ls [.int r])) {ls : Array Slot} (hl : lv_has ls 1 [(0, .ref w.1.1)]) : W p l e (RM 0 0) s m args below meth c s.heap [] 0 0 Q (F0 m 0 ls []) := by
  have hx := B.1
  have hb := B.2.1
  unfold fP1_kind at hf
  refine lv_iconst (v := 1) hx hb dX7_kind_0 (by decide) ?_
  exact kr _ (Option.some.inj hf).symm _ _ dX7_kind_1

theorem tP1_kind (l : Launch) (X : CX) (la : Nat → Nat) (rest : va_W) (w : PLW)  (r : Int32) (hf : fP1_kind w  = some r) : RO l yX7_kind cX7_kind 1 (some .int) 0 0 [.ref w.1.1] X (PC w.1 :: (LoP X la w.2 ++ rest)) (some (.int r)) := by
  refine RO.mk (by decide) (Nat.le_of_ble_eq_true rfl) ?_
  intro p e s m below meth c B hr hlk hK hP ls hl
  exact wP1_kind B hK hP hf (fun r h pc ls hd => by cases h; exact w_iretR B hr hlk rfl hd) hl
end S_P1_kind

section K_cSP2_arm
variable {p : Program} {l : Launch} {e : Env} {R : Room} {s : State} {m : MethodId} {args : Array Value} {below : List Frame} {meth : Method} {c : Code} {H : Heap} {locs : List Loc} {cells slots : Nat} {Q : State → Prop} {cc : ByteArray} {nL pc : Nat} {ls : Array Slot} {st : List Value} {X : CX} {rest : va_W} {la : Nat → Nat}
theorem cSP2_arm (B : CallFix p m c cc nL s args lw_all RX8) (hK : KK X s) (hS : va_S (Az X) s.heap H locs) {w : PLW} (hP : va_P X.2.2.1 vwCl (PC w.1 :: (LoP X la w.2 ++ rest)) H) {r : Int32} (hf : fP0_arm w = some r) (hR : 3 + 1 ≤ R.frames ∧ 84 ≤ R.locals) (hcs : cells ≤ R.cells ∧ slots ≤ R.slots) (hl : ls.size = nL) (hcat : (st.map fun v => v.category).sum ≤ 8) (hdg : decode cc pc = .ok (.invokespecial 9, 3)) (kk : W p l e R s m args below meth c H locs cells slots Q (F0 m (pc + 3) ls (.int r :: st))) : W p l e R s m args below meth c H locs cells slots Q (F0 m pc ls (.ref (la 0) :: .ref w.1.1 :: st)) :=
  w_afterR (w_rSU_RO (As := [.ref (la 0)]) B hK hS hP (tP0_arm l X la rest w r hf) (lw_SU q542 q519 q543 q517 q105 q563) (n := 1) (by decide +kernel) hR hcs rfl hl rfl hcat hdg) kk
end K_cSP2_arm

section K_cP2C_far
variable {p : Program} {l : Launch} {e : Env} {R : Room} {s : State} {m : MethodId} {args : Array Value} {below : List Frame} {meth : Method} {c : Code} {H : Heap} {locs : List Loc} {cells slots : Nat} {Q : State → Prop} {cc : ByteArray} {nL pc : Nat} {ls : Array Slot} {st : List Value} {X : CX} {rest : va_W}
theorem cP2C_far (B : CallFix p m c cc nL s args lw_all RX8) (hK : KK X s) {x0 : Int32} {x1 : Int32} {r : Int32} (hf : fC_far x0 x1 = some r) (hR : 1 + 1 ≤ R.frames ∧ 42 ≤ R.locals) (hcs : cells ≤ R.cells ∧ slots ≤ R.slots) (hl : ls.size = nL) (hcat : (st.map fun v => v.category).sum ≤ 8) (hdg : decode cc pc = .ok (.invokestatic 24, 3)) (kk : W p l e R s m args below meth c H locs cells slots Q (F0 m (pc + 3) ls (.int r :: st))) : W p l e R s m args below meth c H locs cells slots Q (F0 m pc ls (.int x1 :: .int x0 :: st)) :=
  w_afterR (w_rSN_ST (As := [.int x0, .int x1]) B hK (tC_far l x0 x1 r hf) q544 q528 q87 q529 (n := 2) (by decide +kernel) hR hcs rfl hl rfl hcat hdg) kk
end K_cP2C_far

section S_P2_arm
variable {p : Program} {l : Launch} {e : Env} {R : Room} {s : State} {m : MethodId} {args : Array Value} {below : List Frame} {meth : Method} {c : Code} {H : Heap} {locs : List Loc} {cells slots : Nat} {Q : State → Prop} {cc : ByteArray} {nL pc : Nat} {ls : Array Slot} {st : List Value} {X : CX} {rest : va_W} {la : Nat → Nat}
noncomputable def fP2_arm (w : PLW)  : Option (Int32) :=
  (fP0_arm w).bind fun r_1 =>
  if r_1 = (-1) then
    some r_1
  else
    (rd w.2.2 4 0).bind fun v_4 =>
    (fC_far w.1.2.2.2.2 v_4).bind fun r_6 =>
    if r_6 ≤ w.1.2.2.2.1 then
      some r_1
    else
      some (-1)

set_option maxHeartbeats 4000000 in
theorem wP2_arm (B : CallFix p m c cX8_arm 3 s args lw_all RX8) (hK : KK X s) {w : PLW} (hP : va_P X.2.2.1 vwCl (PC w.1 :: (LoP X la w.2 ++ rest)) s.heap)  {res : Int32} (hf : fP2_arm w  = some res) (kr : ∀ (r : Int32), res = r → ∀ (pc : Nat) (ls : Array Slot), decode cX8_arm pc = .ok (.ireturn, 1) → W p l e (RM 4 84) s m args below meth c s.heap [] 0 0 Q (F0 m pc ls [.int r])) {ls : Array Slot} (hl : lv_has ls 3 [(0, .ref w.1.1), (1, .ref (la 0))]) : W p l e (RM 4 84) s m args below meth c s.heap [] 0 0 Q (F0 m 0 ls []) := by
  have hx := B.1
  have hb := B.2.1
  unfold fP2_arm at hf
  refine lv_aload_n hx hb dX8_arm_0 rfl (lv_at hl 0 rfl) ?_
  refine lv_aload_n hx hb dX8_arm_1 rfl (lv_at hl 1 rfl) ?_
  obtain ⟨r_1, e_2, hf⟩ := bo hf
  refine cSP2_arm B hK va_S.rf hP e_2 ⟨Nat.le_of_ble_eq_true rfl, Nat.le_of_ble_eq_true rfl⟩ ⟨Nat.zero_le _, Nat.zero_le _⟩ hl.1 (Nat.le_of_ble_eq_true rfl) dX8_arm_2 ?_
  refine lv_istore_n (lv' := [(2, .int r_1), (0, .ref w.1.1), (1, .ref (la 0))]) hx hb dX8_arm_5 rfl hl (by decide) rfl (fun ls hl => ?_)
  refine lv_iload_n hx hb dX8_arm_6 rfl (lv_at hl 0 rfl) ?_
  refine lv_iconst (v := (-1)) hx hb dX8_arm_7 (by decide) ?_
  refine lv_icmp_eq (tgt := 35) hx hb dX8_arm_8 (by decide) (fun c_3 => ?_) (fun c_3 => ?_)
  · have hf := ifp c_3 hf
    refine lv_iload_n hx hb dX8_arm_35 rfl (lv_at hl 0 rfl) ?_
    exact kr _ (Option.some.inj hf).symm _ _ dX8_arm_36
  · have hf := ifn c_3 hf
    refine lv_aload_n hx hb dX8_arm_11 rfl (lv_at hl 1 rfl) ?_
    refine po_X82 B hK hP dX8_arm_12 ?_
    refine lv_aload_n hx hb dX8_arm_15 rfl (lv_at hl 2 rfl) ?_
    refine p2_lost_g0 B hK hP dX8_arm_16 ?_
    refine lv_iconst (v := 0) hx hb dX8_arm_19 (by decide) ?_
    obtain ⟨v_4, e_5, hf⟩ := bo hf
    refine p2_cell_l B hK hP e_5 dX8_arm_20 ?_
    obtain ⟨r_6, e_7, hf⟩ := bo hf
    refine cP2C_far B hK e_7 ⟨Nat.le_of_ble_eq_true rfl, Nat.le_of_ble_eq_true rfl⟩ ⟨Nat.zero_le _, Nat.zero_le _⟩ hl.1 (Nat.le_of_ble_eq_true rfl) dX8_arm_21 ?_
    refine lv_aload_n hx hb dX8_arm_24 rfl (lv_at hl 1 rfl) ?_
    refine po_X81 B hK hP dX8_arm_25 ?_
    refine lv_icmp_le (tgt := 35) hx hb dX8_arm_28 (by decide) (fun c_8 => ?_) (fun c_8 => ?_)
    · have hf := ifp c_8 hf
      refine lv_iload_n hx hb dX8_arm_35 rfl (lv_at hl 0 rfl) ?_
      exact kr _ (Option.some.inj hf).symm _ _ dX8_arm_36
    · have hf := ifn c_8 hf
      refine lv_iconst (v := (-1)) hx hb dX8_arm_31 (by decide) ?_
      refine lv_goto (tgt := 36) hx hb dX8_arm_32 (by decide) ?_
      exact kr _ (Option.some.inj hf).symm _ _ dX8_arm_36

theorem tP2_arm (l : Launch) (X : CX) (la : Nat → Nat) (rest : va_W) (w : PLW)  (r : Int32) (hf : fP2_arm w  = some r) : RO l yX8_arm cX8_arm 3 (some .int) 4 84 [.ref w.1.1, .ref (la 0)] X (PC w.1 :: (LoP X la w.2 ++ rest)) (some (.int r)) := by
  refine RO.mk (by decide) (Nat.le_of_ble_eq_true rfl) ?_
  intro p e s m below meth c B hr hlk hK hP ls hl
  exact wP2_arm B hK hP hf (fun r h pc ls hd => by cases h; exact w_iretR B hr hlk rfl hd) hl
end S_P2_arm

section S_P2_kind
variable {p : Program} {l : Launch} {e : Env} {R : Room} {s : State} {m : MethodId} {args : Array Value} {below : List Frame} {meth : Method} {c : Code} {H : Heap} {locs : List Loc} {cells slots : Nat} {Q : State → Prop} {cc : ByteArray} {nL pc : Nat} {ls : Array Slot} {st : List Value} {X : CX} {rest : va_W} {la : Nat → Nat}
noncomputable def fP2_kind (w : PLW)  : Option (Int32) :=
  some 2

set_option maxHeartbeats 4000000 in
theorem wP2_kind (B : CallFix p m c cX8_kind 1 s args lw_all RX8) (hK : KK X s) {w : PLW} (hP : va_P X.2.2.1 vwCl (PC w.1 :: (LoP X la w.2 ++ rest)) s.heap)  {res : Int32} (hf : fP2_kind w  = some res) (kr : ∀ (r : Int32), res = r → ∀ (pc : Nat) (ls : Array Slot), decode cX8_kind pc = .ok (.ireturn, 1) → W p l e (RM 0 0) s m args below meth c s.heap [] 0 0 Q (F0 m pc ls [.int r])) {ls : Array Slot} (hl : lv_has ls 1 [(0, .ref w.1.1)]) : W p l e (RM 0 0) s m args below meth c s.heap [] 0 0 Q (F0 m 0 ls []) := by
  have hx := B.1
  have hb := B.2.1
  unfold fP2_kind at hf
  refine lv_iconst (v := 2) hx hb dX8_kind_0 (by decide) ?_
  exact kr _ (Option.some.inj hf).symm _ _ dX8_kind_1

theorem tP2_kind (l : Launch) (X : CX) (la : Nat → Nat) (rest : va_W) (w : PLW)  (r : Int32) (hf : fP2_kind w  = some r) : RO l yX8_kind cX8_kind 1 (some .int) 0 0 [.ref w.1.1] X (PC w.1 :: (LoP X la w.2 ++ rest)) (some (.int r)) := by
  refine RO.mk (by decide) (Nat.le_of_ble_eq_true rfl) ?_
  intro p e s m below meth c B hr hlk hK hP ls hl
  exact wP2_kind B hK hP hf (fun r h pc ls hd => by cases h; exact w_iretR B hr hlk rfl hd) hl
end S_P2_kind

section K_cSP3_arm
variable {p : Program} {l : Launch} {e : Env} {R : Room} {s : State} {m : MethodId} {args : Array Value} {below : List Frame} {meth : Method} {c : Code} {H : Heap} {locs : List Loc} {cells slots : Nat} {Q : State → Prop} {cc : ByteArray} {nL pc : Nat} {ls : Array Slot} {st : List Value} {X : CX} {rest : va_W} {la : Nat → Nat}
theorem cSP3_arm (B : CallFix p m c cc nL s args lw_all RX9) (hK : KK X s) (hS : va_S (Az X) s.heap H locs) {w : PLW} (hP : va_P X.2.2.1 vwCl (PC w.1 :: (LoP X la w.2 ++ rest)) H) {r : Int32} (hf : fP1_arm w = some r) (hR : 3 + 1 ≤ R.frames ∧ 87 ≤ R.locals) (hcs : cells ≤ R.cells ∧ slots ≤ R.slots) (hl : ls.size = nL) (hcat : (st.map fun v => v.category).sum ≤ 8) (hdg : decode cc pc = .ok (.invokespecial 7, 3)) (kk : W p l e R s m args below meth c H locs cells slots Q (F0 m (pc + 3) ls (.int r :: st))) : W p l e R s m args below meth c H locs cells slots Q (F0 m pc ls (.ref (la 0) :: .ref w.1.1 :: st)) :=
  w_afterR (w_rSU_RO (As := [.ref (la 0)]) B hK hS hP (tP1_arm l X la rest w r hf) (lw_SU q560 q1948 q561 q521 q106 q522) (n := 1) (by decide +kernel) hR hcs rfl hl rfl hcat hdg) kk
end K_cSP3_arm

section K_cP3C_turned
variable {p : Program} {l : Launch} {e : Env} {R : Room} {s : State} {m : MethodId} {args : Array Value} {below : List Frame} {meth : Method} {c : Code} {H : Heap} {locs : List Loc} {cells slots : Nat} {Q : State → Prop} {cc : ByteArray} {nL pc : Nat} {ls : Array Slot} {st : List Value} {X : CX} {rest : va_W}
theorem cP3C_turned (B : CallFix p m c cc nL s args lw_all RX9) (hK : KK X s) {x0 : Int32} {x1 : Int32} {r : Int32} (hf : fC_turned x0 x1 = some r) (hR : 0 + 1 ≤ R.frames ∧ 21 ≤ R.locals) (hcs : cells ≤ R.cells ∧ slots ≤ R.slots) (hl : ls.size = nL) (hcat : (st.map fun v => v.category).sum ≤ 8) (hdg : decode cc pc = .ok (.invokestatic 11, 3)) (kk : W p l e R s m args below meth c H locs cells slots Q (F0 m (pc + 3) ls (.int r :: st))) : W p l e R s m args below meth c H locs cells slots Q (F0 m pc ls (.int x1 :: .int x0 :: st)) :=
  w_afterR (w_rSN_ST (As := [.int x0, .int x1]) B hK (tC_turned l x0 x1 r hf) q562 q551 q87 q552 (n := 2) (by decide +kernel) hR hcs rfl hl rfl hcat hdg) kk
end K_cP3C_turned

section S_P3_arm
variable {p : Program} {l : Launch} {e : Env} {R : Room} {s : State} {m : MethodId} {args : Array Value} {below : List Frame} {meth : Method} {c : Code} {H : Heap} {locs : List Loc} {cells slots : Nat} {Q : State → Prop} {cc : ByteArray} {nL pc : Nat} {ls : Array Slot} {st : List Value} {X : CX} {rest : va_W} {la : Nat → Nat}
noncomputable def fP3_arm (w : PLW)  : Option (Int32) :=
  (fP1_arm w).bind fun r_1 =>
  (fC_turned r_1 1).bind fun r_3 =>
  some r_3

set_option maxHeartbeats 4000000 in
theorem wP3_arm (B : CallFix p m c cX9_arm 2 s args lw_all RX9) (hK : KK X s) {w : PLW} (hP : va_P X.2.2.1 vwCl (PC w.1 :: (LoP X la w.2 ++ rest)) s.heap)  {res : Int32} (hf : fP3_arm w  = some res) (kr : ∀ (r : Int32), res = r → ∀ (pc : Nat) (ls : Array Slot), decode cX9_arm pc = .ok (.ireturn, 1) → W p l e (RM 4 87) s m args below meth c s.heap [] 0 0 Q (F0 m pc ls [.int r])) {ls : Array Slot} (hl : lv_has ls 2 [(0, .ref w.1.1), (1, .ref (la 0))]) : W p l e (RM 4 87) s m args below meth c s.heap [] 0 0 Q (F0 m 0 ls []) := by
  have hx := B.1
  have hb := B.2.1
  unfold fP3_arm at hf
  refine lv_aload_n hx hb dX9_arm_0 rfl (lv_at hl 0 rfl) ?_
  refine lv_aload_n hx hb dX9_arm_1 rfl (lv_at hl 1 rfl) ?_
  obtain ⟨r_1, e_2, hf⟩ := bo hf
  refine cSP3_arm B hK va_S.rf hP e_2 ⟨Nat.le_of_ble_eq_true rfl, Nat.le_of_ble_eq_true rfl⟩ ⟨Nat.zero_le _, Nat.zero_le _⟩ hl.1 (Nat.le_of_ble_eq_true rfl) dX9_arm_2 ?_
  refine lv_iconst (v := 1) hx hb dX9_arm_5 (by decide) ?_
  obtain ⟨r_3, e_4, hf⟩ := bo hf
  refine cP3C_turned B hK e_4 ⟨Nat.le_of_ble_eq_true rfl, Nat.le_of_ble_eq_true rfl⟩ ⟨Nat.zero_le _, Nat.zero_le _⟩ hl.1 (Nat.le_of_ble_eq_true rfl) dX9_arm_6 ?_
  exact kr _ (Option.some.inj hf).symm _ _ dX9_arm_9

theorem tP3_arm (l : Launch) (X : CX) (la : Nat → Nat) (rest : va_W) (w : PLW)  (r : Int32) (hf : fP3_arm w  = some r) : RO l yX9_arm cX9_arm 2 (some .int) 4 87 [.ref w.1.1, .ref (la 0)] X (PC w.1 :: (LoP X la w.2 ++ rest)) (some (.int r)) := by
  refine RO.mk (by decide) (Nat.le_of_ble_eq_true rfl) ?_
  intro p e s m below meth c B hr hlk hK hP ls hl
  exact wP3_arm B hK hP hf (fun r h pc ls hd => by cases h; exact w_iretR B hr hlk rfl hd) hl
end S_P3_arm

section S_P3_kind
variable {p : Program} {l : Launch} {e : Env} {R : Room} {s : State} {m : MethodId} {args : Array Value} {below : List Frame} {meth : Method} {c : Code} {H : Heap} {locs : List Loc} {cells slots : Nat} {Q : State → Prop} {cc : ByteArray} {nL pc : Nat} {ls : Array Slot} {st : List Value} {X : CX} {rest : va_W} {la : Nat → Nat}
noncomputable def fP3_kind (w : PLW)  : Option (Int32) :=
  some 3

set_option maxHeartbeats 4000000 in
theorem wP3_kind (B : CallFix p m c cX9_kind 1 s args lw_all RX9) (hK : KK X s) {w : PLW} (hP : va_P X.2.2.1 vwCl (PC w.1 :: (LoP X la w.2 ++ rest)) s.heap)  {res : Int32} (hf : fP3_kind w  = some res) (kr : ∀ (r : Int32), res = r → ∀ (pc : Nat) (ls : Array Slot), decode cX9_kind pc = .ok (.ireturn, 1) → W p l e (RM 0 0) s m args below meth c s.heap [] 0 0 Q (F0 m pc ls [.int r])) {ls : Array Slot} (hl : lv_has ls 1 [(0, .ref w.1.1)]) : W p l e (RM 0 0) s m args below meth c s.heap [] 0 0 Q (F0 m 0 ls []) := by
  have hx := B.1
  have hb := B.2.1
  unfold fP3_kind at hf
  refine lv_iconst (v := 3) hx hb dX9_kind_0 (by decide) ?_
  exact kr _ (Option.some.inj hf).symm _ _ dX9_kind_1

theorem tP3_kind (l : Launch) (X : CX) (la : Nat → Nat) (rest : va_W) (w : PLW)  (r : Int32) (hf : fP3_kind w  = some r) : RO l yX9_kind cX9_kind 1 (some .int) 0 0 [.ref w.1.1] X (PC w.1 :: (LoP X la w.2 ++ rest)) (some (.int r)) := by
  refine RO.mk (by decide) (Nat.le_of_ble_eq_true rfl) ?_
  intro p e s m below meth c B hr hlk hK hP ls hl
  exact wP3_kind B hK hP hf (fun r h pc ls hd => by cases h; exact w_iretR B hr hlk rfl hd) hl
end S_P3_kind

section K_cSP4_arm
variable {p : Program} {l : Launch} {e : Env} {R : Room} {s : State} {m : MethodId} {args : Array Value} {below : List Frame} {meth : Method} {c : Code} {H : Heap} {locs : List Loc} {cells slots : Nat} {Q : State → Prop} {cc : ByteArray} {nL pc : Nat} {ls : Array Slot} {st : List Value} {X : CX} {rest : va_W} {la : Nat → Nat}
theorem cSP4_arm (B : CallFix p m c cc nL s args lw_all RX10) (hK : KK X s) (hS : va_S (Az X) s.heap H locs) {w : PLW} (hP : va_P X.2.2.1 vwCl (PC w.1 :: (LoP X la w.2 ++ rest)) H) {r : Int32} (hf : fP2_arm w = some r) (hR : 4 + 1 ≤ R.frames ∧ 106 ≤ R.locals) (hcs : cells ≤ R.cells ∧ slots ≤ R.slots) (hl : ls.size = nL) (hcat : (st.map fun v => v.category).sum ≤ 8) (hdg : decode cc pc = .ok (.invokespecial 9, 3)) (kk : W p l e R s m args below meth c H locs cells slots Q (F0 m (pc + 3) ls (.int r :: st))) : W p l e R s m args below meth c H locs cells slots Q (F0 m pc ls (.ref (la 0) :: .ref w.1.1 :: st)) :=
  w_afterR (w_rSU_RO (As := [.ref (la 0)]) B hK hS hP (tP2_arm l X la rest w r hf) (lw_SU q548 q1947 q549 q540 q107 q541) (n := 1) (by decide +kernel) hR hcs rfl hl rfl hcat hdg) kk
end K_cSP4_arm

section K_cP4C_turned
variable {p : Program} {l : Launch} {e : Env} {R : Room} {s : State} {m : MethodId} {args : Array Value} {below : List Frame} {meth : Method} {c : Code} {H : Heap} {locs : List Loc} {cells slots : Nat} {Q : State → Prop} {cc : ByteArray} {nL pc : Nat} {ls : Array Slot} {st : List Value} {X : CX} {rest : va_W}
theorem cP4C_turned (B : CallFix p m c cc nL s args lw_all RX10) (hK : KK X s) {x0 : Int32} {x1 : Int32} {r : Int32} (hf : fC_turned x0 x1 = some r) (hR : 0 + 1 ≤ R.frames ∧ 21 ≤ R.locals) (hcs : cells ≤ R.cells ∧ slots ≤ R.slots) (hl : ls.size = nL) (hcat : (st.map fun v => v.category).sum ≤ 8) (hdg : decode cc pc = .ok (.invokestatic 13, 3)) (kk : W p l e R s m args below meth c H locs cells slots Q (F0 m (pc + 3) ls (.int r :: st))) : W p l e R s m args below meth c H locs cells slots Q (F0 m pc ls (.int x1 :: .int x0 :: st)) :=
  w_afterR (w_rSN_ST (As := [.int x0, .int x1]) B hK (tC_turned l x0 x1 r hf) q550 q551 q87 q552 (n := 2) (by decide +kernel) hR hcs rfl hl rfl hcat hdg) kk
end K_cP4C_turned

section S_P4_arm
variable {p : Program} {l : Launch} {e : Env} {R : Room} {s : State} {m : MethodId} {args : Array Value} {below : List Frame} {meth : Method} {c : Code} {H : Heap} {locs : List Loc} {cells slots : Nat} {Q : State → Prop} {cc : ByteArray} {nL pc : Nat} {ls : Array Slot} {st : List Value} {X : CX} {rest : va_W} {la : Nat → Nat}
noncomputable def fP4_arm (w : PLW)  : Option (Int32) :=
  (fP2_arm w).bind fun r_1 =>
  (fC_turned r_1 4).bind fun r_3 =>
  some r_3

set_option maxHeartbeats 4000000 in
theorem wP4_arm (B : CallFix p m c cX10_arm 2 s args lw_all RX10) (hK : KK X s) {w : PLW} (hP : va_P X.2.2.1 vwCl (PC w.1 :: (LoP X la w.2 ++ rest)) s.heap)  {res : Int32} (hf : fP4_arm w  = some res) (kr : ∀ (r : Int32), res = r → ∀ (pc : Nat) (ls : Array Slot), decode cX10_arm pc = .ok (.ireturn, 1) → W p l e (RM 5 106) s m args below meth c s.heap [] 0 0 Q (F0 m pc ls [.int r])) {ls : Array Slot} (hl : lv_has ls 2 [(0, .ref w.1.1), (1, .ref (la 0))]) : W p l e (RM 5 106) s m args below meth c s.heap [] 0 0 Q (F0 m 0 ls []) := by
  have hx := B.1
  have hb := B.2.1
  unfold fP4_arm at hf
  refine lv_aload_n hx hb dX10_arm_0 rfl (lv_at hl 0 rfl) ?_
  refine lv_aload_n hx hb dX10_arm_1 rfl (lv_at hl 1 rfl) ?_
  obtain ⟨r_1, e_2, hf⟩ := bo hf
  refine cSP4_arm B hK va_S.rf hP e_2 ⟨Nat.le_of_ble_eq_true rfl, Nat.le_of_ble_eq_true rfl⟩ ⟨Nat.zero_le _, Nat.zero_le _⟩ hl.1 (Nat.le_of_ble_eq_true rfl) dX10_arm_2 ?_
  refine lv_iconst (v := 4) hx hb dX10_arm_5 (by decide) ?_
  obtain ⟨r_3, e_4, hf⟩ := bo hf
  refine cP4C_turned B hK e_4 ⟨Nat.le_of_ble_eq_true rfl, Nat.le_of_ble_eq_true rfl⟩ ⟨Nat.zero_le _, Nat.zero_le _⟩ hl.1 (Nat.le_of_ble_eq_true rfl) dX10_arm_6 ?_
  exact kr _ (Option.some.inj hf).symm _ _ dX10_arm_9

theorem tP4_arm (l : Launch) (X : CX) (la : Nat → Nat) (rest : va_W) (w : PLW)  (r : Int32) (hf : fP4_arm w  = some r) : RO l yX10_arm cX10_arm 2 (some .int) 5 106 [.ref w.1.1, .ref (la 0)] X (PC w.1 :: (LoP X la w.2 ++ rest)) (some (.int r)) := by
  refine RO.mk (by decide) (Nat.le_of_ble_eq_true rfl) ?_
  intro p e s m below meth c B hr hlk hK hP ls hl
  exact wP4_arm B hK hP hf (fun r h pc ls hd => by cases h; exact w_iretR B hr hlk rfl hd) hl
end S_P4_arm

section S_P4_kind
variable {p : Program} {l : Launch} {e : Env} {R : Room} {s : State} {m : MethodId} {args : Array Value} {below : List Frame} {meth : Method} {c : Code} {H : Heap} {locs : List Loc} {cells slots : Nat} {Q : State → Prop} {cc : ByteArray} {nL pc : Nat} {ls : Array Slot} {st : List Value} {X : CX} {rest : va_W} {la : Nat → Nat}
noncomputable def fP4_kind (w : PLW)  : Option (Int32) :=
  some 4

set_option maxHeartbeats 4000000 in
theorem wP4_kind (B : CallFix p m c cX10_kind 1 s args lw_all RX10) (hK : KK X s) {w : PLW} (hP : va_P X.2.2.1 vwCl (PC w.1 :: (LoP X la w.2 ++ rest)) s.heap)  {res : Int32} (hf : fP4_kind w  = some res) (kr : ∀ (r : Int32), res = r → ∀ (pc : Nat) (ls : Array Slot), decode cX10_kind pc = .ok (.ireturn, 1) → W p l e (RM 0 0) s m args below meth c s.heap [] 0 0 Q (F0 m pc ls [.int r])) {ls : Array Slot} (hl : lv_has ls 1 [(0, .ref w.1.1)]) : W p l e (RM 0 0) s m args below meth c s.heap [] 0 0 Q (F0 m 0 ls []) := by
  have hx := B.1
  have hb := B.2.1
  unfold fP4_kind at hf
  refine lv_iconst (v := 4) hx hb dX10_kind_0 (by decide) ?_
  exact kr _ (Option.some.inj hf).symm _ _ dX10_kind_1

theorem tP4_kind (l : Launch) (X : CX) (la : Nat → Nat) (rest : va_W) (w : PLW)  (r : Int32) (hf : fP4_kind w  = some r) : RO l yX10_kind cX10_kind 1 (some .int) 0 0 [.ref w.1.1] X (PC w.1 :: (LoP X la w.2 ++ rest)) (some (.int r)) := by
  refine RO.mk (by decide) (Nat.le_of_ble_eq_true rfl) ?_
  intro p e s m below meth c B hr hlk hK hP ls hl
  exact wP4_kind B hK hP hf (fun r h pc ls hd => by cases h; exact w_iretR B hr hlk rfl hd) hl
end S_P4_kind

section K_cP5C_wayBy
variable {p : Program} {l : Launch} {e : Env} {R : Room} {s : State} {m : MethodId} {args : Array Value} {below : List Frame} {meth : Method} {c : Code} {H : Heap} {locs : List Loc} {cells slots : Nat} {Q : State → Prop} {cc : ByteArray} {nL pc : Nat} {ls : Array Slot} {st : List Value} {X : CX} {rest : va_W}
theorem cP5C_wayBy (B : CallFix p m c cc nL s args lw_all RX11) (hK : KK X s) {x0 : Int32} {x1 : Int32} {r : Int32} (hf : fC_wayBy x0 x1 = some r) (hR : 1 + 1 ≤ R.frames ∧ 42 ≤ R.locals) (hcs : cells ≤ R.cells ∧ slots ≤ R.slots) (hl : ls.size = nL) (hcat : (st.map fun v => v.category).sum ≤ 8) (hdg : decode cc pc = .ok (.invokestatic 23, 3)) (kk : W p l e R s m args below meth c H locs cells slots Q (F0 m (pc + 3) ls (.int r :: st))) : W p l e R s m args below meth c H locs cells slots Q (F0 m pc ls (.int x1 :: .int x0 :: st)) :=
  w_afterR (w_rSN_ST (As := [.int x0, .int x1]) B hK (tC_wayBy l x0 x1 r hf) q556 q537 q87 q538 (n := 2) (by decide +kernel) hR hcs rfl hl rfl hcat hdg) kk
end K_cP5C_wayBy

section S_P5_arm
variable {p : Program} {l : Launch} {e : Env} {R : Room} {s : State} {m : MethodId} {args : Array Value} {below : List Frame} {meth : Method} {c : Code} {H : Heap} {locs : List Loc} {cells slots : Nat} {Q : State → Prop} {cc : ByteArray} {nL pc : Nat} {ls : Array Slot} {st : List Value} {X : CX} {rest : va_W} {la : Nat → Nat}
noncomputable def fP5_arm_L7 (w : PLW) (x2 : Int32) (x3 : Int32) (x4 : Int32) : Option ((Int32 × Int32 × Int32) ⊕ (Int32 × Int32)) :=
  if w.2.1 ≤ x4 then
    some (.inr (x2, x3))
  else
    (rd w.2.2 4 x4).bind fun v_2 =>
    (some (x2 + ((v_2 / 10) - (w.1.2.2.2.2 / 10)))).bind fun x_4 =>
    (rd w.2.2 4 x4).bind fun v_6 =>
    (some (x3 + ((irem v_6 10) - (irem w.1.2.2.2.2 10)))).bind fun x_8 =>
    (some (x4 + 1)).bind fun x_10 =>
    some (.inl (x_4, x_8, x_10))

set_option maxHeartbeats 4000000 in
theorem wP5_arm_L7 (B : CallFix p m c cX11_arm 5 s args lw_all RX11) (hK : KK X s) {w : PLW} (hP : va_P X.2.2.1 vwCl (PC w.1 :: (LoP X la w.2 ++ rest)) s.heap) {x2 : Int32} {x3 : Int32} {x4 : Int32} {res : (Int32 × Int32 × Int32) ⊕ (Int32 × Int32)} (hf : fP5_arm_L7 w x2 x3 x4 = some res) (kc : ∀ (y2 : Int32) (y3 : Int32) (y4 : Int32), res = .inl (y2, y3, y4) → ∀ (ls : Array Slot), lv_has ls 5 [(0, .ref w.1.1), (1, .ref (la 0)), (2, .int y2), (3, .int y3), (4, .int y4)] → W p l e (RM 2 42) s m args below meth c s.heap [] 0 0 Q (F0 m 7 ls [])) (ke64 : ∀ (y2 : Int32) (y3 : Int32), res = .inr (y2, y3) → ∀ (ls : Array Slot), lv_has ls 5 [(1, .ref (la 0)), (2, .int y2), (3, .int y3)] → W p l e (RM 2 42) s m args below meth c s.heap [] 0 0 Q (F0 m 64 ls [])) {ls : Array Slot} (hl : lv_has ls 5 [(0, .ref w.1.1), (1, .ref (la 0)), (2, .int x2), (3, .int x3), (4, .int x4)]) : W p l e (RM 2 42) s m args below meth c s.heap [] 0 0 Q (F0 m 7 ls []) := by
  have hx := B.1
  have hb := B.2.1
  unfold fP5_arm_L7 at hf
  refine lv_iload hx hb dX11_arm_7 (lv_at hl 4 rfl) ?_
  refine lv_aload_n hx hb dX11_arm_9 rfl (lv_at hl 1 rfl) ?_
  refine p5_lost_g1 B hK hP dX11_arm_10 ?_
  refine lv_icmp_ge (tgt := 64) hx hb dX11_arm_13 (by decide) (fun c_1 => ?_) (fun c_1 => ?_)
  · have hf := ifp c_1 hf
    exact ke64 _ _ (Option.some.inj hf).symm _ (lv_sub hl [1, 2, 3] rfl)
  · have hf := ifn c_1 hf
    refine lv_iload_n hx hb dX11_arm_16 rfl (lv_at hl 2 rfl) ?_
    refine lv_aload_n hx hb dX11_arm_17 rfl (lv_at hl 1 rfl) ?_
    refine p5_lost_g0 B hK hP dX11_arm_18 ?_
    refine lv_iload hx hb dX11_arm_21 (lv_at hl 4 rfl) ?_
    obtain ⟨v_2, e_3, hf⟩ := bo hf
    refine p5_cell_l B hK hP e_3 dX11_arm_23 ?_
    refine lv_bipush (v := 10) hx hb dX11_arm_24 (by decide) ?_
    refine lv_idiv hx hb dX11_arm_26 (by decide) ?_
    refine lv_aload_n hx hb dX11_arm_27 rfl (lv_at hl 0 rfl) ?_
    refine po_X112 B hK hP dX11_arm_28 ?_
    refine lv_bipush (v := 10) hx hb dX11_arm_31 (by decide) ?_
    refine lv_idiv hx hb dX11_arm_33 (by decide) ?_
    refine lv_isub hx hb dX11_arm_34 ?_
    refine lv_iadd hx hb dX11_arm_35 ?_
    obtain ⟨x_4, e_5, hf⟩ := bo hf
    refine w_istore_n (lv' := [(2, .int x_4), (0, .ref w.1.1), (1, .ref (la 0)), (3, .int x3), (4, .int x4)]) e_5 hx hb dX11_arm_36 rfl hl (by decide) rfl (fun ls hl => ?_)
    refine lv_iload_n hx hb dX11_arm_37 rfl (lv_at hl 3 rfl) ?_
    refine lv_aload_n hx hb dX11_arm_38 rfl (lv_at hl 2 rfl) ?_
    refine p5_lost_g0 B hK hP dX11_arm_39 ?_
    refine lv_iload hx hb dX11_arm_42 (lv_at hl 4 rfl) ?_
    obtain ⟨v_6, e_7, hf⟩ := bo hf
    refine p5_cell_l B hK hP e_7 dX11_arm_44 ?_
    refine lv_bipush (v := 10) hx hb dX11_arm_45 (by decide) ?_
    refine w_irem hx hb dX11_arm_47 (by decide) ?_
    refine lv_aload_n hx hb dX11_arm_48 rfl (lv_at hl 1 rfl) ?_
    refine po_X112 B hK hP dX11_arm_49 ?_
    refine lv_bipush (v := 10) hx hb dX11_arm_52 (by decide) ?_
    refine w_irem hx hb dX11_arm_54 (by decide) ?_
    refine lv_isub hx hb dX11_arm_55 ?_
    refine lv_iadd hx hb dX11_arm_56 ?_
    obtain ⟨x_8, e_9, hf⟩ := bo hf
    refine w_istore_n (lv' := [(3, .int x_8), (2, .int x_4), (0, .ref w.1.1), (1, .ref (la 0)), (4, .int x4)]) e_9 hx hb dX11_arm_57 rfl hl (by decide) rfl (fun ls hl => ?_)
    obtain ⟨x_10, e_11, hf⟩ := bo hf
    refine w_iinc (k := 4) (lv' := [(4, .int x_10), (3, .int x_8), (2, .int x_4), (0, .ref w.1.1), (1, .ref (la 0))]) e_11 hx hb dX11_arm_58 hl rfl (by decide) rfl (fun ls hl => ?_)
    refine lv_goto (tgt := 7) hx hb dX11_arm_61 (by decide) ?_
    exact kc _ _ _ (Option.some.inj hf).symm _ (lv_sub hl [3, 4, 2, 1, 0] rfl)

set_option maxHeartbeats 4000000 in
theorem vP5_arm_L7 (B : CallFix p m c cX11_arm 5 s args lw_all RX11) (hK : KK X s) {w : PLW} (hP : va_P X.2.2.1 vwCl (PC w.1 :: (LoP X la w.2 ++ rest)) s.heap) {x2 : Int32} {x3 : Int32} {x4 : Int32} {res : Int32 × Int32} (hf : lp (fun q : Int32 × Int32 × Int32 => fP5_arm_L7 w q.1 q.2.1 q.2.2) (x2, x3, x4) = some res) (ke64 : ∀ (y2 : Int32) (y3 : Int32), res = (y2, y3) → ∀ (ls : Array Slot), lv_has ls 5 [(1, .ref (la 0)), (2, .int y2), (3, .int y3)] → W p l e (RM 2 42) s m args below meth c s.heap [] 0 0 Q (F0 m 64 ls [])) {ls : Array Slot} (hl : lv_has ls 5 [(0, .ref w.1.1), (1, .ref (la 0)), (2, .int x2), (3, .int x3), (4, .int x4)]) : W p l e (RM 2 42) s m args below meth c s.heap [] 0 0 Q (F0 m 7 ls []) := by
  refine lp_ind (r := res) (P := fun q : Int32 × Int32 × Int32 => ∀ (ls : Array Slot), lv_has ls 5 [(0, .ref w.1.1), (1, .ref (la 0)), (2, .int q.1), (3, .int q.2.1), (4, .int q.2.2)] → W p l e (RM 2 42) s m args below meth c s.heap [] 0 0 Q (F0 m 7 ls [])) ?_ ?_ _ hf _ hl
  · intro q hb ls hl
    exact wP5_arm_L7 B hK hP hb (fun _ _ _ h => by cases h) (fun z0 z1 h => ke64 z0 z1 (Sum.inr.inj h)) hl
  · intro q q2 hb ih ls hl
    exact wP5_arm_L7 B hK hP hb (fun z0 z1 z2 h => by cases h; exact fun ls hl => ih ls hl) (fun _ _ h => by cases h) hl

noncomputable def fP5_arm (w : PLW)  : Option (Int32) :=
  (lp (fun q : Int32 × Int32 × Int32 => fP5_arm_L7 w q.1 q.2.1 q.2.2) (0, 0, 0)).bind (
    fun q_6 => (fun (y_1 : Int32) (y_2 : Int32) =>
      if w.2.1 = 0 then
        some (-1)
      else
        (fC_wayBy y_1 y_2).bind fun r_4 =>
        some r_4
    ) q_6.1 q_6.2
  )

set_option maxHeartbeats 4000000 in
theorem wP5_arm (B : CallFix p m c cX11_arm 5 s args lw_all RX11) (hK : KK X s) {w : PLW} (hP : va_P X.2.2.1 vwCl (PC w.1 :: (LoP X la w.2 ++ rest)) s.heap)  {res : Int32} (hf : fP5_arm w  = some res) (kr : ∀ (r : Int32), res = r → ∀ (pc : Nat) (ls : Array Slot), decode cX11_arm pc = .ok (.ireturn, 1) → W p l e (RM 2 42) s m args below meth c s.heap [] 0 0 Q (F0 m pc ls [.int r])) {ls : Array Slot} (hl : lv_has ls 5 [(0, .ref w.1.1), (1, .ref (la 0))]) : W p l e (RM 2 42) s m args below meth c s.heap [] 0 0 Q (F0 m 0 ls []) := by
  have hx := B.1
  have hb := B.2.1
  unfold fP5_arm at hf
  refine lv_iconst (v := 0) hx hb dX11_arm_0 (by decide) ?_
  refine lv_istore_n (lv' := [(2, .int 0), (0, .ref w.1.1), (1, .ref (la 0))]) hx hb dX11_arm_1 rfl hl (by decide) rfl (fun ls hl => ?_)
  refine lv_iconst (v := 0) hx hb dX11_arm_2 (by decide) ?_
  refine lv_istore_n (lv' := [(3, .int 0), (2, .int 0), (0, .ref w.1.1), (1, .ref (la 0))]) hx hb dX11_arm_3 rfl hl (by decide) rfl (fun ls hl => ?_)
  refine lv_iconst (v := 0) hx hb dX11_arm_4 (by decide) ?_
  refine lv_istore (lv' := [(4, .int 0), (3, .int 0), (2, .int 0), (0, .ref w.1.1), (1, .ref (la 0))]) hx hb dX11_arm_5 hl (by decide) rfl (fun ls hl => ?_)
  obtain ⟨⟨y_1, y_2⟩, e_7, hf⟩ := bo hf
  try dsimp only at hf
  refine vP5_arm_L7 B hK hP e_7 ?_ (lv_sub hl [3, 4, 2, 1, 0] rfl)
  intro z0 z1 hz
  cases hz
  intro ls hl
  refine lv_aload_n hx hb dX11_arm_64 rfl (lv_at hl 0 rfl) ?_
  refine p5_lost_g1 B hK hP dX11_arm_65 ?_
  refine lv_if_ne (tgt := 75) hx hb dX11_arm_68 (by decide) (fun c_3 => ?_) (fun c_3 => ?_)
  · have hf := ifn c_3 hf
    refine lv_iload_n hx hb dX11_arm_75 rfl (lv_at hl 1 rfl) ?_
    refine lv_iload_n hx hb dX11_arm_76 rfl (lv_at hl 2 rfl) ?_
    obtain ⟨r_4, e_5, hf⟩ := bo hf
    refine cP5C_wayBy B hK e_5 ⟨Nat.le_of_ble_eq_true rfl, Nat.le_of_ble_eq_true rfl⟩ ⟨Nat.zero_le _, Nat.zero_le _⟩ hl.1 (Nat.le_of_ble_eq_true rfl) dX11_arm_77 ?_
    exact kr _ (Option.some.inj hf).symm _ _ dX11_arm_80
  · have hf := ifp c_3 hf
    refine lv_iconst (v := (-1)) hx hb dX11_arm_71 (by decide) ?_
    refine lv_goto (tgt := 80) hx hb dX11_arm_72 (by decide) ?_
    exact kr _ (Option.some.inj hf).symm _ _ dX11_arm_80

theorem tP5_arm (l : Launch) (X : CX) (la : Nat → Nat) (rest : va_W) (w : PLW)  (r : Int32) (hf : fP5_arm w  = some r) : RO l yX11_arm cX11_arm 5 (some .int) 2 42 [.ref w.1.1, .ref (la 0)] X (PC w.1 :: (LoP X la w.2 ++ rest)) (some (.int r)) := by
  refine RO.mk (by decide) (Nat.le_of_ble_eq_true rfl) ?_
  intro p e s m below meth c B hr hlk hK hP ls hl
  exact wP5_arm B hK hP hf (fun r h pc ls hd => by cases h; exact w_iretR B hr hlk rfl hd) hl
end S_P5_arm

section S_P5_kind
variable {p : Program} {l : Launch} {e : Env} {R : Room} {s : State} {m : MethodId} {args : Array Value} {below : List Frame} {meth : Method} {c : Code} {H : Heap} {locs : List Loc} {cells slots : Nat} {Q : State → Prop} {cc : ByteArray} {nL pc : Nat} {ls : Array Slot} {st : List Value} {X : CX} {rest : va_W} {la : Nat → Nat}
noncomputable def fP5_kind (w : PLW)  : Option (Int32) :=
  some 5

set_option maxHeartbeats 4000000 in
theorem wP5_kind (B : CallFix p m c cX11_kind 1 s args lw_all RX11) (hK : KK X s) {w : PLW} (hP : va_P X.2.2.1 vwCl (PC w.1 :: (LoP X la w.2 ++ rest)) s.heap)  {res : Int32} (hf : fP5_kind w  = some res) (kr : ∀ (r : Int32), res = r → ∀ (pc : Nat) (ls : Array Slot), decode cX11_kind pc = .ok (.ireturn, 1) → W p l e (RM 0 0) s m args below meth c s.heap [] 0 0 Q (F0 m pc ls [.int r])) {ls : Array Slot} (hl : lv_has ls 1 [(0, .ref w.1.1)]) : W p l e (RM 0 0) s m args below meth c s.heap [] 0 0 Q (F0 m 0 ls []) := by
  have hx := B.1
  have hb := B.2.1
  unfold fP5_kind at hf
  refine lv_iconst (v := 5) hx hb dX11_kind_0 (by decide) ?_
  exact kr _ (Option.some.inj hf).symm _ _ dX11_kind_1

theorem tP5_kind (l : Launch) (X : CX) (la : Nat → Nat) (rest : va_W) (w : PLW)  (r : Int32) (hf : fP5_kind w  = some r) : RO l yX11_kind cX11_kind 1 (some .int) 0 0 [.ref w.1.1] X (PC w.1 :: (LoP X la w.2 ++ rest)) (some (.int r)) := by
  refine RO.mk (by decide) (Nat.le_of_ble_eq_true rfl) ?_
  intro p e s m below meth c B hr hlk hK hP ls hl
  exact wP5_kind B hK hP hf (fun r h pc ls hd => by cases h; exact w_iretR B hr hlk rfl hd) hl
end S_P5_kind
