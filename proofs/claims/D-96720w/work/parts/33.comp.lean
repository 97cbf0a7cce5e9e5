set_option maxRecDepth 100000
/-! the world of the thing itself -/
/-- a row: address, sort, length, numbers (of a long row: the second) -/
abbrev RV : Type := Nat × Fin 5 × Nat × (Nat → Int32) × (Nat → Int64)
abbrev HV : Type := Option (PV ⊕ RV)
abbrev FE : Type := (Nat → Nat) × FW
/-- numbers (6 size, 8 how many are alone), arrays (5 tape, 7 refused, 8 alone), told, what is held, all posts, now, image -/
abbrev CW : Type := (Nat → Int32) × (Nat → Nat → Int32) × (Nat → Int64) × (Nat → HV) × List PV × FW × Option FE
def cfe (c : CW) : FW := c.2.2.2.2.2.1
def cpl (c : CW) : List PV := c.2.2.2.2.1
def chd (c : CW) : Nat → HV := c.2.2.2.1
def cim (c : CW) : Option FE := c.2.2.2.2.2.2
def cnf (c : CW) (f : FW) : CW := (c.1, c.2.1, c.2.2.1, c.2.2.2.1, c.2.2.2.2.1, f, c.2.2.2.2.2.2)
def cpt (c : CW) (k : Nat) (v : Int32) : CW := (upd c.1 k v, c.2)
def cau (c : CW) (k : Nat) (g : Nat → Int32) : CW := (c.1, va_up c.2.1 k g, c.2.2)
def ctl (c : CW) (g : Nat → Int64) : CW := (c.1, c.2.1, g, c.2.2.2)
def hval (h : HV) : Value := match h with
  | none => .null
  | some (.inl P) => .ref P.1
  | some (.inr r) => .ref r.1
def rowD (k : Fin 5) : Nat := match k with
  | 0 => 3
  | 1 => 4
  | 2 => 0
  | 3 => 1
  | 4 => 2
def rowC (X : CX) (r : RV) : Nat × va_E := (r.1, .inl (X.2.2.2 (rowD r.2.1), r.2.2.1, if r.2.1 = 3 then .inr (.inl r.2.2.2.2) else .inl r.2.2.2.1))
def rowsC (X : CX) (h : Nat → HV) : va_W := (List.range 8).flatMap (fun j => match h j with
  | some (.inr r) => [rowC X r]
  | _ => [])
def imgC (X : CX) (i : Option FE) : va_W := match i with
  | none => []
  | some q => FP X q.1 q.2
def img0 (i : Option FE) : Value := match i with
  | none => .null
  | some q => .ref (q.1 0)
def CPt (X : CX) (c : CW) : va_W := (cpl c).map PC ++ (rowsC X (chd c) ++ imgC X (cim c))
def CPr (X : CX) (ca fa : Nat → Nat) (c : CW) : va_W := [(ca 0, .inr (1, [.ref (fa 0), img0 (cim c), .ref (ca 3), .ref (ca 4), .ref (ca 5), .ref (ca 6), .int (c.1 6), .ref (ca 8)])), (ca 3, .inr (3, [.ref (ca 9), .int (c.1 8)])), (ca 9, .inl (X.2.2.2 0, 4, .inl (c.2.1 8))), (ca 4, .inl (X.2.2.2 1, 70, .inr (.inl c.2.2.1))), (ca 6, .inl (X.2.2.2 0, 250, .inl (c.2.1 5))), (ca 8, .inl (X.2.2.2 0, 7, .inl (c.2.1 7))), (ca 5, .inl (X.2.2.2 6, 8, .inr (.inr (.inr (.inr (fun j => some (ca (10 + j)))))))), (ca 10, .inr (4, [hval (chd c 0)])), (ca 11, .inr (4, [hval (chd c 1)])), (ca 12, .inr (4, [hval (chd c 2)])), (ca 13, .inr (4, [hval (chd c 3)])), (ca 14, .inr (4, [hval (chd c 4)])), (ca 15, .inr (4, [hval (chd c 5)])), (ca 16, .inr (4, [hval (chd c 6)])), (ca 17, .inr (4, [hval (chd c 7)]))] ++ CPt X c
def CP (X : CX) (ca fa : Nat → Nat) (c : CW) : va_W := FP X fa (cfe c) ++ CPr X ca fa c
def inL (L : List PV) (P : PV) : Option Unit := if P ∈ L then some () else none
theorem inL_in {L : List PV} {P : PV} {u : Unit} (h : inL L P = some u) : P ∈ L := by
  unfold inL at h
  by_cases hc : P ∈ L
  · exact hc
  · rw [if_neg hc] at h; cases h
def rdP (pa : Nat → Option PV) (n : Nat) (i : Int32) : Option PV := if i < 0 ∨ n ≤ i.toNatClampNeg then none else pa i.toNatClampNeg
theorem rdP_in {pa : Nat → Option PV} {n : Nat} {i : Int32} {v : PV} (h : rdP pa n i = some v) : vp_in i n ∧ pa i.toNatClampNeg = some v := by
  unfold rdP at h
  by_cases hc : i < 0 ∨ n ≤ i.toNatClampNeg
  · rw [if_pos hc] at h; cases h
  · rw [if_neg hc] at h; exact ⟨hc, h⟩
def laN (fa : Nat → Nat) : Nat → Nat := fun k => if k = 0 then fa 5 else fa 7
def lwN (f : FW) : LW := (f.1 11, f.2.1 11)
def laA (ca : Nat → Nat) : Nat → Nat := fun k => if k = 0 then ca 3 else ca 9
def lwA (c : CW) : LW := (c.1 8, c.2.1 8)
theorem cp_pool {X : CX} {ca fa : Nat → Nat} {c : CW} {rest : va_W} {P : PV} (h : P ∈ cpl c) : PC P ∈ CP X ca fa c ++ rest := by
  refine List.mem_append_left _ (List.mem_append_right _ (List.mem_append_right _ ?_))
  exact List.mem_append_left _ (List.mem_map.mpr ⟨P, h, rfl⟩)
theorem cp_P {X : CX} {ca fa : Nat → Nat} {c : CW} {rest : va_W} {P : PV} {H : Heap} (h : P ∈ cpl c) (hP : va_P X.2.2.1 vwCl (CP X ca fa c ++ rest) H) : va_P X.2.2.1 vwCl (PC P :: []) H := va_P_of hP (fun q hq => by
  rcases List.mem_cons.mp hq with e | e
  · rw [e]; exact cp_pool h
  · cases e)
theorem cp_N {X : CX} {ca fa : Nat → Nat} {c : CW} {rest : va_W} {P : PV} {H : Heap} (h : P ∈ cpl c) (hP : va_P X.2.2.1 vwCl (CP X ca fa c ++ rest) H) : va_P X.2.2.1 vwCl (PC P :: (LoP X (laN fa) (lwN (cfe c)) ++ [])) H := va_P_of hP (fun q hq => by
  rcases List.mem_cons.mp hq with e | e
  · rw [e]; exact cp_pool h
  · rcases List.mem_cons.mp e with e | e
    · rw [e]; exact List.mem_of_getElem? (i := 4) rfl
    · rcases List.mem_cons.mp e with e | e
      · rw [e]; exact List.mem_of_getElem? (i := 6) rfl
      · cases e)
theorem cp_A {X : CX} {ca fa : Nat → Nat} {c : CW} {rest : va_W} {P : PV} {H : Heap} (h : P ∈ cpl c) (hP : va_P X.2.2.1 vwCl (CP X ca fa c ++ rest) H) : va_P X.2.2.1 vwCl (PC P :: (LoP X (laA ca) (lwA c) ++ [])) H := va_P_of hP (fun q hq => by
  rcases List.mem_cons.mp hq with e | e
  · rw [e]; exact cp_pool h
  · rcases List.mem_cons.mp e with e | e
    · rw [e]; exact List.mem_of_getElem? (i := 9) rfl
    · rcases List.mem_cons.mp e with e | e
      · rw [e]; exact List.mem_of_getElem? (i := 10) rfl
      · cases e)
/-- a post's arm, by its kind -/
noncomputable def fArm (P : PV) (w : LW) : Option Int32 := match P.2.1 with
  | 0 => fP0_arm (P, w)
  | 1 => fP1_arm (P, w)
  | 2 => fP2_arm (P, w)
  | 3 => fP3_arm (P, w)
  | 4 => fP4_arm (P, w)
  | 5 => fP5_arm (P, w)
def fKind (P : PV) : Int32 := match P.2.1 with
  | 0 => 0
  | 1 => 1
  | 2 => 2
  | 3 => 3
  | 4 => 4
  | 5 => 5
section WC
variable {p : Program} {l : Launch} {e : Env} {R : Room} {s : State} {m : MethodId} {args : Array Value} {below : List Frame} {meth : Method} {c : Code} {H : Heap} {locs : List Loc} {cells slots : Nat} {Q : State → Prop} {cc : ByteArray} {nL pc : Nat} {ls : Array Slot} {st st0 : List Value} {own : String} {X : CX} {ws ws' rest : va_W} {ca fa : Nat → Nat}
theorem w_arm (B : CallFix p m c cc nL s args lw_all RX0) (hK : KK X s) (hS : va_S (Az X) s.heap H locs) {P : PV} {la : Nat → Nat} {w : LW} (hP : va_P X.2.2.1 vwCl (PC P :: (LoP X la w ++ [])) H) {r : Int32} (hf : fArm P w = some r) (hR : 5 + 1 ≤ R.frames ∧ 8 + (3 + 11) + 106 ≤ R.locals) (hcs : cells ≤ R.cells ∧ slots ≤ R.slots) (hl : ls.size = nL) (hcat : (st.map fun v => v.category).sum ≤ 8)
    (hdg : decode cc pc = .ok (.invokevirtual 154, 3)) (kk : W p l e R s m args below meth c H locs cells slots Q (F0 m (pc + 3) ls (.int r :: st))) : W p l e R s m args below meth c H locs cells slots Q (F0 m pc ls (.ref (la 0) :: .ref P.1 :: st)) := by
  obtain ⟨pa, pk, pn, px, pz⟩ := P
  match pk, hP, hf with
  | 0, hP, hf => exact w_afterR (w_rU_RO (P := (pa, 0, pn, px, pz)) (As := [.ref (la 0)]) (x := yX6_arm) (owner := RX6) B hK hS hP (C := RX6) (T := TX6) (N := 3) rfl (tP0_arm l X la [] ((pa, 0, pn, px, pz), w) r hf) (lw_O q516 q519 q517 q518 q517 q105 q563) q563 (n := 1) (by decide +kernel) ⟨by omega, by omega⟩ hcs rfl hl rfl hcat hdg) kk
  | 1, hP, hf => exact w_afterR (w_rU_RO (P := (pa, 1, pn, px, pz)) (As := [.ref (la 0)]) (x := yX6_arm) (owner := RX6) B hK hS hP (C := RX7) (T := TX7) (N := 3) rfl (tP1_arm l X la [] ((pa, 1, pn, px, pz), w) r hf) (lw_O q516 q519 q517 q520 q521 q106 q522) q563 (n := 1) (by decide +kernel) ⟨by omega, by omega⟩ hcs rfl hl rfl hcat hdg) kk
  | 2, hP, hf => exact w_afterR (w_rU_RO (P := (pa, 2, pn, px, pz)) (As := [.ref (la 0)]) (x := yX6_arm) (owner := RX6) B hK hS hP (C := RX8) (T := TX8) (N := 3) rfl (tP2_arm l X la [] ((pa, 2, pn, px, pz), w) r hf) (lw_O q516 q519 q517 q539 q540 q107 q541) q563 (n := 1) (by decide +kernel) ⟨by omega, by omega⟩ hcs rfl hl rfl hcat hdg) kk
  | 3, hP, hf => exact w_afterR (w_rU_RO (P := (pa, 3, pn, px, pz)) (As := [.ref (la 0)]) (x := yX6_arm) (owner := RX6) B hK hS hP (C := RX9) (T := TX9) (N := 3) rfl (tP3_arm l X la [] ((pa, 3, pn, px, pz), w) r hf) (lw_O q516 q519 q517 q557 q558 q108 q559) q563 (n := 1) (by decide +kernel) ⟨by omega, by omega⟩ hcs rfl hl rfl hcat hdg) kk
  | 4, hP, hf => exact w_afterR (w_rU_RO (P := (pa, 4, pn, px, pz)) (As := [.ref (la 0)]) (x := yX6_arm) (owner := RX6) B hK hS hP (C := RX10) (T := TX10) (N := 3) rfl (tP4_arm l X la [] ((pa, 4, pn, px, pz), w) r hf) (lw_O q516 q519 q517 q545 q546 q109 q547) q563 (n := 1) (by decide +kernel) ⟨by omega, by omega⟩ hcs rfl hl rfl hcat hdg) kk
  | 5, hP, hf => exact w_afterR (w_rU_RO (P := (pa, 5, pn, px, pz)) (As := [.ref (la 0)]) (x := yX6_arm) (owner := RX6) B hK hS hP (C := RX11) (T := TX11) (N := 3) rfl (tP5_arm l X la [] ((pa, 5, pn, px, pz), w) r hf) (lw_O q516 q519 q517 q553 q554 q110 q555) q563 (n := 1) (by decide +kernel) ⟨by omega, by omega⟩ hcs rfl hl rfl hcat hdg) kk
theorem w_kind (B : CallFix p m c cc nL s args lw_all RX0) (hK : KK X s) (hS : va_S (Az X) s.heap H locs) {P : PV} {la : Nat → Nat} {w : LW} (hP : va_P X.2.2.1 vwCl (PC P :: (LoP X la w ++ [])) H) {r : Int32} (hf : some (fKind P) = some r) (hR : 0 + 1 ≤ R.frames ∧ 8 + (1 + 11) + 0 ≤ R.locals) (hcs : cells ≤ R.cells ∧ slots ≤ R.slots) (hl : ls.size = nL) (hcat : (st.map fun v => v.category).sum ≤ 8)
    (hdg : decode cc pc = .ok (.invokevirtual 233, 3)) (kk : W p l e R s m args below meth c H locs cells slots Q (F0 m (pc + 3) ls (.int r :: st))) : W p l e R s m args below meth c H locs cells slots Q (F0 m pc ls (.ref P.1 :: st)) := by
  obtain ⟨pa, pk, pn, px, pz⟩ := P
  match pk, hP, hf with
  | 0, hP, hf => exact w_afterR (w_rU_RO (P := (pa, 0, pn, px, pz)) (As := []) (x := yX6_kind) (owner := RX6) B hK hS hP (C := RX6) (T := TX6) (N := 3) rfl (tP0_kind l X la [] ((pa, 0, pn, px, pz), w) r hf) (lw_O q1071 q1074 q1072 q1073 q1072 q105 q1090) q1090 (n := 0) (by decide +kernel) hR hcs rfl hl rfl hcat hdg) kk
  | 1, hP, hf => exact w_afterR (w_rU_RO (P := (pa, 1, pn, px, pz)) (As := []) (x := yX6_kind) (owner := RX6) B hK hS hP (C := RX7) (T := TX7) (N := 3) rfl (tP1_kind l X la [] ((pa, 1, pn, px, pz), w) r hf) (lw_O q1071 q1074 q1072 q1075 q1076 q106 q1077) q1090 (n := 0) (by decide +kernel) hR hcs rfl hl rfl hcat hdg) kk
  | 2, hP, hf => exact w_afterR (w_rU_RO (P := (pa, 2, pn, px, pz)) (As := []) (x := yX6_kind) (owner := RX6) B hK hS hP (C := RX8) (T := TX8) (N := 3) rfl (tP2_kind l X la [] ((pa, 2, pn, px, pz), w) r hf) (lw_O q1071 q1074 q1072 q1078 q1079 q107 q1080) q1090 (n := 0) (by decide +kernel) hR hcs rfl hl rfl hcat hdg) kk
  | 3, hP, hf => exact w_afterR (w_rU_RO (P := (pa, 3, pn, px, pz)) (As := []) (x := yX6_kind) (owner := RX6) B hK hS hP (C := RX9) (T := TX9) (N := 3) rfl (tP3_kind l X la [] ((pa, 3, pn, px, pz), w) r hf) (lw_O q1071 q1074 q1072 q1087 q1088 q108 q1089) q1090 (n := 0) (by decide +kernel) hR hcs rfl hl rfl hcat hdg) kk
  | 4, hP, hf => exact w_afterR (w_rU_RO (P := (pa, 4, pn, px, pz)) (As := []) (x := yX6_kind) (owner := RX6) B hK hS hP (C := RX10) (T := TX10) (N := 3) rfl (tP4_kind l X la [] ((pa, 4, pn, px, pz), w) r hf) (lw_O q1071 q1074 q1072 q1081 q1082 q109 q1083) q1090 (n := 0) (by decide +kernel) hR hcs rfl hl rfl hcat hdg) kk
  | 5, hP, hf => exact w_afterR (w_rU_RO (P := (pa, 5, pn, px, pz)) (As := []) (x := yX6_kind) (owner := RX6) B hK hS hP (C := RX11) (T := TX11) (N := 3) rfl (tP5_kind l X la [] ((pa, 5, pn, px, pz), w) r hf) (lw_O q1071 q1074 q1072 q1084 q1085 q110 q1086) q1090 (n := 0) (by decide +kernel) hR hcs rfl hl rfl hcat hdg) kk
theorem co_post_l (B : CallFix p m c cc nL s args lw_all own) (hK : KK X s) {w : CW} (hP : va_P X.2.2.1 vwCl (CP X ca fa w ++ rest) H) {i : Int32} {v : PV} (hv : rdP (cfe w).2.2 8 i = some v) (hdg : decode cc pc = .ok (.aaload, 1)) (kk : W p l e R s m args below meth c H locs cells slots Q (F0 m (pc + 1) ls (.ref v.1 :: st))) : W p l e R s m args below meth c H locs cells slots Q (F0 m pc ls (.int i :: .ref (fa 2) :: st)) := by
  obtain ⟨h1, h2⟩ := rdP_in hv
  refine va_aldq (C := RX6) B.1 B.2.1 hK.k hP 7 5 rfl rfl h1 hdg ?_
  rw [h2]
  exact kk
def calone (c : CW) (w : LW) : CW := (upd c.1 8 w.1, va_up c.2.1 8 w.2, c.2.2)
theorem co_alone (B : CallFix p m c cc nL s args lw_all RX0) (hK : KK X s) {w w' : CW} (hG : GG X (CP X ca fa w ++ rest) s.heap H locs) {x1 : Int32} {f1 : LW} (hf : fL_alone (lwA w) x1 = some f1) (hw : some (calone w f1) = some w') (hR : 0 + 1 ≤ R.frames ∧ 8 + (2 + 11) + 0 ≤ R.locals) (hcs : cells ≤ R.cells ∧ slots ≤ R.slots) (hl : ls.size = nL) (hcat : (st.map fun v => v.category).sum ≤ 8)
    (hdg : decode cc pc = .ok (.invokevirtual 250, 3)) (kk : ∀ (H1 : Heap) (locs1 : List Loc), GG X (CP X ca fa w' ++ rest) s.heap H1 locs1 → W p l e R s m args below meth c H1 locs1 cells slots Q (F0 m (pc + 3) ls (.ref (ca 3) :: st))) : W p l e R s m args below meth c H locs cells slots Q (F0 m pc ls (.int x1 :: .ref (ca 3) :: st)) := by
  cases hw
  have pm : ∀ (F : va_W) (a b d : Nat × va_E) (tl : va_W), (F ++ (a :: b :: d :: tl)).Perm (b :: d :: (F ++ a :: tl)) := by
    intro F a b d tl
    have h1 : (F ++ (a :: b :: d :: tl)) = (F ++ [a]) ++ ([b, d] ++ tl) := by simp
    have h2 : b :: d :: (F ++ a :: tl) = [b, d] ++ ((F ++ [a]) ++ tl) := by simp
    rw [h1, h2]
    exact List.perm_append_comm_assoc _ _ _
  have e1 : ∀ v : CW, CP X ca fa v ++ rest = FP X fa (cfe v) ++ (CPr X ca fa v ++ rest) := fun v => List.append_assoc _ _ _
  have hG1 := hG
  rw [e1] at hG1
  have hG2 := hG1.perm (pm _ _ _ _ _)
  refine w_afterW (w_rV_RW (ws := _) (As := [.int x1]) B hK hG2 (tL_alone l X (laA ca) _ (lwA w) f1 x1 hf) (lw_V q1133 q1134 q1135 q89 q1136) 0 (ci := 3) (C := RX2) (T := TX2) (N := 2) rfl rfl (n := 1) (by decide +kernel) hR hcs rfl hl rfl hcat hdg) hG2.2.2 (fun H1 l1 g => kk H1 l1 ?_)
  have g2 := g.perm (pm (FP X fa (cfe w)) _ _ _ _).symm
  rw [e1]
  exact g2
end WC
/-! told numbers: a long row of the method's own -/
def LC (X : CX) (pr : Nat × Nat × (Nat → Int64)) : Nat × va_E := (pr.1, .inl (X.2.2.2 1, pr.2.1, .inr (.inl pr.2.2)))
section WD
variable {p : Program} {l : Launch} {e : Env} {R : Room} {s : State} {m : MethodId} {args : Array Value} {below : List Frame} {meth : Method} {c : Code} {H : Heap} {locs : List Loc} {cells slots : Nat} {Q : State → Prop} {cc : ByteArray} {nL pc : Nat} {ls : Array Slot} {st : List Value} {own : String} {X : CX} {rest : va_W} {ca fa : Nat → Nat} {pr : Nat × Nat × (Nat → Int64)}
theorem co_pr_l (B : CallFix p m c cc nL s args lw_all own) (hK : KK X s) {w : CW} (hP : va_P X.2.2.1 vwCl (CP X ca fa w ++ (LC X pr :: rest)) H) {i : Int32} {v : Int64} (hv : rd pr.2.2 pr.2.1 i = some v) (hdg : decode cc pc = .ok (.laload, 1)) (kk : W p l e R s m args below meth c H locs cells slots Q (F0 m (pc + 1) ls (.long v :: st))) : W p l e R s m args below meth c H locs cells slots Q (F0 m pc ls (.int i :: .ref pr.1 :: st)) := by
  obtain ⟨h1, h2⟩ := rd_in hv
  subst h2
  obtain ⟨k, hk⟩ := List.getElem?_of_mem (show LC X pr ∈ CP X ca fa w ++ (LC X pr :: rest) from List.mem_append_right _ List.mem_cons_self)
  exact va_lald B.1 B.2.1 hK.k hP k 1 hk rfl h1 hdg kk
theorem co_pr_n (B : CallFix p m c cc nL s args lw_all own) (hK : KK X s) {w : CW} (hP : va_P X.2.2.1 vwCl (CP X ca fa w ++ (LC X pr :: rest)) H) (hdg : decode cc pc = .ok (.arraylength, 1)) (kk : W p l e R s m args below meth c H locs cells slots Q (F0 m (pc + 1) ls (.int (nI pr.2.1) :: st))) : W p l e R s m args below meth c H locs cells slots Q (F0 m pc ls (.ref pr.1 :: st)) := by
  obtain ⟨k, hk⟩ := List.getElem?_of_mem (show LC X pr ∈ CP X ca fa w ++ (LC X pr :: rest) from List.mem_append_right _ List.mem_cons_self)
  exact va_alen B.1 B.2.1 hK.k hP k 1 hk rfl rfl hdg kk
end WD
