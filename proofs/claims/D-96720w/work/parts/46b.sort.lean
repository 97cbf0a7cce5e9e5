set_option maxRecDepth 100000
/-! of which sort a row is -/
theorem nc_01 {X : CX} {s : State} (h : KK X s) : va_Nc "[B" "[S" s := h.nc (flat_of_before _ h.1.2.1 (Cond.not (.castable "[B" "[S")) (by decide +kernel))
theorem nc_02 {X : CX} {s : State} (h : KK X s) : va_Nc "[B" "[I" s := h.nc (flat_of_before _ h.1.2.1 (Cond.not (.castable "[B" "[I")) (by decide +kernel))
theorem nc_03 {X : CX} {s : State} (h : KK X s) : va_Nc "[B" "[J" s := h.nc (flat_of_before _ h.1.2.1 (Cond.not (.castable "[B" "[J")) (by decide +kernel))
theorem nc_10 {X : CX} {s : State} (h : KK X s) : va_Nc "[S" "[B" s := h.nc (flat_of_before _ h.1.2.1 (Cond.not (.castable "[S" "[B")) (by decide +kernel))
theorem nc_12 {X : CX} {s : State} (h : KK X s) : va_Nc "[S" "[I" s := h.nc (flat_of_before _ h.1.2.1 (Cond.not (.castable "[S" "[I")) (by decide +kernel))
theorem nc_13 {X : CX} {s : State} (h : KK X s) : va_Nc "[S" "[J" s := h.nc (flat_of_before _ h.1.2.1 (Cond.not (.castable "[S" "[J")) (by decide +kernel))
theorem nc_20 {X : CX} {s : State} (h : KK X s) : va_Nc "[I" "[B" s := h.nc (flat_of_before _ h.1.2.1 (Cond.not (.castable "[I" "[B")) (by decide +kernel))
theorem nc_21 {X : CX} {s : State} (h : KK X s) : va_Nc "[I" "[S" s := h.nc (flat_of_before _ h.1.2.1 (Cond.not (.castable "[I" "[S")) (by decide +kernel))
theorem nc_23 {X : CX} {s : State} (h : KK X s) : va_Nc "[I" "[J" s := h.nc (flat_of_before _ h.1.2.1 (Cond.not (.castable "[I" "[J")) (by decide +kernel))
theorem nc_30 {X : CX} {s : State} (h : KK X s) : va_Nc "[J" "[B" s := h.nc (flat_of_before _ h.1.2.1 (Cond.not (.castable "[J" "[B")) (by decide +kernel))
theorem nc_31 {X : CX} {s : State} (h : KK X s) : va_Nc "[J" "[S" s := h.nc (flat_of_before _ h.1.2.1 (Cond.not (.castable "[J" "[S")) (by decide +kernel))
theorem nc_32 {X : CX} {s : State} (h : KK X s) : va_Nc "[J" "[I" s := h.nc (flat_of_before _ h.1.2.1 (Cond.not (.castable "[J" "[I")) (by decide +kernel))
theorem nc_40 {X : CX} {s : State} (h : KK X s) : va_Nc "[Z" "[B" s := h.nc (flat_of_before _ h.1.2.1 (Cond.not (.castable "[Z" "[B")) (by decide +kernel))
theorem nc_41 {X : CX} {s : State} (h : KK X s) : va_Nc "[Z" "[S" s := h.nc (flat_of_before _ h.1.2.1 (Cond.not (.castable "[Z" "[S")) (by decide +kernel))
theorem nc_42 {X : CX} {s : State} (h : KK X s) : va_Nc "[Z" "[I" s := h.nc (flat_of_before _ h.1.2.1 (Cond.not (.castable "[Z" "[I")) (by decide +kernel))
theorem nc_43 {X : CX} {s : State} (h : KK X s) : va_Nc "[Z" "[J" s := h.nc (flat_of_before _ h.1.2.1 (Cond.not (.castable "[Z" "[J")) (by decide +kernel))
theorem w_sortOf0 (l : Launch) (X : CX) (r : RV) (ws : va_W) (hm : rowC X r ∈ ws) : RO l yX0_sortOf cX0_sortOf 1 (some .int) 0 0 [.ref r.1] X ws (some (.int (nI r.2.1.val))) := by
  refine RO.mk (by decide) (Nat.le_of_ble_eq_true rfl) ?_
  intro p e s m below meth c B hr hlk hK hP ls hl
  have hl : lv_has ls 1 [(0, .ref r.1)] := hl
  have hx := B.1
  have hb := B.2.1
  have hv := row_recv hK hP hm
  obtain ⟨ra, rk, rn, rf, rg⟩ := r
  match rk, hv with
  | 0, hv =>
    refine lv_aload_n hx hb dX0_sortOf_0 rfl (lv_at hl 0 rfl) ?_
    refine va_instE (nm := "[B") hx hb B.2.2.2.1 (B.2.2.2.2 _ q414) hv dX0_sortOf_1 ?_
    refine lv_if_eq (tgt := 9) hx hb dX0_sortOf_4 (by decide) (fun h => absurd h (by decide)) (fun _ => ?_)
    refine lv_iconst (v := 0) hx hb dX0_sortOf_7 (by decide) ?_
    exact w_iretR B hr hlk rfl dX0_sortOf_8
  | 1, hv =>
    refine lv_aload_n hx hb dX0_sortOf_0 rfl (lv_at hl 0 rfl) ?_
    refine va_instNo (C := "[S") (nm := "[B") hx hb B.2.2.2.1 (B.2.2.2.2 _ q414) (nc_10 hK) hv dX0_sortOf_1 ?_
    refine lv_if_eq (tgt := 9) hx hb dX0_sortOf_4 (by decide) (fun _ => ?_) (fun h => absurd rfl h)
    refine lv_aload_n hx hb dX0_sortOf_9 rfl (lv_at hl 0 rfl) ?_
    refine va_instE (nm := "[S") hx hb B.2.2.2.1 (B.2.2.2.2 _ q415) hv dX0_sortOf_10 ?_
    refine lv_if_eq (tgt := 18) hx hb dX0_sortOf_13 (by decide) (fun h => absurd h (by decide)) (fun _ => ?_)
    refine lv_iconst (v := 1) hx hb dX0_sortOf_16 (by decide) ?_
    exact w_iretR B hr hlk rfl dX0_sortOf_17
  | 2, hv =>
    refine lv_aload_n hx hb dX0_sortOf_0 rfl (lv_at hl 0 rfl) ?_
    refine va_instNo (C := "[I") (nm := "[B") hx hb B.2.2.2.1 (B.2.2.2.2 _ q414) (nc_20 hK) hv dX0_sortOf_1 ?_
    refine lv_if_eq (tgt := 9) hx hb dX0_sortOf_4 (by decide) (fun _ => ?_) (fun h => absurd rfl h)
    refine lv_aload_n hx hb dX0_sortOf_9 rfl (lv_at hl 0 rfl) ?_
    refine va_instNo (C := "[I") (nm := "[S") hx hb B.2.2.2.1 (B.2.2.2.2 _ q415) (nc_21 hK) hv dX0_sortOf_10 ?_
    refine lv_if_eq (tgt := 18) hx hb dX0_sortOf_13 (by decide) (fun _ => ?_) (fun h => absurd rfl h)
    refine lv_aload_n hx hb dX0_sortOf_18 rfl (lv_at hl 0 rfl) ?_
    refine va_instE (nm := "[I") hx hb B.2.2.2.1 (B.2.2.2.2 _ q416) hv dX0_sortOf_19 ?_
    refine lv_if_eq (tgt := 27) hx hb dX0_sortOf_22 (by decide) (fun h => absurd h (by decide)) (fun _ => ?_)
    refine lv_iconst (v := 2) hx hb dX0_sortOf_25 (by decide) ?_
    exact w_iretR B hr hlk rfl dX0_sortOf_26
  | 3, hv =>
    refine lv_aload_n hx hb dX0_sortOf_0 rfl (lv_at hl 0 rfl) ?_
    refine va_instNo (C := "[J") (nm := "[B") hx hb B.2.2.2.1 (B.2.2.2.2 _ q414) (nc_30 hK) hv dX0_sortOf_1 ?_
    refine lv_if_eq (tgt := 9) hx hb dX0_sortOf_4 (by decide) (fun _ => ?_) (fun h => absurd rfl h)
    refine lv_aload_n hx hb dX0_sortOf_9 rfl (lv_at hl 0 rfl) ?_
    refine va_instNo (C := "[J") (nm := "[S") hx hb B.2.2.2.1 (B.2.2.2.2 _ q415) (nc_31 hK) hv dX0_sortOf_10 ?_
    refine lv_if_eq (tgt := 18) hx hb dX0_sortOf_13 (by decide) (fun _ => ?_) (fun h => absurd rfl h)
    refine lv_aload_n hx hb dX0_sortOf_18 rfl (lv_at hl 0 rfl) ?_
    refine va_instNo (C := "[J") (nm := "[I") hx hb B.2.2.2.1 (B.2.2.2.2 _ q416) (nc_32 hK) hv dX0_sortOf_19 ?_
    refine lv_if_eq (tgt := 27) hx hb dX0_sortOf_22 (by decide) (fun _ => ?_) (fun h => absurd rfl h)
    refine lv_aload_n hx hb dX0_sortOf_27 rfl (lv_at hl 0 rfl) ?_
    refine va_instE (nm := "[J") hx hb B.2.2.2.1 (B.2.2.2.2 _ q417) hv dX0_sortOf_28 ?_
    refine lv_if_eq (tgt := 38) hx hb dX0_sortOf_31 (by decide) (fun h => absurd h (by decide)) (fun _ => ?_)
    refine lv_iconst (v := 3) hx hb dX0_sortOf_34 (by decide) ?_
    refine lv_goto (tgt := 39) hx hb dX0_sortOf_35 (by decide) ?_
    exact w_iretR B hr hlk rfl dX0_sortOf_39
  | 4, hv =>
    refine lv_aload_n hx hb dX0_sortOf_0 rfl (lv_at hl 0 rfl) ?_
    refine va_instNo (C := "[Z") (nm := "[B") hx hb B.2.2.2.1 (B.2.2.2.2 _ q414) (nc_40 hK) hv dX0_sortOf_1 ?_
    refine lv_if_eq (tgt := 9) hx hb dX0_sortOf_4 (by decide) (fun _ => ?_) (fun h => absurd rfl h)
    refine lv_aload_n hx hb dX0_sortOf_9 rfl (lv_at hl 0 rfl) ?_
    refine va_instNo (C := "[Z") (nm := "[S") hx hb B.2.2.2.1 (B.2.2.2.2 _ q415) (nc_41 hK) hv dX0_sortOf_10 ?_
    refine lv_if_eq (tgt := 18) hx hb dX0_sortOf_13 (by decide) (fun _ => ?_) (fun h => absurd rfl h)
    refine lv_aload_n hx hb dX0_sortOf_18 rfl (lv_at hl 0 rfl) ?_
    refine va_instNo (C := "[Z") (nm := "[I") hx hb B.2.2.2.1 (B.2.2.2.2 _ q416) (nc_42 hK) hv dX0_sortOf_19 ?_
    refine lv_if_eq (tgt := 27) hx hb dX0_sortOf_22 (by decide) (fun _ => ?_) (fun h => absurd rfl h)
    refine lv_aload_n hx hb dX0_sortOf_27 rfl (lv_at hl 0 rfl) ?_
    refine va_instNo (C := "[Z") (nm := "[J") hx hb B.2.2.2.1 (B.2.2.2.2 _ q417) (nc_43 hK) hv dX0_sortOf_28 ?_
    refine lv_if_eq (tgt := 38) hx hb dX0_sortOf_31 (by decide) (fun _ => ?_) (fun h => absurd rfl h)
    refine lv_iconst (v := 4) hx hb dX0_sortOf_38 (by decide) ?_
    exact w_iretR B hr hlk rfl dX0_sortOf_39
section WL
variable {p : Program} {l : Launch} {e : Env} {R : Room} {s : State} {m : MethodId} {args : Array Value} {below : List Frame} {meth : Method} {c : Code} {H : Heap} {locs : List Loc} {cells slots : Nat} {Q : State → Prop} {cc : ByteArray} {nL pc : Nat} {ls : Array Slot} {st st0 : List Value} {own : String} {X : CX} {ws rest : va_W}
section RUN5
variable {y : MethodName} {code : ByteArray} {nl : Nat} {ret : Option FieldType} {fr lo : Nat} {As : List Value} {index n : Nat}
theorem w_rS_RO (B : CallFix p m c cc nL s args lw_all own) (hK : KK X s) (hS : va_S (Az X) s.heap H locs) (hP : va_P X.2.2.1 vwCl ws H) {v : Option Value} (hM : RO l y code nl ret fr lo As X ws v) (hT : GoodIn lw_all (va_wsS own index y (ws_ y code nl ret)))
    (hd : y.cls ≠ "java/lang/invoke/MethodHandle" ∧ y.cls ≠ "java/lang/invoke/VarHandle" ∧ (parseMethodDescriptor y.desc).map (fun d => d.parameters.length) = some n) (hR : fr + 1 ≤ R.frames ∧ 8 + (nl + 11) + lo ≤ R.locals) (hcs : cells ≤ R.cells ∧ slots ≤ R.slots) (hn : As.length = n) (hsz : ls.size = nL) (hst : st0 = As.reverse ++ st) (hcat : (st.map fun v => v.category).sum ≤ 8)
    (hdg : decode cc pc = .ok (.invokestatic index, 3)) : va_Run p l e R s m args below meth c H locs cells slots 0 0 (F0 m pc ls st0) st (QR v As.toArray) NoF :=
  va_runS B hM (va_cwS n B.2.2.2.2 hT rfl rfl rfl hd hR) ⟨fun _ _ _ _ q => q, fun U hU hW => ⟨rfl, hK.step hS hU hW, by rw [hU]; exact hP⟩⟩ rfl hn hsz hst (lv_room hcat) hdg hcs
end RUN5
theorem w_sortOf (B : CallFix p m c cc nL s args lw_all RX0) (hK : KK X s) (hS : va_S (Az X) s.heap H locs) (hP : va_P X.2.2.1 vwCl ws H) {r : RV} (hm : rowC X r ∈ ws) {v : Int32} (hf : some (nI r.2.1.val) = some v) (hR : 0 + 1 ≤ R.frames ∧ 8 + (1 + 11) + 0 ≤ R.locals) (hcs : cells ≤ R.cells ∧ slots ≤ R.slots) (hl : ls.size = nL) (hcat : (st.map fun v => v.category).sum ≤ 8)
    (hdg : decode cc pc = .ok (.invokestatic 81, 3)) (kk : W p l e R s m args below meth c H locs cells slots Q (F0 m (pc + 3) ls (.int v :: st))) : W p l e R s m args below meth c H locs cells slots Q (F0 m pc ls (.ref r.1 :: st)) := by
  cases hf
  exact w_afterR (w_rS_RO (As := [.ref r.1]) B hK hS hP (w_sortOf0 l X r ws hm) (lw_S q411 q412 q87 q413) (n := 1) (by decide +kernel) hR hcs rfl hl rfl hcat hdg) kk
end WL
