set_option maxRecDepth 100000
section WF
variable {p : Program} {l : Launch} {e : Env} {R : Room} {s : State} {m : MethodId} {args : Array Value} {below : List Frame} {meth : Method} {c : Code} {H : Heap} {locs : List Loc} {cells slots : Nat} {Q : State → Prop} {cc : ByteArray} {nL pc : Nat} {ls : Array Slot} {st st0 : List Value} {own : String} {X : CX} {ws ws' rest : va_W}
section RUN2
variable {y : MethodName} {code : ByteArray} {nl : Nat} {ret : Option FieldType} {fr mc ms lo : Nat} {As : List Value} {index n : Nat}
theorem w_rS_RW (B : CallFix p m c cc nL s args lw_all own) (hK : KK X s) (hG : GG X ws s.heap H locs) {v : Option Value} (hM : RW l y code nl ret fr mc ms lo As X ws ws' v) (hT : GoodIn lw_all (va_wsS own index y (ws_ y code nl ret)))
    (hd : y.cls ≠ "java/lang/invoke/MethodHandle" ∧ y.cls ≠ "java/lang/invoke/VarHandle" ∧ (parseMethodDescriptor y.desc).map (fun d => d.parameters.length) = some n) (hR : fr + 1 ≤ R.frames ∧ 8 + (nl + 11) + lo ≤ R.locals) (hcs : cells + mc ≤ R.cells ∧ slots + ms ≤ R.slots) (hn : As.length = n) (hsz : ls.size = nL) (hst : st0 = As.reverse ++ st) (hcat : (st.map fun v => v.category).sum ≤ 8)
    (hdg : decode cc pc = .ok (.invokestatic index, 3)) : va_Run p l e R s m args below meth c H locs cells slots mc ms (F0 m pc ls st0) st (QW X ws' v As.toArray) (Az X) :=
  va_runS B hM (va_cwS n B.2.2.2.2 hT rfl rfl rfl hd hR) ⟨fun _ _ _ _ q => q, fun U hU hW => ⟨rfl, hK.step hG.2.2 hU hW, by rw [hU]; exact hG.1, hG.2.1⟩⟩ rfl hn hsz hst (lv_room hcat) hdg hcs
end RUN2
set_option maxHeartbeats 4000000 in
/-- Arrays.fill of a fen's steps -/
theorem tA_fill (l : Launch) (X : CX) (fa : Nat → Nat) (rest : va_W) (f : FW) (v : Int32) : RW l yJ15_fill cJ15_fill 4 none 0 0 0 0 [.ref (fa 6), .int v] X (FP X fa f ++ rest) (FP X fa (fau f 5 (fun j => if j < 70 then v else f.2.1 5 j)) ++ rest) none := by
  refine RW.mk (by decide) (Nat.le_of_ble_eq_true rfl) ?_
  intro p e s m below meth c B hr hlk hK hG ls hl
  have hl : lv_has ls 4 [(0, .ref (fa 6)), (1, .int v)] := hl
  have hx := B.1
  have hb := B.2.1
  refine lv_iconst (v := 0) hx hb dJ15_fill_0 (by decide) ?_
  refine lv_istore_n (lv' := [(2, .int 0), (0, .ref (fa 6)), (1, .int v)]) hx hb dJ15_fill_1 rfl hl (by decide) rfl (fun ls hl => ?_)
  refine lv_aload_n hx hb dJ15_fill_2 rfl (lv_at hl 1 rfl) ?_
  refine va_alen (v := 70) hx hb hK.k hG.1 5 0 rfl rfl rfl dJ15_fill_3 ?_
  refine lv_istore_n (lv' := [(3, .int 70), (2, .int 0), (0, .ref (fa 6)), (1, .int v)]) hx hb dJ15_fill_4 rfl hl (by decide) rfl (fun ls hl => ?_)
  have key : ∀ (n i : Nat) (g : Nat → Int32), i + n = 70 → (∀ j, g j = if j < i then v else f.2.1 5 j) → ∀ (H : Heap) (locs : List Loc) (ls : Array Slot), GG X (FP X fa (fau f 5 g) ++ rest) s.heap H locs → lv_has ls 4 [(3, .int 70), (2, .int (nI i)), (0, .ref (fa 6)), (1, .int v)] →
      W p l e (RMw 0 0 0 0) s m ([.ref (fa 6), .int v] : List Value).toArray below meth c H locs 0 0 (MQ below (QW X (FP X fa (fau f 5 (fun j => if j < 70 then v else f.2.1 5 j)) ++ rest) none) ([.ref (fa 6), .int v] : List Value).toArray s 0 0 (Az X)) (F0 m 5 ls []) := by
    intro n
    induction n with
    | zero =>
      intro i g hi hg H locs ls hG hl
      have hi : i = 70 := by omega
      subst hi
      have hg' : g = fun j => if j < 70 then v else f.2.1 5 j := funext hg
      subst hg'
      refine lv_iload_n hx hb dJ15_fill_5 rfl (lv_at hl 1 rfl) ?_
      refine lv_iload_n hx hb dJ15_fill_6 rfl (lv_at hl 0 rfl) ?_
      refine lv_icmp_ge (tgt := 20) hx hb dJ15_fill_7 (by decide) (fun c1 => ?_) (fun c1 => ?_)
      · exact w_vretW B hr hlk hG dJ15_fill_20
      · exact absurd (by decide) c1
    | succ n ih =>
      intro i g hi hg H locs ls hG hl
      refine lv_iload_n hx hb dJ15_fill_5 rfl (lv_at hl 1 rfl) ?_
      refine lv_iload_n hx hb dJ15_fill_6 rfl (lv_at hl 0 rfl) ?_
      refine lv_icmp_ge (tgt := 20) hx hb dJ15_fill_7 (by decide) (fun c1 => ?_) (fun c1 => ?_)
      · exact absurd c1 (nI_ge (a := i) (b := 70) (by omega) (by decide))
      refine lv_aload_n hx hb dJ15_fill_10 rfl (lv_at hl 2 rfl) ?_
      refine lv_iload_n hx hb dJ15_fill_11 rfl (lv_at hl 1 rfl) ?_
      refine lv_iload_n hx hb dJ15_fill_12 rfl (lv_at hl 3 rfl) ?_
      refine va_iast hx hb hK.k hG.1 hG.2.1 hG.2.2 5 0 rfl rfl (vp_in_nI (by omega) (by decide)) dJ15_fill_13 (fun H l1 g1 g2 g3 => ?_)
      have hG : GG X (FP X fa (fau f 5 (upd g (nI i).toNatClampNeg v)) ++ rest) s.heap H l1 := ⟨g1, g2, g3⟩
      rw [nI_clamp (by omega)] at hG
      refine lv_iinc (k := 1) (v := nI (i + 1)) (lv' := [(2, .int (nI (i + 1))), (3, .int 70), (0, .ref (fa 6)), (1, .int v)]) hx hb dJ15_fill_14 hl rfl (nI_1 i) (by decide) rfl (fun ls hl => ?_)
      refine lv_goto (tgt := 5) hx hb dJ15_fill_17 (by decide) ?_
      refine ih (i + 1) _ (by omega) (fun j => ?_) _ _ _ hG (lv_sub hl [1, 0, 2, 3] rfl)
      unfold upd
      rw [hg j]
      by_cases h1 : j = i
      · subst h1; simp
      · rw [if_neg h1]
        by_cases h2 : j < i
        · rw [if_pos h2, if_pos (by omega)]
        · rw [if_neg h2, if_neg (by omega)]
  refine key 70 0 (f.2.1 5) rfl (fun j => by simp) _ _ _ ?_ hl
  have e : fau f 5 (f.2.1 5) = f := by
    unfold fau
    refine Prod.ext rfl (Prod.ext (funext fun k => ?_) rfl)
    show va_up f.2.1 5 (f.2.1 5) k = f.2.1 k
    unfold va_up
    by_cases h : k = 5
    · subst h; simp
    · simp [h]
  rw [e]
  exact hG
theorem fe_fill {fa : Nat → Nat} (B : CallFix p m c cc nL s args lw_all RX1) (hK : KK X s) {w w' : FW} (hG : GG X (FP X fa w ++ rest) s.heap H locs) {v : Int32} (hw : some (fau w 5 (fun j => if j < 70 then v else w.2.1 5 j)) = some w') (hR : 0 + 1 ≤ R.frames ∧ 8 + (4 + 11) + 0 ≤ R.locals) (hcs : cells ≤ R.cells ∧ slots ≤ R.slots) (hl : ls.size = nL) (hcat : (st.map fun v => v.category).sum ≤ 8)
    (hdg : decode cc pc = .ok (.invokestatic 104, 3)) (kk : ∀ (H1 : Heap) (locs1 : List Loc), GG X (FP X fa w' ++ rest) s.heap H1 locs1 → W p l e R s m args below meth c H1 locs1 cells slots Q (F0 m (pc + 3) ls st)) : W p l e R s m args below meth c H locs cells slots Q (F0 m pc ls (.int v :: .ref (fa 6) :: st)) := by
  cases hw
  exact w_afterWv (w_rS_RW (As := [.ref (fa 6), .int v]) B hK hG (tA_fill l X fa rest w v) (lw_S q1104 q1105 q116 q1106) (n := 2) (by decide +kernel) hR hcs rfl hl rfl hcat hdg) hG.2.2 kk
end WF
