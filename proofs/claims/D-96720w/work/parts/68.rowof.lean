set_option maxRecDepth 100000
/-! rows of shelves: made, or refused by the machine -/
theorem nas_text (n : Int32) : (stringBytes (stringToUtf16 (toString n))).size ≤ 44 := by
  have b1 := stringBytes_size_le (stringToUtf16 (toString n))
  have b2 := utf16_size_le (toString n)
  have b3 := int32_print n
  omega
theorem nas_mod (n : Int32) : ((toString n) == notModelled) = false := by
  rw [beq_eq_false_iff_ne]
  intro h
  have h2 : (toString n).toList.length = notModelled.toList.length := by rw [h]
  have h3 := int32_print n
  have h4 : 11 < notModelled.toList.length := by decide
  omega
section RO1
variable {p : Program} {l : Launch} {e : Env} {R : Room} {s : State} {m : MethodId} {args : Array Value} {below : List Frame} {meth : Method} {c : Code} {H : Heap} {locs : List Loc} {cells slots : Nat} {Q : State → Prop} {cc : ByteArray} {nL pc : Nat} {ls : Array Slot} {st : List Value} {own : String} {X : CX} {ws : va_W}
/-- a row of fewer than none -/
theorem w_neg (B : CallFix p m c cc nL s args lw_all own) (hK : KK X s) (hG : GG X ws s.heap H locs) (hl : l.stackTraces = false) (hls : ls.size = nL) {n : Int32} (hn : n < 0) {atype : ArrayType} (hdg : decode cc pc = .ok (.newarray atype, 2))
    (hfr : 6 < R.frames) (hlo : (st.map fun v => v.category).sum + 10240 ≤ R.locals) (hc : cells + 3 ≤ R.cells) (hs : slots + 54 ≤ R.slots)
    (kk : ∀ (x : Nat) (H1 : Heap) (locs1 : List Loc), GG X ws s.heap H1 locs1 → H.size ≤ x → ExC s "java/lang/NegativeArraySizeException" x H1 → WX p l e R s m args below meth c H1 locs1 (cells + 3) (slots + 54) Q x (F0 m pc ls st)) : W p l e R s m args below meth c H locs cells slots Q (F0 m pc ls (.int n :: st)) :=
  w_vm (N := 44) B hK hG hl hls (arm_NAS B hK) (by decide) (by decide) (by decide) (by decide) (nas_mod n) (nas_text n) (by decide) hfr hlo (by decide) hc hs
    (fun T hT X0 => X0.newarrayNegative B.1 (g := F0 m pc ls (.int n :: st)) rfl hn rfl (by rw [B.2.1]; exact hdg)) kk
end RO1
theorem tC_rowOf_x (l : Launch) (hlt : l.stackTraces = false) (X : CX) (ws : va_W) (x0 x1 : Int32) (hn : x1 < 0) : TX l yX0_rowOf cX0_rowOf 2 (some (.object "java/lang/Object")) 7 3 54 10240 [.int x0, .int x1] X ws (fun x H (_ : Unit) => ExC X.1 "java/lang/NegativeArraySizeException" x H) (fun _ => ws) := by
  refine TX.mk (by decide) (Nat.le_of_ble_eq_true rfl) ?_
  intro p e s m below meth c B hlk htab hK hG ls hl
  have hx := B.1
  have hb := B.2.1
  have hl : lv_has ls 2 [(0, .int x0), (1, .int x1)] := hl
  have fin : ∀ (pc : Nat) (atype : ArrayType), decode cX0_rowOf pc = .ok (.newarray atype, 2) → W p l e (RMw 7 3 54 10240) s m [Value.int x0, Value.int x1].toArray below meth c s.heap [] 0 0 (MQT below (QT X (fun x H (_ : Unit) => ExC X.1 "java/lang/NegativeArraySizeException" x H) (fun _ => ws)) [Value.int x0, Value.int x1].toArray s 3 54 (Az X)) (F0 m pc ls [.int x1]) := by
    intro pc atype hdg
    exact w_neg B hK hG hlt hl.1 hn hdg (by decide) (by decide) (by decide) (by decide) (fun x H1 locs1 hG1 _ hE => w_leaveT () (hE.at0 hK) hG1 htab hlk)
  refine lv_iload_n hx hb dX0_rowOf_0 rfl (lv_at hl 0 rfl) ?_
  by_cases c_0 : x0 = 0
  · refine w_tab (tgt := 32) 0 c_0 hx hb dX0_rowOf_1 (by decide) (by decide) rfl (by decide) ?_
    exact lv_iload_n hx hb dX0_rowOf_32 rfl (lv_at hl 1 rfl) (fin _ _ dX0_rowOf_33)
  · by_cases c_1 : x0 = 1
    · refine w_tab (tgt := 36) 1 c_1 hx hb dX0_rowOf_1 (by decide) (by decide) rfl (by decide) ?_
      exact lv_iload_n hx hb dX0_rowOf_36 rfl (lv_at hl 1 rfl) (fin _ _ dX0_rowOf_37)
    · by_cases c_2 : x0 = 2
      · refine w_tab (tgt := 40) 2 c_2 hx hb dX0_rowOf_1 (by decide) (by decide) rfl (by decide) ?_
        exact lv_iload_n hx hb dX0_rowOf_40 rfl (lv_at hl 1 rfl) (fin _ _ dX0_rowOf_41)
      · by_cases c_3 : x0 = 3
        · refine w_tab (tgt := 44) 3 c_3 hx hb dX0_rowOf_1 (by decide) (by decide) rfl (by decide) ?_
          exact lv_iload_n hx hb dX0_rowOf_44 rfl (lv_at hl 1 rfl) (fin _ _ dX0_rowOf_45)
        · refine lv_tableOut (tgt := 48) hx hb dX0_rowOf_1 (by have := lv_neT c_0 (a := 0) rfl; have := lv_neT c_1 (a := 1) rfl; have := lv_neT c_2 (a := 2) rfl; have := lv_neT c_3 (a := 3) rfl; omega) (by decide) ?_
          exact lv_iload_n hx hb dX0_rowOf_48 rfl (lv_at hl 1 rfl) (fin _ _ dX0_rowOf_49)
/-- the sort of a row by its number -/
def fRk (x : Int32) : Fin 5 := if x = 0 then 0 else if x = 1 then 1 else if x = 2 then 2 else if x = 3 then 3 else 4
def row0 (q : Nat) (k : Fin 5) (N : Nat) : RV := (q, k, N, fun _ => 0, fun _ => 0)
theorem tC_rowOf (l : Launch) (X : CX) (rest : va_W) (x0 x1 : Int32) (N : Nat) (hn : ¬ x1 < 0) (hN : x1.toNatClampNeg = N) (h40 : N ≤ 40) : RX l yX0_rowOf cX0_rowOf 2 (some (.object "java/lang/Object")) 0 1 40 0 [.int x0, .int x1] X rest (fun v (u : Nat) => v = some (.ref u)) (fun u => rowC X (row0 u (fRk x0) N) :: rest) := by
  refine RX.mk (by decide) (Nat.le_of_ble_eq_true rfl) ?_
  intro p e s m below meth c B hr hlk hin hK hG ls hl
  have hx := B.1
  have hb := B.2.1
  have hl : lv_has ls 2 [(0, .int x0), (1, .int x1)] := hl
  have hG := GG.nil hG
  have b1 : N * 8 ≤ 536870912 := by omega
  refine lv_iload_n hx hb dX0_rowOf_0 rfl (lv_at hl 0 rfl) ?_
  by_cases c_0 : x0 = 0
  · refine w_tab (tgt := 32) 0 c_0 hx hb dX0_rowOf_1 (by decide) (by decide) rfl (by decide) ?_
    have hk : fRk x0 = 0 := by subst c_0; rfl
    refine lv_iload_n hx hb dX0_rowOf_32 rfl (lv_at hl 1 rfl) ?_
    refine w_newa (w1 := []) (rest := rest) B hK hG (ty := .byte) rfl q333 3 rfl (fun _ h => by cases h) (N := N) (a0 := (N, .inl (fun _ => 0))) (fun _ => rfl) hn hN (by simp only [componentBytes]; omega) (Nat.le_of_ble_eq_true rfl) (by show 0 + N ≤ 40; omega) dX0_rowOf_33 (fun q_1 H hG => ?_)
    refine W.widen (k := 1) (n := 40) (Nat.le_refl _) (by omega) ?_
    refine w_aretX B hr (Or.inl ⟨_, rfl⟩) hlk q_1 rfl ?_ dX0_rowOf_35
    rw [hk]
    exact hG
  · by_cases c_1 : x0 = 1
    · refine w_tab (tgt := 36) 1 c_1 hx hb dX0_rowOf_1 (by decide) (by decide) rfl (by decide) ?_
      have hk : fRk x0 = 1 := by subst c_1; rfl
      refine lv_iload_n hx hb dX0_rowOf_36 rfl (lv_at hl 1 rfl) ?_
      refine w_newa (w1 := []) (rest := rest) B hK hG (ty := .short) rfl q351 4 rfl (fun _ h => by cases h) (N := N) (a0 := (N, .inl (fun _ => 0))) (fun _ => rfl) hn hN (by simp only [componentBytes]; omega) (Nat.le_of_ble_eq_true rfl) (by show 0 + N ≤ 40; omega) dX0_rowOf_37 (fun q_1 H hG => ?_)
      refine W.widen (k := 1) (n := 40) (Nat.le_refl _) (by omega) ?_
      refine w_aretX B hr (Or.inl ⟨_, rfl⟩) hlk q_1 rfl ?_ dX0_rowOf_39
      rw [hk]
      exact hG
    · by_cases c_2 : x0 = 2
      · refine w_tab (tgt := 40) 2 c_2 hx hb dX0_rowOf_1 (by decide) (by decide) rfl (by decide) ?_
        have hk : fRk x0 = 2 := by subst c_2; rfl
        refine lv_iload_n hx hb dX0_rowOf_40 rfl (lv_at hl 1 rfl) ?_
        refine w_newa (w1 := []) (rest := rest) B hK hG (ty := .int) rfl q159 0 rfl (fun _ h => by cases h) (N := N) (a0 := (N, .inl (fun _ => 0))) (fun _ => rfl) hn hN (by simp only [componentBytes]; omega) (Nat.le_of_ble_eq_true rfl) (by show 0 + N ≤ 40; omega) dX0_rowOf_41 (fun q_1 H hG => ?_)
        refine W.widen (k := 1) (n := 40) (Nat.le_refl _) (by omega) ?_
        refine w_aretX B hr (Or.inl ⟨_, rfl⟩) hlk q_1 rfl ?_ dX0_rowOf_43
        rw [hk]
        exact hG
      · by_cases c_3 : x0 = 3
        · refine w_tab (tgt := 44) 3 c_3 hx hb dX0_rowOf_1 (by decide) (by decide) rfl (by decide) ?_
          have hk : fRk x0 = 3 := by subst c_3; rfl
          refine lv_iload_n hx hb dX0_rowOf_44 rfl (lv_at hl 1 rfl) ?_
          refine w_newa (w1 := []) (rest := rest) B hK hG (ty := .long) rfl q220 1 rfl (fun _ h => by cases h) (N := N) (a0 := (N, .inr (.inl (fun _ => 0)))) (fun _ => rfl) hn hN (by simp only [componentBytes]; omega) (Nat.le_of_ble_eq_true rfl) (by show 0 + N ≤ 40; omega) dX0_rowOf_45 (fun q_1 H hG => ?_)
          refine W.widen (k := 1) (n := 40) (Nat.le_refl _) (by omega) ?_
          refine w_aretX B hr (Or.inl ⟨_, rfl⟩) hlk q_1 rfl ?_ dX0_rowOf_47
          rw [hk]
          exact hG
        · refine lv_tableOut (tgt := 48) hx hb dX0_rowOf_1 (by have := lv_neT c_0 (a := 0) rfl; have := lv_neT c_1 (a := 1) rfl; have := lv_neT c_2 (a := 2) rfl; have := lv_neT c_3 (a := 3) rfl; omega) (by decide) ?_
          have hk : fRk x0 = 4 := by simp [fRk, c_0, c_1, c_2, c_3]
          refine lv_iload_n hx hb dX0_rowOf_48 rfl (lv_at hl 1 rfl) ?_
          refine w_newa (w1 := []) (rest := rest) B hK hG (ty := .boolean) rfl q352 2 rfl (fun _ h => by cases h) (N := N) (a0 := (N, .inl (fun _ => 0))) (fun _ => rfl) hn hN (by simp only [componentBytes]; omega) (Nat.le_of_ble_eq_true rfl) (by show 0 + N ≤ 40; omega) dX0_rowOf_49 (fun q_1 H hG => ?_)
          refine W.widen (k := 1) (n := 40) (Nat.le_refl _) (by omega) ?_
          refine w_aretX B hr (Or.inl ⟨_, rfl⟩) hlk q_1 rfl ?_ dX0_rowOf_51
          rw [hk]
          exact hG
