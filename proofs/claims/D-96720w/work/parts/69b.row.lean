set_option maxRecDepth 100000
section ROWM
variable {p : Program} {l : Launch} {e : Env} {R : Room} {s : State} {m : MethodId} {args : Array Value} {below : List Frame} {meth : Method} {c : Code} {H : Heap} {locs : List Loc} {cells slots : Nat} {Q : State → Prop} {cc : ByteArray} {nL pc : Nat} {ls : Array Slot} {st : List Value} {X : CX} {rest : va_W} {ca fa : Nat → Nat}
noncomputable def fC_row_J22 (w : CW) : Option (Int32 × (Nat → CW)) := b2 (fC_no w (-2)) fun r w1 => some (r, fun _ => w1)
noncomputable def fC_row (w : CW) (x1 x2 x3 : Int32) : Option (Int32 × (Nat → CW)) :=
  (fC_isShelf x1).bind fun a => if a = 0 then fC_row_J22 w else
  if x2 < 0 then fC_row_J22 w else
  if 4 < x2 then fC_row_J22 w else
  if x3 ≤ 40 then ((inb 8 x1).bind fun _ => if x3 < 0 then fC_row_J22 w else some (1, fun q => chs w x1.toNatClampNeg (some (.inr (row0 q (fRk x2) x3.toNatClampNeg))))) else fC_row_J22 w
set_option maxHeartbeats 4000000 in
theorem wC_row_J22 (B : CallFix p m c cX0_row 5 s args lw_all RX0) (hK : KK X s) {w : CW} {res : Int32 × (Nat → CW)} (hf : fC_row_J22 w = some res) (hr : meth.sig.returnType = some .int) (hlk : meth.locks = false) {H : Heap} {locs : List Loc} (hG : GG X (CP X ca fa w ++ rest) s.heap H locs) {ls : Array Slot} (hl : lv_has ls 5 [(0, .ref (ca 0))]) {cells slots : Nat} (hcs : cells ≤ 3 ∧ slots ≤ 54) (n1 : 0 < 1) : W p l e (RMw 8 3 54 10261) s m args below meth c H locs cells slots (MQ below (QX X (fun v (_ : Nat) => v = some (.int res.1)) (fun u => CP X ca fa (res.2 u) ++ rest)) args s 3 54 (Az X)) (F0 m 22 ls []) ∧ W p l e (RMw 8 3 54 10261) s m args below meth c H locs cells slots (MQ below (QX X (fun v (_ : Nat) => v = some (.int res.1)) (fun u => CP X ca fa (res.2 u) ++ rest)) args s 3 54 (Az X)) (F0 m 48 ls []) := by
  have hx := B.1
  have hb := B.2.1
  unfold fC_row_J22 at hf
  obtain ⟨r, w1, e1, hf⟩ := b2s hf
  cases Option.some.inj hf
  constructor
  · refine lv_aload_n hx hb dX0_row_22 rfl (lv_at hl 0 rfl) ?_
    refine lv_bipush (v := (-2)) hx hb dX0_row_23 (by decide) ?_
    refine cC_no B hK hG e1 rfl ⟨Nat.le_of_ble_eq_true rfl, Nat.le_of_ble_eq_true rfl⟩ hcs hl.1 (Nat.le_of_ble_eq_true rfl) dX0_row_25 (fun H locs hG => ?_)
    refine W.widen (k := 3) (n := 54) hcs.1 hcs.2 ?_
    exact w_iretX B hr hlk 0 rfl hG dX0_row_28
  · refine lv_aload_n hx hb dX0_row_48 rfl (lv_at hl 0 rfl) ?_
    refine lv_bipush (v := (-2)) hx hb dX0_row_49 (by decide) ?_
    refine cC_no B hK hG e1 rfl ⟨Nat.le_of_ble_eq_true rfl, Nat.le_of_ble_eq_true rfl⟩ hcs hl.1 (Nat.le_of_ble_eq_true rfl) dX0_row_51 (fun H locs hG => ?_)
    refine W.widen (k := 3) (n := 54) hcs.1 hcs.2 ?_
    exact w_iretX B hr hlk 0 rfl hG dX0_row_54
set_option maxHeartbeats 4000000 in
theorem tC_row (l : Launch) (hlt : l.stackTraces = false) (X : CX) (ca fa : Nat → Nat) (rest : va_W) (w : CW) (x1 x2 x3 : Int32) (r : Int32) (g : Nat → CW) (hf : fC_row w x1 x2 x3 = some (r, g)) : HX l yX0_row cX0_row 5 (some .int) [(29, 43, 46, 102)] 8 3 54 10261 [.ref (ca 0), .int x1, .int x2, .int x3] X (CP X ca fa w ++ rest) (fun v (_ : Nat) => v = some (.int r)) (fun q => CP X ca fa (g q) ++ rest) := by
  refine HX.mk (by decide) (Nat.le_of_ble_eq_true rfl) ?_
  intro p e s m below meth c B hr hlk htab hK hG ls hl
  have hx := B.1
  have hb := B.2.1
  have hl : lv_has ls 5 [(0, .ref (ca 0)), (1, .int x1), (2, .int x2), (3, .int x3)] := hl
  unfold fC_row at hf
  refine lv_iload_n hx hb dX0_row_0 rfl (lv_at hl 1 rfl) ?_
  obtain ⟨a, e_1, hf⟩ := bo hf
  refine cC_isShelf B e_1 ⟨Nat.le_of_ble_eq_true rfl, Nat.le_of_ble_eq_true rfl⟩ ⟨Nat.zero_le _, Nat.zero_le _⟩ hl.1 (Nat.le_of_ble_eq_true rfl) dX0_row_1 ?_
  have no : fC_row_J22 w = some (r, g) → W p l e (RMw 8 3 54 10261) s m [Value.ref (ca 0), Value.int x1, Value.int x2, Value.int x3].toArray below meth c s.heap [] 0 0 (MQ below (QX X (fun v (_ : Nat) => v = some (.int r)) (fun q => CP X ca fa (g q) ++ rest)) [Value.ref (ca 0), Value.int x1, Value.int x2, Value.int x3].toArray s 3 54 (Az X)) (F0 m 22 ls []) := fun h => (wC_row_J22 B hK h hr hlk hG (lv_sub hl [0] rfl) ⟨Nat.zero_le _, Nat.zero_le _⟩ (by decide)).1
  refine lv_if_eq (tgt := 22) hx hb dX0_row_4 (by decide) (fun c_1 => ?_) (fun c_1 => ?_)
  · exact no (ifp c_1 hf)
  · have hf := ifn c_1 hf
    refine lv_iload_n hx hb dX0_row_7 rfl (lv_at hl 2 rfl) ?_
    refine lv_if_lt (tgt := 22) hx hb dX0_row_8 (by decide) (fun c_2 => ?_) (fun c_2 => ?_)
    · exact no (ifp c_2 hf)
    · have hf := ifn c_2 hf
      refine lv_iload_n hx hb dX0_row_11 rfl (lv_at hl 2 rfl) ?_
      refine lv_iconst (v := 4) hx hb dX0_row_12 (by decide) ?_
      refine lv_icmp_gt (tgt := 22) hx hb dX0_row_13 (by decide) (fun c_3 => ?_) (fun c_3 => ?_)
      · exact no (ifp c_3 hf)
      · have hf := ifn c_3 hf
        refine lv_iload_n hx hb dX0_row_16 rfl (lv_at hl 3 rfl) ?_
        refine lv_bipush (v := 40) hx hb dX0_row_17 (by decide) ?_
        refine lv_icmp_le (tgt := 29) hx hb dX0_row_19 (by decide) (fun c_4 => ?_) (fun c_4 => ?_)
        · have hf := ifp c_4 hf
          refine lv_aload_n hx hb dX0_row_29 rfl (lv_at hl 0 rfl) ?_
          refine co_this_g4 B hK hG.1 dX0_row_30 ?_
          refine lv_iload_n hx hb dX0_row_33 rfl (lv_at hl 1 rfl) ?_
          obtain ⟨u, e_2, hf⟩ := bo hf
          refine co_sh_l B hK hG.1 e_2 dX0_row_34 ?_
          refine lv_iload_n hx hb dX0_row_35 rfl (lv_at hl 2 rfl) ?_
          refine lv_iload_n hx hb dX0_row_36 rfl (lv_at hl 3 rfl) ?_
          by_cases hneg : x3 < 0
          · have hf := ifp hneg hf
            refine w_afterT (w_rS_TX (As := [.int x2, .int x3]) B hK hG (tC_rowOf_x l hlt X (CP X ca fa w ++ rest) x2 x3 hneg) (lw_S q348 q349 q87 q350) (n := 2) (by decide +kernel) ⟨Nat.le_of_ble_eq_true rfl, Nat.le_of_ble_eq_true rfl⟩ ⟨Nat.le_of_ble_eq_true rfl, Nat.le_of_ble_eq_true rfl⟩ rfl hl.1 rfl (Nat.le_of_ble_eq_true rfl) dX0_row_37) hG.2.2 (fun x u2 H1 locs1 hp hG1 => ?_)
            refine w_catch1 B hK htab (by decide) (by decide) q250 (hp.at1 hK) q315 q251 ?_
            refine lv_astore hx hb dX0_row_46 hl (by decide) rfl (fun ls2 hl2 => ?_)
            exact (wC_row_J22 B hK hf hr hlk hG1 (lv_sub hl2 [1] rfl) ⟨Nat.le_of_ble_eq_true rfl, Nat.le_of_ble_eq_true rfl⟩ (by decide)).2
          · have hf := ifn hneg hf
            cases Option.some.inj hf
            have h40 : x3.toNatClampNeg ≤ 40 := by
              have h1 := Int32.le_iff_toInt_le.mp c_4
              have h2 : (40 : Int32).toInt = 40 := rfl
              unfold Int32.toNatClampNeg
              omega
            refine w_afterX (w_rS_RX (As := [.int x2, .int x3]) B hK hG (tC_rowOf l X (CP X ca fa w ++ rest) x2 x3 _ hneg rfl h40) (lw_S q348 q349 q87 q350) (n := 2) (by decide +kernel) ⟨Nat.le_of_ble_eq_true rfl, Nat.le_of_ble_eq_true rfl⟩ ⟨Nat.le_of_ble_eq_true rfl, Nat.le_of_ble_eq_true rfl⟩ rfl hl.1 rfl (Nat.le_of_ble_eq_true rfl) dX0_row_37) hG.2.2 (fun v q H1 locs1 hv hG1 => ?_)
            obtain rfl := hv
            have hG2 := GG.mid (cs := [rowC X (row0 q (fRk x2) x3.toNatClampNeg)]) (w1 := CP X ca fa w) (rest := rest) hG1
            refine co_hputR B hK hG2 e_2 dX0_row_40 (fun H2 locs2 hG3 => ?_)
            refine lv_goto (tgt := 55) hx hb dX0_row_43 (by decide) ?_
            refine lv_iconst (v := 1) hx hb dX0_row_55 (by decide) ?_
            refine W.widen (k := 3) (n := 54) (Nat.le_of_ble_eq_true rfl) (Nat.le_of_ble_eq_true rfl) ?_
            exact w_iretX B hr hlk q rfl hG3 dX0_row_56
        · exact no (ifn c_4 hf)
end ROWM
