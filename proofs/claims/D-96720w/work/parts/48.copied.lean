set_option maxRecDepth 100000
theorem anyP {X : CX} {s : State} {H : Heap} {ws : va_W} {P : PV} (hK : KK X s) (hP : va_P X.2.2.1 vwCl (PC P :: ws) H) : va_Any RX6 s H P.1 := by
  have cw : ∀ {C : String}, va_Nw (.castable C RX6) s → ∀ comp c0 : ClassId, s.vm.findClass RX6 = some comp → s.vm.findClass C = some c0 → s.vm.assignable c0 comp = true := by
    intro C hca comp c0 h1 h2
    obtain ⟨c1, t1, f1, f2, f3⟩ := Cond.castable_spec (va_Nw.use (A := #[]) rfl hca)
    cases h2.symm.trans f1
    cases h1.symm.trans f2
    exact f3
  obtain ⟨pa, pk, pn, px, pz⟩ := P
  match pk, hP with
  | 0, hP =>
    refine va_rAny (r := (RX6, TX6, 3)) hK.k hP (q0 := 0) rfl rfl (fun comp c0 h1 h2 => ?_)
    have hc := (hK.k.1 5 _ rfl).2
    cases hc.1.symm.trans h1
    cases h1.symm.trans h2
    exact va_assign hc
  | 1, hP => exact va_rAny (r := (RX7, TX7, 3)) hK.k hP (q0 := 0) rfl rfl (cw (hK.castW q1954))
  | 2, hP => exact va_rAny (r := (RX8, TX8, 3)) hK.k hP (q0 := 0) rfl rfl (cw (hK.castW q1955))
  | 3, hP => exact va_rAny (r := (RX9, TX9, 3)) hK.k hP (q0 := 0) rfl rfl (cw (hK.castW q1958))
  | 4, hP => exact va_rAny (r := (RX10, TX10, 3)) hK.k hP (q0 := 0) rfl rfl (cw (hK.castW q1956))
  | 5, hP => exact va_rAny (r := (RX11, TX11, 3)) hK.k hP (q0 := 0) rfl rfl (cw (hK.castW q1957))
/-! a copy of a fen -/
def fcp1 (f : FW) : FW := fau fw0 0 (va_cpy (f.2.1 0) (fw0.2.1 0) 0 0 7)
def fcp2 (f : FW) : FW := ((fcp1 f).1, (fcp1 f).2.1, va_cpy f.2.2 (fun _ => none) 0 0 8)
def fcp3 (f : FW) : FW := fau (fcp2 f) 2 (va_cpy (f.2.1 2) ((fcp2 f).2.1 2) 0 0 4)
def fcp4 (f : FW) : FW := fau (fcp3 f) 3 (va_cpy (f.2.1 3) ((fcp3 f).2.1 3) 0 0 4)
def fcopy (f : FW) : FW := fpt (fpt (fpt (fpt (fpt (fcp4 f) 6 (f.1 6)) 7 (f.1 7)) 8 (f.1 8)) 9 (f.1 9)) 10 (f.1 10)
set_option maxHeartbeats 4000000 in
/-- Fen.copied -/
theorem tF_copied (l : Launch) (X : CX) (fa : Nat → Nat) (rest : va_W) (f : FW) (hposts : ∀ i P, i < 8 → f.2.2 i = some P → PC P ∈ rest) : RX l yX1_copied cX1_copied 2 (some (.object "PointAtWhoIsLost$Fen")) 3 8 110 100 [.ref (fa 0)] X (FP X fa f ++ rest) (fun v (u : Nat → Nat) => v = some (.ref (u 0))) (fun u => FP X fa f ++ (FP X u (fcopy f) ++ rest)) := by
  refine RX.mk (by decide) (Nat.le_of_ble_eq_true rfl) ?_
  intro p e s m below meth c B hr hlk _ hK hG ls hl
  have hl : lv_has ls 2 [(0, .ref (fa 0))] := hl
  have hx := B.1
  have hb := B.2.1
  refine w_new (w1 := FP X fa f) (rest := rest) B hK hG in_X1 tyX1 tyX1_ok q716 q130 q88 (ci := 2) rfl (fs := [.null, .null, .null, .null, .null, .null, .int 0, .int 0, .int 0, .int 0, .int 0]) (fun j hj => by match j, hj with | 0, _ => rfl | 1, _ => rfl | 2, _ => rfl | 3, _ => rfl | 4, _ => rfl | 5, _ => rfl | 6, _ => rfl | 7, _ => rfl | 8, _ => rfl | 9, _ => rfl | 10, _ => rfl) (Nat.le_of_ble_eq_true rfl) (Nat.le_of_ble_eq_true rfl) dX1_copied_0 (fun q H hG => ?_)
  refine W.widen (k := 1) (n := 11) (Nat.le_of_ble_eq_true rfl) (Nat.le_of_ble_eq_true rfl) ?_
  refine lv_dup hx hb dX1_copied_3 rfl ?_
  have hG := GG.front hG
  refine w_afterX (w_rI_RX (b := q) (As := []) B hK hG (tI_X1 l X q (FP X fa f ++ rest)) q133 q88 q717 q132 rfl (n := 0) (by decide +kernel) ⟨Nat.le_of_ble_eq_true rfl, Nat.le_of_ble_eq_true rfl⟩ ⟨Nat.le_of_ble_eq_true rfl, Nat.le_of_ble_eq_true rfl⟩ rfl hl.1 rfl (Nat.le_of_ble_eq_true rfl) dX1_copied_4) hG.2.2 (fun v u H locs hv hG2 => ?_)
  obtain ⟨rfl, rfl⟩ := hv
  have hG := GG.mid hG2
  refine W.widen (k := 8) (n := 110) (Nat.le_of_ble_eq_true rfl) (Nat.le_of_ble_eq_true rfl) ?_
  refine W.eq (g2 := F0 m 7 ls [.ref (u 0)]) rfl ?_
  refine lv_astore_n (lv' := [(1, .ref (u 0)), (0, .ref (fa 0))]) hx hb dX1_copied_7 rfl hl (by decide) rfl (fun ls hl => ?_)
  refine lv_aload_n hx hb dX1_copied_8 rfl (lv_at hl 1 rfl) ?_
  refine fe_fen_g0 B hK hG.1 dX1_copied_9 ?_
  refine lv_iconst (v := 0) hx hb dX1_copied_12 (by decide) ?_
  refine lv_aload_n hx hb dX1_copied_13 rfl (lv_at hl 0 rfl) ?_
  refine w_get B hK hG.1 8 0 rfl rfl in_X1 (by decide) q160 rfl rfl dX1_copied_14 ?_
  refine lv_iconst (v := 0) hx hb dX1_copied_17 (by decide) ?_
  refine lv_bipush (v := 7) hx hb dX1_copied_18 (by decide) ?_
  refine va_copyi (ty := .int) hx hb (by rw [B.2.2.1, hl.1]) B.2.2.2.1 (B.2.2.2.2 _ q718) (B.2.2.2.2 _ q465) (B.2.2.2.2 _ q464) (B.2.2.2.2 _ q102) hK.k hG.1 hG.2.1 hG.2.2 1 9 0 0 rfl rfl rfl rfl rfl (by decide) (by decide) (by decide) (by decide) (by decide) (fun _ _ => rfl) (Nat.le_of_ble_eq_true rfl) (Nat.le_of_ble_eq_true rfl) dX1_copied_20 (fun H locs g1 g2 g3 => ?_)
  have hG : GG X (FP X fa f ++ (FP X u (fcp1 f) ++ rest)) s.heap H locs := ⟨g1, g2, g3⟩
  refine lv_aload_n hx hb dX1_copied_23 rfl (lv_at hl 1 rfl) ?_
  refine fe_fen_g1 B hK hG.1 dX1_copied_24 ?_
  refine lv_iconst (v := 0) hx hb dX1_copied_27 (by decide) ?_
  refine lv_aload_n hx hb dX1_copied_28 rfl (lv_at hl 0 rfl) ?_
  refine w_get B hK hG.1 8 1 rfl rfl in_X1 (by decide) q161 rfl rfl dX1_copied_29 ?_
  refine lv_iconst (v := 0) hx hb dX1_copied_32 (by decide) ?_
  refine lv_bipush (v := 8) hx hb dX1_copied_33 (by decide) ?_
  refine va_copyM (E0 := RX6) (E1 := RX6) hx hb (by rw [B.2.2.1, hl.1]) B.2.2.2.1 (B.2.2.2.2 _ q718) (B.2.2.2.2 _ q465) (B.2.2.2.2 _ q464) (B.2.2.2.2 _ q102) hK.k hG.1 hG.2.1 hG.2.2 7 15 5 5 rfl rfl rfl rfl (by decide) (by decide) (by decide) (by decide) (by decide) (fun i hi y hy => by
      have hi : i < 8 := hi
      have e0 : (0 : Int32).toNatClampNeg + i = i := Nat.zero_add i
      rw [e0] at hy
      cases hq : f.2.2 i with
      | none => rw [hq] at hy; cases hy
      | some P =>
        rw [hq] at hy
        cases hy
        exact anyP hK (ws := []) (va_P_of hG.1 (fun z hz => by
          rcases List.mem_cons.mp hz with e | e
          · rw [e]; exact List.mem_append_right _ (List.mem_append_right _ (hposts i P hi hq))
          · cases e))) (Nat.le_of_ble_eq_true rfl) (Nat.le_of_ble_eq_true rfl) dX1_copied_35 (fun H locs g1 g2 g3 => ?_)
  have hG := GG.arr (ws := (FP X fa f ++ (FP X u (fcp1 f) ++ rest)).set 15 _) ⟨g1, g2, g3⟩ 15 rfl (g := fun i => ((va_cpy f.2.2 (fun _ => none) 0 0 8) i).map (·.1)) (fun j hj => by
    have hj : j < 8 := hj
    have c1 : (0 : Int32).toNatClampNeg ≤ j ∧ j < (0 : Int32).toNatClampNeg + (8 : Int32).toNatClampNeg := ⟨Nat.zero_le _, by show j < 0 + 8; omega⟩
    have c2 : 0 ≤ j ∧ j < 0 + 8 := ⟨Nat.zero_le _, by omega⟩
    unfold va_cpy
    rw [if_pos c1, if_pos c2]
    rfl)
  have hG : GG X (FP X fa f ++ (FP X u (fcp2 f) ++ rest)) s.heap H locs := hG
  refine lv_aload_n hx hb dX1_copied_38 rfl (lv_at hl 1 rfl) ?_
  refine fe_fen_g2 B hK hG.1 dX1_copied_39 ?_
  refine lv_iconst (v := 0) hx hb dX1_copied_42 (by decide) ?_
  refine lv_aload_n hx hb dX1_copied_43 rfl (lv_at hl 0 rfl) ?_
  refine w_get B hK hG.1 8 2 rfl rfl in_X1 (by decide) q163 rfl rfl dX1_copied_44 ?_
  refine lv_iconst (v := 0) hx hb dX1_copied_47 (by decide) ?_
  refine lv_iconst (v := 4) hx hb dX1_copied_48 (by decide) ?_
  refine va_copyi (ty := .int) hx hb (by rw [B.2.2.1, hl.1]) B.2.2.2.1 (B.2.2.2.2 _ q718) (B.2.2.2.2 _ q465) (B.2.2.2.2 _ q464) (B.2.2.2.2 _ q102) hK.k hG.1 hG.2.1 hG.2.2 2 10 0 0 rfl rfl rfl rfl rfl (by decide) (by decide) (by decide) (by decide) (by decide) (fun _ _ => rfl) (Nat.le_of_ble_eq_true rfl) (Nat.le_of_ble_eq_true rfl) dX1_copied_49 (fun H locs g1 g2 g3 => ?_)
  have hG : GG X (FP X fa f ++ (FP X u (fcp3 f) ++ rest)) s.heap H locs := ⟨g1, g2, g3⟩
  refine lv_aload_n hx hb dX1_copied_52 rfl (lv_at hl 1 rfl) ?_
  refine fe_fen_g3 B hK hG.1 dX1_copied_53 ?_
  refine lv_iconst (v := 0) hx hb dX1_copied_56 (by decide) ?_
  refine lv_aload_n hx hb dX1_copied_57 rfl (lv_at hl 0 rfl) ?_
  refine w_get B hK hG.1 8 3 rfl rfl in_X1 (by decide) q165 rfl rfl dX1_copied_58 ?_
  refine lv_iconst (v := 0) hx hb dX1_copied_61 (by decide) ?_
  refine lv_iconst (v := 4) hx hb dX1_copied_62 (by decide) ?_
  refine va_copyi (ty := .int) hx hb (by rw [B.2.2.1, hl.1]) B.2.2.2.1 (B.2.2.2.2 _ q718) (B.2.2.2.2 _ q465) (B.2.2.2.2 _ q464) (B.2.2.2.2 _ q102) hK.k hG.1 hG.2.1 hG.2.2 3 11 0 0 rfl rfl rfl rfl rfl (by decide) (by decide) (by decide) (by decide) (by decide) (fun _ _ => rfl) (Nat.le_of_ble_eq_true rfl) (Nat.le_of_ble_eq_true rfl) dX1_copied_63 (fun H locs g1 g2 g3 => ?_)
  have hG : GG X (FP X fa f ++ (FP X u (fcp4 f) ++ rest)) s.heap H locs := ⟨g1, g2, g3⟩
  refine lv_aload_n hx hb dX1_copied_66 rfl (lv_at hl 0 rfl) ?_
  refine lv_aload_n hx hb dX1_copied_67 rfl (lv_at hl 1 rfl) ?_
  refine fe_fen_g6 B hK hG.1 dX1_copied_68 ?_
  refine w_put B hK hG 8 6 rfl rfl in_X1 tyX1 tyX1_ok nmX1 (by decide) q170 rfl rfl rfl rfl (Nat.le_of_ble_eq_true rfl) dX1_copied_71 (fun H locs hG => ?_)
  have hG : GG X (FP X fa f ++ (FP X u (fpt (fcp4 f) 6 (f.1 6)) ++ rest)) s.heap H locs := hG
  refine lv_aload_n hx hb dX1_copied_74 rfl (lv_at hl 0 rfl) ?_
  refine lv_aload_n hx hb dX1_copied_75 rfl (lv_at hl 1 rfl) ?_
  refine fe_fen_g7 B hK hG.1 dX1_copied_76 ?_
  refine w_put B hK hG 8 7 rfl rfl in_X1 tyX1 tyX1_ok nmX1 (by decide) q173 rfl rfl rfl rfl (Nat.le_of_ble_eq_true rfl) dX1_copied_79 (fun H locs hG => ?_)
  have hG : GG X (FP X fa f ++ (FP X u (fpt (fpt (fcp4 f) 6 (f.1 6)) 7 (f.1 7)) ++ rest)) s.heap H locs := hG
  refine lv_aload_n hx hb dX1_copied_82 rfl (lv_at hl 0 rfl) ?_
  refine lv_aload_n hx hb dX1_copied_83 rfl (lv_at hl 1 rfl) ?_
  refine fe_fen_g8 B hK hG.1 dX1_copied_84 ?_
  refine w_put B hK hG 8 8 rfl rfl in_X1 tyX1 tyX1_ok nmX1 (by decide) q176 rfl rfl rfl rfl (Nat.le_of_ble_eq_true rfl) dX1_copied_87 (fun H locs hG => ?_)
  have hG : GG X (FP X fa f ++ (FP X u (fpt (fpt (fpt (fcp4 f) 6 (f.1 6)) 7 (f.1 7)) 8 (f.1 8)) ++ rest)) s.heap H locs := hG
  refine lv_aload_n hx hb dX1_copied_90 rfl (lv_at hl 0 rfl) ?_
  refine lv_aload_n hx hb dX1_copied_91 rfl (lv_at hl 1 rfl) ?_
  refine fe_fen_g9 B hK hG.1 dX1_copied_92 ?_
  refine w_put B hK hG 8 9 rfl rfl in_X1 tyX1 tyX1_ok nmX1 (by decide) q179 rfl rfl rfl rfl (Nat.le_of_ble_eq_true rfl) dX1_copied_95 (fun H locs hG => ?_)
  have hG : GG X (FP X fa f ++ (FP X u (fpt (fpt (fpt (fpt (fcp4 f) 6 (f.1 6)) 7 (f.1 7)) 8 (f.1 8)) 9 (f.1 9)) ++ rest)) s.heap H locs := hG
  refine lv_aload_n hx hb dX1_copied_98 rfl (lv_at hl 0 rfl) ?_
  refine lv_aload_n hx hb dX1_copied_99 rfl (lv_at hl 1 rfl) ?_
  refine fe_fen_g10 B hK hG.1 dX1_copied_100 ?_
  refine w_put B hK hG 8 10 rfl rfl in_X1 tyX1 tyX1_ok nmX1 (by decide) q182 rfl rfl rfl rfl (Nat.le_of_ble_eq_true rfl) dX1_copied_103 (fun H locs hG => ?_)
  have hG : GG X (FP X fa f ++ (FP X u (fpt (fpt (fpt (fpt (fpt (fcp4 f) 6 (f.1 6)) 7 (f.1 7)) 8 (f.1 8)) 9 (f.1 9)) 10 (f.1 10)) ++ rest)) s.heap H locs := hG
  refine lv_aload_n hx hb dX1_copied_106 rfl (lv_at hl 0 rfl) ?_
  exact w_aretX B hr (Or.inl ⟨_, rfl⟩) hlk u rfl hG dX1_copied_107
