set_option maxRecDepth 100000
/-! elements of rows -/
def fRel (r : RV) (i : Int32) : Int64 := match r.2.1 with
  | 0 => (r.2.2.2.1 i.toNatClampNeg).toInt64
  | 1 => (r.2.2.2.1 i.toNatClampNeg).toInt64
  | 2 => (r.2.2.2.1 i.toNatClampNeg).toInt64
  | 3 => r.2.2.2.2 i.toNatClampNeg
  | 4 => if r.2.2.2.1 i.toNatClampNeg = 0 then 0 else 1
def rput (r : RV) (i : Int32) (v : Int64) : RV := match r.2.1 with
  | 0 => (r.1, 0, r.2.2.1, upd r.2.2.2.1 i.toNatClampNeg (vp_nar .byte v.toInt32.toInt8.toInt32), r.2.2.2.2)
  | 1 => (r.1, 1, r.2.2.1, upd r.2.2.2.1 i.toNatClampNeg (vp_nar .short v.toInt32.toInt16.toInt32), r.2.2.2.2)
  | 2 => (r.1, 2, r.2.2.1, upd r.2.2.2.1 i.toNatClampNeg v.toInt32, r.2.2.2.2)
  | 3 => (r.1, 3, r.2.2.1, r.2.2.2.1, vp_updL r.2.2.2.2 i.toNatClampNeg v)
  | 4 => (r.1, 4, r.2.2.1, upd r.2.2.2.1 i.toNatClampNeg (vp_nar .boolean (if lg_cmp v 0 = 0 then 0 else 1)), r.2.2.2.2)
section EL1
variable {p : Program} {l : Launch} {e : Env} {R : Room} {s : State} {m : MethodId} {args : Array Value} {below : List Frame} {meth : Method} {c : Code} {H : Heap} {locs : List Loc} {cells slots : Nat} {Q : State → Prop} {cc : ByteArray} {nL pc : Nat} {ls : Array Slot} {st st0 : List Value} {own : String} {X : CX} {ws : va_W}
theorem w_out (B : CallFix p m c cc nL s args lw_all own) (hK : KK X s) (hG : GG X ws s.heap H locs) (hl : l.stackTraces = false) (hls : ls.size = nL) {j : Int32} {n : Nat} (hn : n < 2 ^ 31)
    (hfr : 7 < R.frames) (hlo : (st.map fun v => v.category).sum + 10240 ≤ R.locals) (hc : cells + 3 ≤ R.cells) (hs : slots + 222 ≤ R.slots)
    (hstep : ∀ T : State, T.heap = H → Stand p l e R s m args below meth c T locs cells slots → ∀ tg, Steps p.tables e below ((T.setTop (F0 m pc ls st)).pushFrame (.throwNew "java/lang/ArrayIndexOutOfBoundsException" (some (toString "Index " ++ toString j ++ toString " out of bounds for length " ++ toString n)) none)) tg → Steps p.tables e below (T.setTop (F0 m pc ls st0)) tg)
    (kk : ∀ (x : Nat) (H1 : Heap) (locs1 : List Loc), GG X ws s.heap H1 locs1 → H.size ≤ x → ExC s "java/lang/ArrayIndexOutOfBoundsException" x H1 → WX p l e R s m args below meth c H1 locs1 (cells + 3) (slots + 222) Q x (F0 m pc ls st)) : W p l e R s m args below meth c H locs cells slots Q (F0 m pc ls st0) :=
  w_vm (N := 212) B hK hG hl hls (arm_AIO B hK) (by decide) (by decide) (by decide) (by decide) (index_text_modelled j n) (index_text_bytes j hn) (by decide) hfr hlo (by decide) hc hs hstep kk
end EL1
theorem out_of {i : Int32} {n : Nat} (h : ¬ vp_in i n) : i < 0 ∨ n ≤ i.toNatClampNeg := Classical.not_not.mp h
theorem tC_elementOf (l : Launch) (X : CX) (r : RV) (ws : va_W) (hm : rowC X r ∈ ws) (i : Int32) (hi : vp_in i r.2.2.1) : RO l yX0_elementOf cX0_elementOf 2 (some .long) 1 40 [.ref r.1, .int i] X ws (some (.long (fRel r i))) := by
  refine RO.mk (by decide) (Nat.le_of_ble_eq_true rfl) ?_
  intro p e s m below meth c B hr hlk hK hP ls hl
  have hl : lv_has ls 2 [(0, .ref r.1), (1, .int i)] := hl
  have hx := B.1
  have hb := B.2.1
  obtain ⟨k, hk⟩ := List.getElem?_of_mem hm
  obtain ⟨ra, rk, rn, rf, rg⟩ := r
  refine lv_aload_n hx hb dX0_elementOf_0 rfl (lv_at hl 0 rfl) ?_
  refine w_sortOf B hK va_S.rf hP hm rfl ⟨Nat.le_of_ble_eq_true rfl, Nat.le_of_ble_eq_true rfl⟩ ⟨Nat.zero_le _, Nat.zero_le _⟩ hl.1 (Nat.le_of_ble_eq_true rfl) dX0_elementOf_1 ?_
  match rk, hm, hk with
  | 0, hm, hk =>
    refine w_tab (tgt := 36) 0 rfl hx hb dX0_elementOf_4 (by decide) (by decide) rfl (by decide) ?_
    refine lv_aload_n hx hb dX0_elementOf_36 rfl (lv_at hl 0 rfl) ?_
    refine va_castE (nm := "[B") hx hb B.2.2.2.1 (B.2.2.2.2 _ q414) (row_recv hK hP hm) dX0_elementOf_37 ?_
    refine lv_iload_n hx hb dX0_elementOf_40 rfl (lv_at hl 1 rfl) ?_
    refine va_bald hx hb hK.k hP k 3 hk rfl hi dX0_elementOf_41 ?_
    refine lv_i2l hx hb dX0_elementOf_42 rfl ?_
    exact w_lretR B hr hlk rfl dX0_elementOf_43
  | 1, hm, hk =>
    refine w_tab (tgt := 44) 1 rfl hx hb dX0_elementOf_4 (by decide) (by decide) rfl (by decide) ?_
    refine lv_aload_n hx hb dX0_elementOf_44 rfl (lv_at hl 0 rfl) ?_
    refine va_castE (nm := "[S") hx hb B.2.2.2.1 (B.2.2.2.2 _ q415) (row_recv hK hP hm) dX0_elementOf_45 ?_
    refine lv_iload_n hx hb dX0_elementOf_48 rfl (lv_at hl 1 rfl) ?_
    refine va_sald hx hb hK.k hP k 4 hk rfl hi dX0_elementOf_49 ?_
    refine lv_i2l hx hb dX0_elementOf_50 rfl ?_
    exact w_lretR B hr hlk rfl dX0_elementOf_51
  | 2, hm, hk =>
    refine w_tab (tgt := 52) 2 rfl hx hb dX0_elementOf_4 (by decide) (by decide) rfl (by decide) ?_
    refine lv_aload_n hx hb dX0_elementOf_52 rfl (lv_at hl 0 rfl) ?_
    refine va_castE (nm := "[I") hx hb B.2.2.2.1 (B.2.2.2.2 _ q416) (row_recv hK hP hm) dX0_elementOf_53 ?_
    refine lv_iload_n hx hb dX0_elementOf_56 rfl (lv_at hl 1 rfl) ?_
    refine va_iald hx hb hK.k hP k 0 hk rfl hi dX0_elementOf_57 ?_
    refine lv_i2l hx hb dX0_elementOf_58 rfl ?_
    exact w_lretR B hr hlk rfl dX0_elementOf_59
  | 3, hm, hk =>
    refine w_tab (tgt := 60) 3 rfl hx hb dX0_elementOf_4 (by decide) (by decide) rfl (by decide) ?_
    refine lv_aload_n hx hb dX0_elementOf_60 rfl (lv_at hl 0 rfl) ?_
    refine va_castE (nm := "[J") hx hb B.2.2.2.1 (B.2.2.2.2 _ q417) (row_recv hK hP hm) dX0_elementOf_61 ?_
    refine lv_iload_n hx hb dX0_elementOf_64 rfl (lv_at hl 1 rfl) ?_
    refine va_lald hx hb hK.k hP k 1 hk rfl hi dX0_elementOf_65 ?_
    exact w_lretR B hr hlk rfl dX0_elementOf_66
  | 4, hm, hk =>
    refine lv_tableOut (tgt := 67) hx hb dX0_elementOf_4 (show (nI 4).toInt < 0 ∨ 3 < (nI 4).toInt by decide) (by decide) ?_
    refine lv_aload_n hx hb dX0_elementOf_67 rfl (lv_at hl 0 rfl) ?_
    refine va_castE (nm := "[Z") hx hb B.2.2.2.1 (B.2.2.2.2 _ q418) (row_recv hK hP hm) dX0_elementOf_68 ?_
    refine lv_iload_n hx hb dX0_elementOf_71 rfl (lv_at hl 1 rfl) ?_
    refine va_zald hx hb hK.k hP k 2 hk rfl hi dX0_elementOf_72 ?_
    refine lv_if_eq (tgt := 80) hx hb dX0_elementOf_73 (by decide) (fun h => ?_) (fun h => ?_)
    · refine lv_lconst (v := 0) hx hb dX0_elementOf_80 (by decide) ?_
      exact w_lretR B hr hlk (congrArg some (if_pos h).symm) dX0_elementOf_81
    · refine lv_lconst (v := 1) hx hb dX0_elementOf_76 (by decide) ?_
      refine lv_goto (tgt := 81) hx hb dX0_elementOf_77 (by decide) ?_
      exact w_lretR B hr hlk (congrArg some (if_neg h).symm) dX0_elementOf_81
theorem tC_elementOf_x (l : Launch) (hlt : l.stackTraces = false) (X : CX) (r : RV) (ws : va_W) (hm : rowC X r ∈ ws) (i : Int32) (hn : r.2.2.1 < 2 ^ 31) (hi : ¬ vp_in i r.2.2.1) : TX l yX0_elementOf cX0_elementOf 2 (some .long) 8 3 222 10240 [.ref r.1, .int i] X ws (fun x H (_ : Unit) => ExC X.1 "java/lang/ArrayIndexOutOfBoundsException" x H) (fun _ => ws) := by
  refine TX.mk (by decide) (Nat.le_of_ble_eq_true rfl) ?_
  intro p e s m below meth c B hlk htab hK hG ls hl
  have hl : lv_has ls 2 [(0, .ref r.1), (1, .int i)] := hl
  have hx := B.1
  have hb := B.2.1
  obtain ⟨k, hk⟩ := List.getElem?_of_mem hm
  obtain ⟨ra, rk, rn, rf, rg⟩ := r
  refine lv_aload_n hx hb dX0_elementOf_0 rfl (lv_at hl 0 rfl) ?_
  refine w_sortOf B hK va_S.rf hG.1 hm rfl ⟨Nat.le_of_ble_eq_true rfl, Nat.le_of_ble_eq_true rfl⟩ ⟨Nat.zero_le _, Nat.zero_le _⟩ hl.1 (Nat.le_of_ble_eq_true rfl) dX0_elementOf_1 ?_
  match rk, hm, hk with
  | 0, hm, hk =>
    refine w_tab (tgt := 36) 0 rfl hx hb dX0_elementOf_4 (by decide) (by decide) rfl (by decide) ?_
    refine lv_aload_n hx hb dX0_elementOf_36 rfl (lv_at hl 0 rfl) ?_
    refine va_castE (nm := "[B") hx hb B.2.2.2.1 (B.2.2.2.2 _ q414) (row_recv hK hG.1 hm) dX0_elementOf_37 ?_
    refine lv_iload_n hx hb dX0_elementOf_40 rfl (lv_at hl 1 rfl) ?_
    exact w_out (st := []) B hK hG hlt hl.1 (j := i) hn (by decide) (by decide) (by decide) (by decide) (fun T hT X0 => by have hc := hG.1 k _ hk; have := X0.baloadOut B.1 (by rw [hT]; exact hc) ((hK.k.2 3 _ rfl).1 rn (fun j => .int (rf j))) (by show i < 0 ∨ (arrV _ _ _).slots.size ≤ _; rw [arrV_size]; exact out_of hi) (g := F0 m 41 ls (.int i :: .ref ra :: [])) rfl rfl (by rw [B.2.1]; exact dX0_elementOf_41); rw [arrV_size] at this; exact this) (fun x H1 locs1 hG1 _ hE => w_leaveT () (hE.at0 hK) hG1 htab hlk)
  | 1, hm, hk =>
    refine w_tab (tgt := 44) 1 rfl hx hb dX0_elementOf_4 (by decide) (by decide) rfl (by decide) ?_
    refine lv_aload_n hx hb dX0_elementOf_44 rfl (lv_at hl 0 rfl) ?_
    refine va_castE (nm := "[S") hx hb B.2.2.2.1 (B.2.2.2.2 _ q415) (row_recv hK hG.1 hm) dX0_elementOf_45 ?_
    refine lv_iload_n hx hb dX0_elementOf_48 rfl (lv_at hl 1 rfl) ?_
    exact w_out (st := []) B hK hG hlt hl.1 (j := i) hn (by decide) (by decide) (by decide) (by decide) (fun T hT X0 => by have hc := hG.1 k _ hk; have := X0.saloadOut B.1 (by rw [hT]; exact hc) ((hK.k.2 4 _ rfl).1 rn (fun j => .int (rf j))) (by show i < 0 ∨ (arrV _ _ _).slots.size ≤ _; rw [arrV_size]; exact out_of hi) (g := F0 m 49 ls (.int i :: .ref ra :: [])) rfl rfl (by rw [B.2.1]; exact dX0_elementOf_49); rw [arrV_size] at this; exact this) (fun x H1 locs1 hG1 _ hE => w_leaveT () (hE.at0 hK) hG1 htab hlk)
  | 2, hm, hk =>
    refine w_tab (tgt := 52) 2 rfl hx hb dX0_elementOf_4 (by decide) (by decide) rfl (by decide) ?_
    refine lv_aload_n hx hb dX0_elementOf_52 rfl (lv_at hl 0 rfl) ?_
    refine va_castE (nm := "[I") hx hb B.2.2.2.1 (B.2.2.2.2 _ q416) (row_recv hK hG.1 hm) dX0_elementOf_53 ?_
    refine lv_iload_n hx hb dX0_elementOf_56 rfl (lv_at hl 1 rfl) ?_
    exact w_out (st := []) B hK hG hlt hl.1 (j := i) hn (by decide) (by decide) (by decide) (by decide) (fun T hT X0 => by have hc := hG.1 k _ hk; have := X0.ialoadOut B.1 (by rw [hT]; exact hc) ((hK.k.2 0 _ rfl).1 rn (fun j => .int (rf j))) (by show i < 0 ∨ (arrV _ _ _).slots.size ≤ _; rw [arrV_size]; exact out_of hi) (g := F0 m 57 ls (.int i :: .ref ra :: [])) rfl rfl (by rw [B.2.1]; exact dX0_elementOf_57); rw [arrV_size] at this; exact this) (fun x H1 locs1 hG1 _ hE => w_leaveT () (hE.at0 hK) hG1 htab hlk)
  | 3, hm, hk =>
    refine w_tab (tgt := 60) 3 rfl hx hb dX0_elementOf_4 (by decide) (by decide) rfl (by decide) ?_
    refine lv_aload_n hx hb dX0_elementOf_60 rfl (lv_at hl 0 rfl) ?_
    refine va_castE (nm := "[J") hx hb B.2.2.2.1 (B.2.2.2.2 _ q417) (row_recv hK hG.1 hm) dX0_elementOf_61 ?_
    refine lv_iload_n hx hb dX0_elementOf_64 rfl (lv_at hl 1 rfl) ?_
    exact w_out (st := []) B hK hG hlt hl.1 (j := i) hn (by decide) (by decide) (by decide) (by decide) (fun T hT X0 => by have hc := hG.1 k _ hk; have := X0.laloadOut B.1 (by rw [hT]; exact hc) ((hK.k.2 1 _ rfl).1 rn (fun j => .long (rg j))) (by show i < 0 ∨ (arrV _ _ _).slots.size ≤ _; rw [arrV_size]; exact out_of hi) (g := F0 m 65 ls (.int i :: .ref ra :: [])) rfl rfl (by rw [B.2.1]; exact dX0_elementOf_65); rw [arrV_size] at this; exact this) (fun x H1 locs1 hG1 _ hE => w_leaveT () (hE.at0 hK) hG1 htab hlk)
  | 4, hm, hk =>
    refine lv_tableOut (tgt := 67) hx hb dX0_elementOf_4 (show (nI 4).toInt < 0 ∨ 3 < (nI 4).toInt by decide) (by decide) ?_
    refine lv_aload_n hx hb dX0_elementOf_67 rfl (lv_at hl 0 rfl) ?_
    refine va_castE (nm := "[Z") hx hb B.2.2.2.1 (B.2.2.2.2 _ q418) (row_recv hK hG.1 hm) dX0_elementOf_68 ?_
    refine lv_iload_n hx hb dX0_elementOf_71 rfl (lv_at hl 1 rfl) ?_
    exact w_out (st := []) B hK hG hlt hl.1 (j := i) hn (by decide) (by decide) (by decide) (by decide) (fun T hT X0 => by have hc := hG.1 k _ hk; have := X0.baloadOut B.1 (by rw [hT]; exact hc) ((hK.k.2 2 _ rfl).1 rn (fun j => .int (rf j))) (by show i < 0 ∨ (arrV _ _ _).slots.size ≤ _; rw [arrV_size]; exact out_of hi) (g := F0 m 72 ls (.int i :: .ref ra :: [])) rfl rfl (by rw [B.2.1]; exact dX0_elementOf_72); rw [arrV_size] at this; exact this) (fun x H1 locs1 hG1 _ hE => w_leaveT () (hE.at0 hK) hG1 htab hlk)
theorem tC_puts (l : Launch) (X : CX) (r : RV) (ws : va_W) (k : Nat) (hk : ws[k]? = some (rowC X r)) (i : Int32) (v : Int64) (hi : vp_in i r.2.2.1) : RW l yX0_puts cX0_puts 4 none 1 0 0 40 [.ref r.1, .int i, .long v] X ws (ws.set k (rowC X (rput r i v))) none := by
  refine RW.mk (by decide) (Nat.le_of_ble_eq_true rfl) ?_
  intro p e s m below meth c B hr hlk hK hG ls hl
  have hl : lv_has ls 4 [(0, .ref r.1), (1, .int i), (2, .long v)] := hl
  have hx := B.1
  have hb := B.2.1
  have hm := List.mem_of_getElem? hk
  obtain ⟨ra, rk, rn, rf, rg⟩ := r
  refine lv_aload_n hx hb dX0_puts_0 rfl (lv_at hl 0 rfl) ?_
  refine w_sortOf B hK va_S.rf hG.1 hm rfl ⟨Nat.le_of_ble_eq_true rfl, Nat.le_of_ble_eq_true rfl⟩ ⟨Nat.zero_le _, Nat.zero_le _⟩ hl.1 (Nat.le_of_ble_eq_true rfl) dX0_puts_1 ?_
  match rk, hm, hk with
  | 0, hm, hk =>
    refine w_tab (tgt := 36) 0 rfl hx hb dX0_puts_4 (by decide) (by decide) rfl (by decide) ?_
    refine lv_aload_n hx hb dX0_puts_36 rfl (lv_at hl 0 rfl) ?_
    refine va_castE (nm := "[B") hx hb B.2.2.2.1 (B.2.2.2.2 _ q414) (row_recv hK hG.1 hm) dX0_puts_37 ?_
    refine lv_iload_n hx hb dX0_puts_40 rfl (lv_at hl 1 rfl) ?_
    refine lv_lload_n hx hb dX0_puts_41 rfl (lv_at hl 2 rfl) ?_
    refine lv_l2i hx hb dX0_puts_42 rfl ?_
    refine lv_i2b hx hb dX0_puts_43 rfl ?_
    refine va_bast hx hb hK.k hG.1 hG.2.1 hG.2.2 k 3 hk rfl hi dX0_puts_44 (fun H1 locs1 g1 g2 g3 => ?_)
    refine lv_goto (tgt := 98) hx hb dX0_puts_45 (by decide) ?_
    exact w_vretW B hr hlk ⟨g1, g2, g3⟩ dX0_puts_98
  | 1, hm, hk =>
    refine w_tab (tgt := 48) 1 rfl hx hb dX0_puts_4 (by decide) (by decide) rfl (by decide) ?_
    refine lv_aload_n hx hb dX0_puts_48 rfl (lv_at hl 0 rfl) ?_
    refine va_castE (nm := "[S") hx hb B.2.2.2.1 (B.2.2.2.2 _ q415) (row_recv hK hG.1 hm) dX0_puts_49 ?_
    refine lv_iload_n hx hb dX0_puts_52 rfl (lv_at hl 1 rfl) ?_
    refine lv_lload_n hx hb dX0_puts_53 rfl (lv_at hl 2 rfl) ?_
    refine lv_l2i hx hb dX0_puts_54 rfl ?_
    refine lv_i2s hx hb dX0_puts_55 rfl ?_
    refine va_sast hx hb hK.k hG.1 hG.2.1 hG.2.2 k 4 hk rfl hi dX0_puts_56 (fun H1 locs1 g1 g2 g3 => ?_)
    refine lv_goto (tgt := 98) hx hb dX0_puts_57 (by decide) ?_
    exact w_vretW B hr hlk ⟨g1, g2, g3⟩ dX0_puts_98
  | 2, hm, hk =>
    refine w_tab (tgt := 60) 2 rfl hx hb dX0_puts_4 (by decide) (by decide) rfl (by decide) ?_
    refine lv_aload_n hx hb dX0_puts_60 rfl (lv_at hl 0 rfl) ?_
    refine va_castE (nm := "[I") hx hb B.2.2.2.1 (B.2.2.2.2 _ q416) (row_recv hK hG.1 hm) dX0_puts_61 ?_
    refine lv_iload_n hx hb dX0_puts_64 rfl (lv_at hl 1 rfl) ?_
    refine lv_lload_n hx hb dX0_puts_65 rfl (lv_at hl 2 rfl) ?_
    refine lv_l2i hx hb dX0_puts_66 rfl ?_
    refine va_iast hx hb hK.k hG.1 hG.2.1 hG.2.2 k 0 hk rfl hi dX0_puts_67 (fun H1 locs1 g1 g2 g3 => ?_)
    refine lv_goto (tgt := 98) hx hb dX0_puts_68 (by decide) ?_
    exact w_vretW B hr hlk ⟨g1, g2, g3⟩ dX0_puts_98
  | 3, hm, hk =>
    refine w_tab (tgt := 71) 3 rfl hx hb dX0_puts_4 (by decide) (by decide) rfl (by decide) ?_
    refine lv_aload_n hx hb dX0_puts_71 rfl (lv_at hl 0 rfl) ?_
    refine va_castE (nm := "[J") hx hb B.2.2.2.1 (B.2.2.2.2 _ q417) (row_recv hK hG.1 hm) dX0_puts_72 ?_
    refine lv_iload_n hx hb dX0_puts_75 rfl (lv_at hl 1 rfl) ?_
    refine lv_lload_n hx hb dX0_puts_76 rfl (lv_at hl 2 rfl) ?_
    refine va_last hx hb hK.k hG.1 hG.2.1 hG.2.2 k 1 hk rfl hi dX0_puts_77 (fun H1 locs1 g1 g2 g3 => ?_)
    refine lv_goto (tgt := 98) hx hb dX0_puts_78 (by decide) ?_
    exact w_vretW B hr hlk ⟨g1, g2, g3⟩ dX0_puts_98
  | 4, hm, hk =>
    refine lv_tableOut (tgt := 81) hx hb dX0_puts_4 (show (nI 4).toInt < 0 ∨ 3 < (nI 4).toInt by decide) (by decide) ?_
    refine lv_aload_n hx hb dX0_puts_81 rfl (lv_at hl 0 rfl) ?_
    refine va_castE (nm := "[Z") hx hb B.2.2.2.1 (B.2.2.2.2 _ q418) (row_recv hK hG.1 hm) dX0_puts_82 ?_
    refine lv_iload_n hx hb dX0_puts_85 rfl (lv_at hl 1 rfl) ?_
    refine lv_lload_n hx hb dX0_puts_86 rfl (lv_at hl 2 rfl) ?_
    refine lv_lconst (v := 0) hx hb dX0_puts_87 (by decide) ?_
    refine W.lcmp hx hb dX0_puts_88 ?_
    refine lv_if_eq (tgt := 96) hx hb dX0_puts_89 (by decide) (fun h => ?_) (fun h => ?_)
    · refine lv_iconst (v := 0) hx hb dX0_puts_96 (by decide) ?_
      rw [show rput (ra, 4, rn, rf, rg) i v = (ra, 4, rn, upd rf i.toNatClampNeg (vp_nar .boolean 0), rg) by simp only [rput]; rw [if_pos h]]
      refine va_zast hx hb hK.k hG.1 hG.2.1 hG.2.2 k 2 hk rfl hi dX0_puts_97 (fun H1 locs1 g1 g2 g3 => ?_)
      exact w_vretW B hr hlk ⟨g1, g2, g3⟩ dX0_puts_98
    · refine lv_iconst (v := 1) hx hb dX0_puts_92 (by decide) ?_
      refine lv_goto (tgt := 97) hx hb dX0_puts_93 (by decide) ?_
      rw [show rput (ra, 4, rn, rf, rg) i v = (ra, 4, rn, upd rf i.toNatClampNeg (vp_nar .boolean 1), rg) by simp only [rput]; rw [if_neg h]]
      refine va_zast hx hb hK.k hG.1 hG.2.1 hG.2.2 k 2 hk rfl hi dX0_puts_97 (fun H1 locs1 g1 g2 g3 => ?_)
      exact w_vretW B hr hlk ⟨g1, g2, g3⟩ dX0_puts_98
theorem tC_puts_x (l : Launch) (hlt : l.stackTraces = false) (X : CX) (r : RV) (ws : va_W) (k : Nat) (hk : ws[k]? = some (rowC X r)) (i : Int32) (v : Int64) (hn : r.2.2.1 < 2 ^ 31) (hi : ¬ vp_in i r.2.2.1) : TX l yX0_puts cX0_puts 4 none 8 3 222 10240 [.ref r.1, .int i, .long v] X ws (fun x H (_ : Unit) => ExC X.1 "java/lang/ArrayIndexOutOfBoundsException" x H) (fun _ => ws) := by
  refine TX.mk (by decide) (Nat.le_of_ble_eq_true rfl) ?_
  intro p e s m below meth c B hlk htab hK hG ls hl
  have hl : lv_has ls 4 [(0, .ref r.1), (1, .int i), (2, .long v)] := hl
  have hx := B.1
  have hb := B.2.1
  have hm := List.mem_of_getElem? hk
  obtain ⟨ra, rk, rn, rf, rg⟩ := r
  refine lv_aload_n hx hb dX0_puts_0 rfl (lv_at hl 0 rfl) ?_
  refine w_sortOf B hK va_S.rf hG.1 hm rfl ⟨Nat.le_of_ble_eq_true rfl, Nat.le_of_ble_eq_true rfl⟩ ⟨Nat.zero_le _, Nat.zero_le _⟩ hl.1 (Nat.le_of_ble_eq_true rfl) dX0_puts_1 ?_
  match rk, hm, hk with
  | 0, hm, hk =>
    refine w_tab (tgt := 36) 0 rfl hx hb dX0_puts_4 (by decide) (by decide) rfl (by decide) ?_
    refine lv_aload_n hx hb dX0_puts_36 rfl (lv_at hl 0 rfl) ?_
    refine va_castE (nm := "[B") hx hb B.2.2.2.1 (B.2.2.2.2 _ q414) (row_recv hK hG.1 hm) dX0_puts_37 ?_
    refine lv_iload_n hx hb dX0_puts_40 rfl (lv_at hl 1 rfl) ?_
    refine lv_lload_n hx hb dX0_puts_41 rfl (lv_at hl 2 rfl) ?_
    refine lv_l2i hx hb dX0_puts_42 rfl ?_
    refine lv_i2b hx hb dX0_puts_43 rfl ?_
    exact w_out (st := []) B hK hG hlt hl.1 (j := i) hn (by decide) (by decide) (by decide) (by decide) (fun T hT X0 => by have hc := hG.1 k _ hk; have := X0.bastoreOut B.1 (by rw [hT]; exact hc) ((hK.k.2 3 _ rfl).1 rn (fun j => .int (rf j))) (by show i < 0 ∨ (arrV _ _ _).slots.size ≤ _; rw [arrV_size]; exact out_of hi) (g := F0 m 44 ls (.int v.toInt32.toInt8.toInt32 :: .int i :: .ref ra :: [])) rfl rfl (by rw [B.2.1]; exact dX0_puts_44); rw [arrV_size] at this; exact this) (fun x H1 locs1 hG1 _ hE => w_leaveT () (hE.at0 hK) hG1 htab hlk)
  | 1, hm, hk =>
    refine w_tab (tgt := 48) 1 rfl hx hb dX0_puts_4 (by decide) (by decide) rfl (by decide) ?_
    refine lv_aload_n hx hb dX0_puts_48 rfl (lv_at hl 0 rfl) ?_
    refine va_castE (nm := "[S") hx hb B.2.2.2.1 (B.2.2.2.2 _ q415) (row_recv hK hG.1 hm) dX0_puts_49 ?_
    refine lv_iload_n hx hb dX0_puts_52 rfl (lv_at hl 1 rfl) ?_
    refine lv_lload_n hx hb dX0_puts_53 rfl (lv_at hl 2 rfl) ?_
    refine lv_l2i hx hb dX0_puts_54 rfl ?_
    refine lv_i2s hx hb dX0_puts_55 rfl ?_
    exact w_out (st := []) B hK hG hlt hl.1 (j := i) hn (by decide) (by decide) (by decide) (by decide) (fun T hT X0 => by have hc := hG.1 k _ hk; have := X0.sastoreOut B.1 (by rw [hT]; exact hc) ((hK.k.2 4 _ rfl).1 rn (fun j => .int (rf j))) (by show i < 0 ∨ (arrV _ _ _).slots.size ≤ _; rw [arrV_size]; exact out_of hi) (g := F0 m 56 ls (.int v.toInt32.toInt16.toInt32 :: .int i :: .ref ra :: [])) rfl rfl (by rw [B.2.1]; exact dX0_puts_56); rw [arrV_size] at this; exact this) (fun x H1 locs1 hG1 _ hE => w_leaveT () (hE.at0 hK) hG1 htab hlk)
  | 2, hm, hk =>
    refine w_tab (tgt := 60) 2 rfl hx hb dX0_puts_4 (by decide) (by decide) rfl (by decide) ?_
    refine lv_aload_n hx hb dX0_puts_60 rfl (lv_at hl 0 rfl) ?_
    refine va_castE (nm := "[I") hx hb B.2.2.2.1 (B.2.2.2.2 _ q416) (row_recv hK hG.1 hm) dX0_puts_61 ?_
    refine lv_iload_n hx hb dX0_puts_64 rfl (lv_at hl 1 rfl) ?_
    refine lv_lload_n hx hb dX0_puts_65 rfl (lv_at hl 2 rfl) ?_
    refine lv_l2i hx hb dX0_puts_66 rfl ?_
    exact w_out (st := []) B hK hG hlt hl.1 (j := i) hn (by decide) (by decide) (by decide) (by decide) (fun T hT X0 => by have hc := hG.1 k _ hk; have := X0.iastoreOut B.1 (by rw [hT]; exact hc) ((hK.k.2 0 _ rfl).1 rn (fun j => .int (rf j))) (by show i < 0 ∨ (arrV _ _ _).slots.size ≤ _; rw [arrV_size]; exact out_of hi) (g := F0 m 67 ls (.int v.toInt32 :: .int i :: .ref ra :: [])) rfl rfl (by rw [B.2.1]; exact dX0_puts_67); rw [arrV_size] at this; exact this) (fun x H1 locs1 hG1 _ hE => w_leaveT () (hE.at0 hK) hG1 htab hlk)
  | 3, hm, hk =>
    refine w_tab (tgt := 71) 3 rfl hx hb dX0_puts_4 (by decide) (by decide) rfl (by decide) ?_
    refine lv_aload_n hx hb dX0_puts_71 rfl (lv_at hl 0 rfl) ?_
    refine va_castE (nm := "[J") hx hb B.2.2.2.1 (B.2.2.2.2 _ q417) (row_recv hK hG.1 hm) dX0_puts_72 ?_
    refine lv_iload_n hx hb dX0_puts_75 rfl (lv_at hl 1 rfl) ?_
    refine lv_lload_n hx hb dX0_puts_76 rfl (lv_at hl 2 rfl) ?_
    exact w_out (st := []) B hK hG hlt hl.1 (j := i) hn (by decide) (by decide) (by decide) (by decide) (fun T hT X0 => by have hc := hG.1 k _ hk; have := X0.lastoreOut B.1 (by rw [hT]; exact hc) ((hK.k.2 1 _ rfl).1 rn (fun j => .long (rg j))) (by show i < 0 ∨ (arrV _ _ _).slots.size ≤ _; rw [arrV_size]; exact out_of hi) (g := F0 m 77 ls (.long v :: .int i :: .ref ra :: [])) rfl rfl (by rw [B.2.1]; exact dX0_puts_77); rw [arrV_size] at this; exact this) (fun x H1 locs1 hG1 _ hE => w_leaveT () (hE.at0 hK) hG1 htab hlk)
  | 4, hm, hk =>
    refine lv_tableOut (tgt := 81) hx hb dX0_puts_4 (show (nI 4).toInt < 0 ∨ 3 < (nI 4).toInt by decide) (by decide) ?_
    refine lv_aload_n hx hb dX0_puts_81 rfl (lv_at hl 0 rfl) ?_
    refine va_castE (nm := "[Z") hx hb B.2.2.2.1 (B.2.2.2.2 _ q418) (row_recv hK hG.1 hm) dX0_puts_82 ?_
    refine lv_iload_n hx hb dX0_puts_85 rfl (lv_at hl 1 rfl) ?_
    refine lv_lload_n hx hb dX0_puts_86 rfl (lv_at hl 2 rfl) ?_
    refine lv_lconst (v := 0) hx hb dX0_puts_87 (by decide) ?_
    refine W.lcmp hx hb dX0_puts_88 ?_
    refine lv_if_eq (tgt := 96) hx hb dX0_puts_89 (by decide) (fun h => ?_) (fun h => ?_)
    · refine lv_iconst (v := 0) hx hb dX0_puts_96 (by decide) ?_
      exact w_out (st := []) B hK hG hlt hl.1 (j := i) hn (by decide) (by decide) (by decide) (by decide) (fun T hT X0 => by have hc := hG.1 k _ hk; have := X0.bastoreOut B.1 (by rw [hT]; exact hc) ((hK.k.2 2 _ rfl).1 rn (fun j => .int (rf j))) (by show i < 0 ∨ (arrV _ _ _).slots.size ≤ _; rw [arrV_size]; exact out_of hi) (g := F0 m 97 ls (.int 0 :: .int i :: .ref ra :: [])) rfl rfl (by rw [B.2.1]; exact dX0_puts_97); rw [arrV_size] at this; exact this) (fun x H1 locs1 hG1 _ hE => w_leaveT () (hE.at0 hK) hG1 htab hlk)
    · refine lv_iconst (v := 1) hx hb dX0_puts_92 (by decide) ?_
      refine lv_goto (tgt := 97) hx hb dX0_puts_93 (by decide) ?_
      exact w_out (st := []) B hK hG hlt hl.1 (j := i) hn (by decide) (by decide) (by decide) (by decide) (fun T hT X0 => by have hc := hG.1 k _ hk; have := X0.bastoreOut B.1 (by rw [hT]; exact hc) ((hK.k.2 2 _ rfl).1 rn (fun j => .int (rf j))) (by show i < 0 ∨ (arrV _ _ _).slots.size ≤ _; rw [arrV_size]; exact out_of hi) (g := F0 m 97 ls (.int 1 :: .int i :: .ref ra :: [])) rfl rfl (by rw [B.2.1]; exact dX0_puts_97); rw [arrV_size] at this; exact this) (fun x H1 locs1 hG1 _ hE => w_leaveT () (hE.at0 hK) hG1 htab hlk)
