set_option maxRecDepth 100000
theorem KK.castW {X : CX} {s : State} {C T : String} (h : KK X s) (hw : Cond.castable C T ∈ lw_tbl) : va_Nw (.castable C T) s := va_Nw.warmC h.2.1 (va_Nw.of rfl (h.1.1 _ hw))
section WI
variable {p : Program} {l : Launch} {e : Env} {R : Room} {s : State} {m : MethodId} {args : Array Value} {below : List Frame} {meth : Method} {c : Code} {H : Heap} {locs : List Loc} {cells slots : Nat} {Q : State → Prop} {cc : ByteArray} {nL pc : Nat} {ls : Array Slot} {st st0 : List Value} {own : String} {X : CX} {ws rest : va_W}
section RUN4
variable {S : Type} {post : Option Value → S → Prop} {wsOf : S → va_W} {y : MethodName} {code : ByteArray} {nl : Nat} {ret : Option FieldType} {fr mc ms lo : Nat} {As : List Value} {b index n : Nat} {host C : String} {T : u_T} {N ci : Nat} {fs : List Value}
theorem w_rSN_RX (B : CallFix p m c cc nL s args lw_all own) (hK : KK X s) (hG : GG X ws s.heap H locs) (hM : RX l y code nl ret fr mc ms lo As X ws post wsOf) (hw : Cond.methodLinkNest own index y host ∈ lw_tbl) (h2 : Cond.static y ∈ lw_all) (h3 : Cond.initialized y.cls ∈ lw_all) (h4 : Cond.code y code nl ret ∈ lw_all)
    (hd : y.cls ≠ "java/lang/invoke/MethodHandle" ∧ y.cls ≠ "java/lang/invoke/VarHandle" ∧ (parseMethodDescriptor y.desc).map (fun d => d.parameters.length) = some n) (hR : fr + 1 ≤ R.frames ∧ 8 + (nl + 11) + lo ≤ R.locals) (hcs : cells + mc ≤ R.cells ∧ slots + ms ≤ R.slots) (hn : As.length = n) (hsz : ls.size = nL) (hst : st0 = As.reverse ++ st) (hcat : (st.map fun v => v.category).sum ≤ 8)
    (hdg : decode cc pc = .ok (.invokestatic index, 3)) : va_Run p l e R s m args below meth c H locs cells slots mc ms (F0 m pc ls st0) st (QX X post wsOf As.toArray) (Az X) :=
  va_runSN B hM ⟨va_cnB n B.2.2.2.2 (lw_meth h4) rfl rfl rfl (hK.nestM hw) (B.2.2.2.2 _ h3) hd hR, B.2.2.2.2 _ h2, trivial⟩ ⟨fun _ _ _ _ q => q, fun U hU hW => ⟨rfl, hK.step hG.2.2 hU hW, by rw [hU]; exact hG.1, hG.2.1⟩⟩ rfl hn hsz hst (lv_room hcat) hdg hcs
theorem w_rS_RX (B : CallFix p m c cc nL s args lw_all own) (hK : KK X s) (hG : GG X ws s.heap H locs) (hM : RX l y code nl ret fr mc ms lo As X ws post wsOf) (hT : GoodIn lw_all (va_wsS own index y (ws_ y code nl ret)))
    (hd : y.cls ≠ "java/lang/invoke/MethodHandle" ∧ y.cls ≠ "java/lang/invoke/VarHandle" ∧ (parseMethodDescriptor y.desc).map (fun d => d.parameters.length) = some n) (hR : fr + 1 ≤ R.frames ∧ 8 + (nl + 11) + lo ≤ R.locals) (hcs : cells + mc ≤ R.cells ∧ slots + ms ≤ R.slots) (hn : As.length = n) (hsz : ls.size = nL) (hst : st0 = As.reverse ++ st) (hcat : (st.map fun v => v.category).sum ≤ 8)
    (hdg : decode cc pc = .ok (.invokestatic index, 3)) : va_Run p l e R s m args below meth c H locs cells slots mc ms (F0 m pc ls st0) st (QX X post wsOf As.toArray) (Az X) :=
  va_runS B hM (va_cwS n B.2.2.2.2 hT rfl rfl rfl hd hR) ⟨fun _ _ _ _ q => q, fun U hU hW => ⟨rfl, hK.step hG.2.2 hU hW, by rw [hU]; exact hG.1, hG.2.1⟩⟩ rfl hn hsz hst (lv_room hcat) hdg hcs
theorem w_rV_RX (B : CallFix p m c cc nL s args lw_all own) (hK : KK X s) (hG : GG X ws s.heap H locs) (hM : RX l y code nl ret fr mc ms lo (.ref b :: As) X ws post wsOf) (hT : GoodIn lw_all (wsV own index C y (ws_ y code nl ret))) (q0 : Nat) (hc : vwCl[ci]? = some (C, T, N)) (he : ws[q0]? = some (b, .inr (ci, fs)))
    (hd : y.cls = C ∧ y.cls ≠ "java/lang/invoke/MethodHandle" ∧ y.cls ≠ "java/lang/invoke/VarHandle" ∧ (parseMethodDescriptor y.desc).map (fun d => d.parameters.length) = some n) (hR : fr + 1 ≤ R.frames ∧ 8 + (nl + 11) + lo ≤ R.locals) (hcs : cells + mc ≤ R.cells ∧ slots + ms ≤ R.slots) (hn : As.length = n) (hsz : ls.size = nL) (hst : st0 = As.reverse ++ .ref b :: st) (hcat : (st.map fun v => v.category).sum ≤ 8)
    (hdg : decode cc pc = .ok (.invokevirtual index, 3)) : va_Run p l e R s m args below meth c H locs cells slots mc ms (F0 m pc ls st0) st (QX X post wsOf (Value.ref b :: As).toArray) (Az X) :=
  va_runV B hM (cwV n B.2.2.2.2 hT rfl rfl rfl hd hR) ⟨fun _ _ _ _ q => q, va_recv hK.k hG.1 hc he, fun U hU hW => ⟨rfl, hK.step hG.2.2 hU hW, by rw [hU]; exact hG.1, hG.2.1⟩⟩ rfl hn hsz hst (lv_room hcat) hdg hcs
end RUN4
/-- a post is laid into an array of posts -/
theorem w_astP (B : CallFix p m c cc nL s args lw_all own) (hK : KK X s) (hG : GG X ws s.heap H locs) (q0 qk : Nat) {a n : Nat} {f : Nat → Option Nat} {P : PV} (ha : ws[q0]? = some (a, .inl (X.2.2.2 5, n, .inr (.inr (.inr (.inr f)))))) (hv : ws[qk]? = some (PC P)) {i : Int32} (hin : vp_in i n) (hdg : decode cc pc = .ok (.aastore, 1))
    (kk : ∀ (H1 : Heap) (locs1 : List Loc), GG X (ws.set q0 (a, .inl (X.2.2.2 5, n, .inr (.inr (.inr (.inr (va_up f i.toNatClampNeg (some P.1)))))))) s.heap H1 locs1 → W p l e R s m args below meth c H1 locs1 cells slots Q (F0 m (pc + 1) ls st)) : W p l e R s m args below meth c H locs cells slots Q (F0 m pc ls (.ref P.1 :: .int i :: .ref a :: st)) := by
  obtain ⟨pa, pk, pn, px, pz⟩ := P
  match pk, hv with
  | 0, hv => exact va_astq B.1 B.2.1 hK.k hG.1 hG.2.1 hG.2.2 q0 5 qk 5 (r := (RX6, TX6, 3)) ha rfl hv rfl hin hdg (fun H1 l1 g1 g2 g3 => kk H1 l1 ⟨g1, g2, g3⟩)
  | 1, hv => exact va_astqO B.1 B.2.1 hK.k hG.1 hG.2.1 hG.2.2 q0 5 qk 6 (E := RX6) (r := (RX7, TX7, 3)) ha rfl (hK.castW q1954) hv rfl hin hdg (fun H1 l1 g1 g2 g3 => kk H1 l1 ⟨g1, g2, g3⟩)
  | 2, hv => exact va_astqO B.1 B.2.1 hK.k hG.1 hG.2.1 hG.2.2 q0 5 qk 7 (E := RX6) (r := (RX8, TX8, 3)) ha rfl (hK.castW q1955) hv rfl hin hdg (fun H1 l1 g1 g2 g3 => kk H1 l1 ⟨g1, g2, g3⟩)
  | 3, hv => exact va_astqO B.1 B.2.1 hK.k hG.1 hG.2.1 hG.2.2 q0 5 qk 8 (E := RX6) (r := (RX9, TX9, 3)) ha rfl (hK.castW q1958) hv rfl hin hdg (fun H1 l1 g1 g2 g3 => kk H1 l1 ⟨g1, g2, g3⟩)
  | 4, hv => exact va_astqO B.1 B.2.1 hK.k hG.1 hG.2.1 hG.2.2 q0 5 qk 9 (E := RX6) (r := (RX10, TX10, 3)) ha rfl (hK.castW q1956) hv rfl hin hdg (fun H1 l1 g1 g2 g3 => kk H1 l1 ⟨g1, g2, g3⟩)
  | 5, hv => exact va_astqO B.1 B.2.1 hK.k hG.1 hG.2.1 hG.2.2 q0 5 qk 10 (E := RX6) (r := (RX11, TX11, 3)) ha rfl (hK.castW q1957) hv rfl hin hdg (fun H1 l1 g1 g2 g3 => kk H1 l1 ⟨g1, g2, g3⟩)
end WI
def fadd (f : FW) (P : PV) : FW := (upd f.1 8 (f.1 8 + 1), f.2.1, va_up f.2.2 (f.1 8).toNatClampNeg (some P))
set_option maxHeartbeats 4000000 in
/-- Fen.addsPost: one post more -/
theorem tF_addsPost (l : Launch) (X : CX) (fa : Nat → Nat) (rest : va_W) (f : FW) (x1 x2 x3 : Int32) (hin : vp_in (f.1 8) 8) : RX l yX1_addsPost cX1_addsPost 4 (some .int) 5 1 3 112 [.ref (fa 0), .int x1, .int x2, .int x3] X (FP X fa f ++ rest) (fun v (_ : Nat) => v = some (.int (f.1 8 + 1 - 1))) (fun q => FP X fa (fadd f (q, fMk x1, f.1 8, x2, x3)) ++ (PC (q, fMk x1, f.1 8, x2, x3) :: rest)) := by
  refine RX.mk (by decide) (Nat.le_of_ble_eq_true rfl) ?_
  intro p e s m below meth c B hr hlk _ hK hG ls hl
  have hl : lv_has ls 4 [(0, .ref (fa 0)), (1, .int x1), (2, .int x2), (3, .int x3)] := hl
  have hx := B.1
  have hb := B.2.1
  refine lv_aload_n hx hb dX1_addsPost_0 rfl (lv_at hl 0 rfl) ?_
  refine fe_fen_g1 B hK hG.1 dX1_addsPost_1 ?_
  refine lv_aload_n hx hb dX1_addsPost_4 rfl (lv_at hl 0 rfl) ?_
  refine fe_fen_g8 B hK hG.1 dX1_addsPost_5 ?_
  refine lv_iload_n hx hb dX1_addsPost_8 rfl (lv_at hl 1 rfl) ?_
  refine lv_aload_n hx hb dX1_addsPost_9 rfl (lv_at hl 0 rfl) ?_
  refine fe_fen_g8 B hK hG.1 dX1_addsPost_10 ?_
  refine lv_iload_n hx hb dX1_addsPost_13 rfl (lv_at hl 2 rfl) ?_
  refine lv_iload_n hx hb dX1_addsPost_14 rfl (lv_at hl 3 rfl) ?_
  refine w_afterX (w_rSN_RX (As := [.int x1, .int (f.1 8), .int x2, .int x3]) B hK hG (tC_made l X x1 (f.1 8) x2 x3 (FP X fa f ++ rest)) q609 q610 q87 q611 (n := 4) (by decide +kernel) ⟨Nat.le_of_ble_eq_true rfl, Nat.le_of_ble_eq_true rfl⟩ ⟨Nat.le_of_ble_eq_true rfl, Nat.le_of_ble_eq_true rfl⟩ rfl hl.1 rfl (Nat.le_of_ble_eq_true rfl) dX1_addsPost_15) hG.2.2 (fun v u H locs hv hG2 => ?_)
  obtain ⟨q, k⟩ := u
  obtain ⟨rfl, rfl⟩ := hv
  refine W.eq (g2 := F0 m 18 ls [.ref q, .int (f.1 8), .ref (fa 2)]) rfl ?_
  refine W.widen (k := 1) (n := 3) (Nat.le_of_ble_eq_true rfl) (Nat.le_of_ble_eq_true rfl) ?_
  have hG : GG X (FP X fa f ++ (PC (q, fMk x1, f.1 8, x2, x3) :: rest)) s.heap H locs := hG2.perm List.perm_middle.symm
  refine w_astP (P := (q, fMk x1, f.1 8, x2, x3)) B hK hG 7 8 rfl rfl hin dX1_addsPost_18 (fun H locs hG => ?_)
  have hG := GG.arr hG 7 rfl (g := fun i => ((va_up f.2.2 (f.1 8).toNatClampNeg (some (q, fMk x1, f.1 8, x2, x3))) i).map (·.1)) (fun j _ => by
    unfold va_up
    by_cases h : j = (f.1 8).toNatClampNeg
    · rw [if_pos h, if_pos h]; rfl
    · rw [if_neg h, if_neg h])
  have hG : GG X (FP X fa (f.1, f.2.1, va_up f.2.2 (f.1 8).toNatClampNeg (some (q, fMk x1, f.1 8, x2, x3))) ++ (PC (q, fMk x1, f.1 8, x2, x3) :: rest)) s.heap H locs := hG
  refine lv_aload_n hx hb dX1_addsPost_19 rfl (lv_at hl 0 rfl) ?_
  refine lv_dup hx hb dX1_addsPost_20 rfl ?_
  refine fe_fen_g8 B hK hG.1 dX1_addsPost_21 ?_
  refine lv_iconst (v := 1) hx hb dX1_addsPost_24 (by decide) ?_
  refine lv_iadd hx hb dX1_addsPost_25 ?_
  refine fe_fen_p8 B hK hG rfl dX1_addsPost_26 (fun H locs hG => ?_)
  have hG : GG X (FP X fa (fadd f (q, fMk x1, f.1 8, x2, x3)) ++ (PC (q, fMk x1, f.1 8, x2, x3) :: rest)) s.heap H locs := hG
  refine lv_aload_n hx hb dX1_addsPost_29 rfl (lv_at hl 0 rfl) ?_
  refine fe_fen_g8 B hK hG.1 dX1_addsPost_30 ?_
  refine lv_iconst (v := 1) hx hb dX1_addsPost_33 (by decide) ?_
  refine lv_isub hx hb dX1_addsPost_34 ?_
  exact w_iretX B hr hlk q rfl hG dX1_addsPost_35
