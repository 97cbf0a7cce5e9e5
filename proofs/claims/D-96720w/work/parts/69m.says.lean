set_option maxRecDepth 100000
/-! says -/
def kN (k : Fin 6) : String := match k with
  | 0 => "PointAtWhoIsLost$Post"
  | 1 => "PointAtWhoIsLost$Keen"
  | 2 => "PointAtWhoIsLost$Lazy"
  | 3 => "PointAtWhoIsLost$Wild"
  | 4 => "PointAtWhoIsLost$Rotten"
  | 5 => "PointAtWhoIsLost$Torn"
def castK (k j : Fin 6) : Bool := match j, k with
  | 0, _ => true
  | 1, 1 => true
  | 1, 3 => true
  | 2, 2 => true
  | 2, 4 => true
  | 3, 3 => true
  | 4, 4 => true
  | 5, 5 => true
  | _, _ => false

theorem nc_r00 {X : CX} {s : State} (h : KK X s) : va_Nc "[B" "PointAtWhoIsLost$Post" s := h.nc (flat_of_before _ h.1.2.1 (Cond.not (.castable "[B" "PointAtWhoIsLost$Post")) (by decide +kernel))
theorem nc_r10 {X : CX} {s : State} (h : KK X s) : va_Nc "[S" "PointAtWhoIsLost$Post" s := h.nc (flat_of_before _ h.1.2.1 (Cond.not (.castable "[S" "PointAtWhoIsLost$Post")) (by decide +kernel))
theorem nc_r20 {X : CX} {s : State} (h : KK X s) : va_Nc "[I" "PointAtWhoIsLost$Post" s := h.nc (flat_of_before _ h.1.2.1 (Cond.not (.castable "[I" "PointAtWhoIsLost$Post")) (by decide +kernel))
theorem nc_r30 {X : CX} {s : State} (h : KK X s) : va_Nc "[J" "PointAtWhoIsLost$Post" s := h.nc (flat_of_before _ h.1.2.1 (Cond.not (.castable "[J" "PointAtWhoIsLost$Post")) (by decide +kernel))
theorem nc_r40 {X : CX} {s : State} (h : KK X s) : va_Nc "[Z" "PointAtWhoIsLost$Post" s := h.nc (flat_of_before _ h.1.2.1 (Cond.not (.castable "[Z" "PointAtWhoIsLost$Post")) (by decide +kernel))
theorem nc_k01 {X : CX} {s : State} (h : KK X s) : va_Nc "PointAtWhoIsLost$Post" "PointAtWhoIsLost$Keen" s := h.nc (flat_of_before _ h.1.2.1 (Cond.not (.castable "PointAtWhoIsLost$Post" "PointAtWhoIsLost$Keen")) (by decide +kernel))
theorem nc_k21 {X : CX} {s : State} (h : KK X s) : va_Nc "PointAtWhoIsLost$Lazy" "PointAtWhoIsLost$Keen" s := h.nc (flat_of_before _ h.1.2.1 (Cond.not (.castable "PointAtWhoIsLost$Lazy" "PointAtWhoIsLost$Keen")) (by decide +kernel))
theorem nc_k41 {X : CX} {s : State} (h : KK X s) : va_Nc "PointAtWhoIsLost$Rotten" "PointAtWhoIsLost$Keen" s := h.nc (flat_of_before _ h.1.2.1 (Cond.not (.castable "PointAtWhoIsLost$Rotten" "PointAtWhoIsLost$Keen")) (by decide +kernel))
theorem nc_k51 {X : CX} {s : State} (h : KK X s) : va_Nc "PointAtWhoIsLost$Torn" "PointAtWhoIsLost$Keen" s := h.nc (flat_of_before _ h.1.2.1 (Cond.not (.castable "PointAtWhoIsLost$Torn" "PointAtWhoIsLost$Keen")) (by decide +kernel))
theorem nc_r01 {X : CX} {s : State} (h : KK X s) : va_Nc "[B" "PointAtWhoIsLost$Keen" s := h.nc (flat_of_before _ h.1.2.1 (Cond.not (.castable "[B" "PointAtWhoIsLost$Keen")) (by decide +kernel))
theorem nc_r11 {X : CX} {s : State} (h : KK X s) : va_Nc "[S" "PointAtWhoIsLost$Keen" s := h.nc (flat_of_before _ h.1.2.1 (Cond.not (.castable "[S" "PointAtWhoIsLost$Keen")) (by decide +kernel))
theorem nc_r21 {X : CX} {s : State} (h : KK X s) : va_Nc "[I" "PointAtWhoIsLost$Keen" s := h.nc (flat_of_before _ h.1.2.1 (Cond.not (.castable "[I" "PointAtWhoIsLost$Keen")) (by decide +kernel))
theorem nc_r31 {X : CX} {s : State} (h : KK X s) : va_Nc "[J" "PointAtWhoIsLost$Keen" s := h.nc (flat_of_before _ h.1.2.1 (Cond.not (.castable "[J" "PointAtWhoIsLost$Keen")) (by decide +kernel))
theorem nc_r41 {X : CX} {s : State} (h : KK X s) : va_Nc "[Z" "PointAtWhoIsLost$Keen" s := h.nc (flat_of_before _ h.1.2.1 (Cond.not (.castable "[Z" "PointAtWhoIsLost$Keen")) (by decide +kernel))
theorem nc_k02 {X : CX} {s : State} (h : KK X s) : va_Nc "PointAtWhoIsLost$Post" "PointAtWhoIsLost$Lazy" s := h.nc (flat_of_before _ h.1.2.1 (Cond.not (.castable "PointAtWhoIsLost$Post" "PointAtWhoIsLost$Lazy")) (by decide +kernel))
theorem nc_k12 {X : CX} {s : State} (h : KK X s) : va_Nc "PointAtWhoIsLost$Keen" "PointAtWhoIsLost$Lazy" s := h.nc (flat_of_before _ h.1.2.1 (Cond.not (.castable "PointAtWhoIsLost$Keen" "PointAtWhoIsLost$Lazy")) (by decide +kernel))
theorem nc_k32 {X : CX} {s : State} (h : KK X s) : va_Nc "PointAtWhoIsLost$Wild" "PointAtWhoIsLost$Lazy" s := h.nc (flat_of_before _ h.1.2.1 (Cond.not (.castable "PointAtWhoIsLost$Wild" "PointAtWhoIsLost$Lazy")) (by decide +kernel))
theorem nc_k52 {X : CX} {s : State} (h : KK X s) : va_Nc "PointAtWhoIsLost$Torn" "PointAtWhoIsLost$Lazy" s := h.nc (flat_of_before _ h.1.2.1 (Cond.not (.castable "PointAtWhoIsLost$Torn" "PointAtWhoIsLost$Lazy")) (by decide +kernel))
theorem nc_r02 {X : CX} {s : State} (h : KK X s) : va_Nc "[B" "PointAtWhoIsLost$Lazy" s := h.nc (flat_of_before _ h.1.2.1 (Cond.not (.castable "[B" "PointAtWhoIsLost$Lazy")) (by decide +kernel))
theorem nc_r12 {X : CX} {s : State} (h : KK X s) : va_Nc "[S" "PointAtWhoIsLost$Lazy" s := h.nc (flat_of_before _ h.1.2.1 (Cond.not (.castable "[S" "PointAtWhoIsLost$Lazy")) (by decide +kernel))
theorem nc_r22 {X : CX} {s : State} (h : KK X s) : va_Nc "[I" "PointAtWhoIsLost$Lazy" s := h.nc (flat_of_before _ h.1.2.1 (Cond.not (.castable "[I" "PointAtWhoIsLost$Lazy")) (by decide +kernel))
theorem nc_r32 {X : CX} {s : State} (h : KK X s) : va_Nc "[J" "PointAtWhoIsLost$Lazy" s := h.nc (flat_of_before _ h.1.2.1 (Cond.not (.castable "[J" "PointAtWhoIsLost$Lazy")) (by decide +kernel))
theorem nc_r42 {X : CX} {s : State} (h : KK X s) : va_Nc "[Z" "PointAtWhoIsLost$Lazy" s := h.nc (flat_of_before _ h.1.2.1 (Cond.not (.castable "[Z" "PointAtWhoIsLost$Lazy")) (by decide +kernel))
theorem nc_k03 {X : CX} {s : State} (h : KK X s) : va_Nc "PointAtWhoIsLost$Post" "PointAtWhoIsLost$Wild" s := h.nc (flat_of_before _ h.1.2.1 (Cond.not (.castable "PointAtWhoIsLost$Post" "PointAtWhoIsLost$Wild")) (by decide +kernel))
theorem nc_k13 {X : CX} {s : State} (h : KK X s) : va_Nc "PointAtWhoIsLost$Keen" "PointAtWhoIsLost$Wild" s := h.nc (flat_of_before _ h.1.2.1 (Cond.not (.castable "PointAtWhoIsLost$Keen" "PointAtWhoIsLost$Wild")) (by decide +kernel))
theorem nc_k23 {X : CX} {s : State} (h : KK X s) : va_Nc "PointAtWhoIsLost$Lazy" "PointAtWhoIsLost$Wild" s := h.nc (flat_of_before _ h.1.2.1 (Cond.not (.castable "PointAtWhoIsLost$Lazy" "PointAtWhoIsLost$Wild")) (by decide +kernel))
theorem nc_k43 {X : CX} {s : State} (h : KK X s) : va_Nc "PointAtWhoIsLost$Rotten" "PointAtWhoIsLost$Wild" s := h.nc (flat_of_before _ h.1.2.1 (Cond.not (.castable "PointAtWhoIsLost$Rotten" "PointAtWhoIsLost$Wild")) (by decide +kernel))
theorem nc_k53 {X : CX} {s : State} (h : KK X s) : va_Nc "PointAtWhoIsLost$Torn" "PointAtWhoIsLost$Wild" s := h.nc (flat_of_before _ h.1.2.1 (Cond.not (.castable "PointAtWhoIsLost$Torn" "PointAtWhoIsLost$Wild")) (by decide +kernel))
theorem nc_r03 {X : CX} {s : State} (h : KK X s) : va_Nc "[B" "PointAtWhoIsLost$Wild" s := h.nc (flat_of_before _ h.1.2.1 (Cond.not (.castable "[B" "PointAtWhoIsLost$Wild")) (by decide +kernel))
theorem nc_r13 {X : CX} {s : State} (h : KK X s) : va_Nc "[S" "PointAtWhoIsLost$Wild" s := h.nc (flat_of_before _ h.1.2.1 (Cond.not (.castable "[S" "PointAtWhoIsLost$Wild")) (by decide +kernel))
theorem nc_r23 {X : CX} {s : State} (h : KK X s) : va_Nc "[I" "PointAtWhoIsLost$Wild" s := h.nc (flat_of_before _ h.1.2.1 (Cond.not (.castable "[I" "PointAtWhoIsLost$Wild")) (by decide +kernel))
theorem nc_r33 {X : CX} {s : State} (h : KK X s) : va_Nc "[J" "PointAtWhoIsLost$Wild" s := h.nc (flat_of_before _ h.1.2.1 (Cond.not (.castable "[J" "PointAtWhoIsLost$Wild")) (by decide +kernel))
theorem nc_r43 {X : CX} {s : State} (h : KK X s) : va_Nc "[Z" "PointAtWhoIsLost$Wild" s := h.nc (flat_of_before _ h.1.2.1 (Cond.not (.castable "[Z" "PointAtWhoIsLost$Wild")) (by decide +kernel))
theorem nc_k04 {X : CX} {s : State} (h : KK X s) : va_Nc "PointAtWhoIsLost$Post" "PointAtWhoIsLost$Rotten" s := h.nc (flat_of_before _ h.1.2.1 (Cond.not (.castable "PointAtWhoIsLost$Post" "PointAtWhoIsLost$Rotten")) (by decide +kernel))
theorem nc_k14 {X : CX} {s : State} (h : KK X s) : va_Nc "PointAtWhoIsLost$Keen" "PointAtWhoIsLost$Rotten" s := h.nc (flat_of_before _ h.1.2.1 (Cond.not (.castable "PointAtWhoIsLost$Keen" "PointAtWhoIsLost$Rotten")) (by decide +kernel))
theorem nc_k24 {X : CX} {s : State} (h : KK X s) : va_Nc "PointAtWhoIsLost$Lazy" "PointAtWhoIsLost$Rotten" s := h.nc (flat_of_before _ h.1.2.1 (Cond.not (.castable "PointAtWhoIsLost$Lazy" "PointAtWhoIsLost$Rotten")) (by decide +kernel))
theorem nc_k34 {X : CX} {s : State} (h : KK X s) : va_Nc "PointAtWhoIsLost$Wild" "PointAtWhoIsLost$Rotten" s := h.nc (flat_of_before _ h.1.2.1 (Cond.not (.castable "PointAtWhoIsLost$Wild" "PointAtWhoIsLost$Rotten")) (by decide +kernel))
theorem nc_k54 {X : CX} {s : State} (h : KK X s) : va_Nc "PointAtWhoIsLost$Torn" "PointAtWhoIsLost$Rotten" s := h.nc (flat_of_before _ h.1.2.1 (Cond.not (.castable "PointAtWhoIsLost$Torn" "PointAtWhoIsLost$Rotten")) (by decide +kernel))
theorem nc_r04 {X : CX} {s : State} (h : KK X s) : va_Nc "[B" "PointAtWhoIsLost$Rotten" s := h.nc (flat_of_before _ h.1.2.1 (Cond.not (.castable "[B" "PointAtWhoIsLost$Rotten")) (by decide +kernel))
theorem nc_r14 {X : CX} {s : State} (h : KK X s) : va_Nc "[S" "PointAtWhoIsLost$Rotten" s := h.nc (flat_of_before _ h.1.2.1 (Cond.not (.castable "[S" "PointAtWhoIsLost$Rotten")) (by decide +kernel))
theorem nc_r24 {X : CX} {s : State} (h : KK X s) : va_Nc "[I" "PointAtWhoIsLost$Rotten" s := h.nc (flat_of_before _ h.1.2.1 (Cond.not (.castable "[I" "PointAtWhoIsLost$Rotten")) (by decide +kernel))
theorem nc_r34 {X : CX} {s : State} (h : KK X s) : va_Nc "[J" "PointAtWhoIsLost$Rotten" s := h.nc (flat_of_before _ h.1.2.1 (Cond.not (.castable "[J" "PointAtWhoIsLost$Rotten")) (by decide +kernel))
theorem nc_r44 {X : CX} {s : State} (h : KK X s) : va_Nc "[Z" "PointAtWhoIsLost$Rotten" s := h.nc (flat_of_before _ h.1.2.1 (Cond.not (.castable "[Z" "PointAtWhoIsLost$Rotten")) (by decide +kernel))
theorem nc_k05 {X : CX} {s : State} (h : KK X s) : va_Nc "PointAtWhoIsLost$Post" "PointAtWhoIsLost$Torn" s := h.nc (flat_of_before _ h.1.2.1 (Cond.not (.castable "PointAtWhoIsLost$Post" "PointAtWhoIsLost$Torn")) (by decide +kernel))
theorem nc_k15 {X : CX} {s : State} (h : KK X s) : va_Nc "PointAtWhoIsLost$Keen" "PointAtWhoIsLost$Torn" s := h.nc (flat_of_before _ h.1.2.1 (Cond.not (.castable "PointAtWhoIsLost$Keen" "PointAtWhoIsLost$Torn")) (by decide +kernel))
theorem nc_k25 {X : CX} {s : State} (h : KK X s) : va_Nc "PointAtWhoIsLost$Lazy" "PointAtWhoIsLost$Torn" s := h.nc (flat_of_before _ h.1.2.1 (Cond.not (.castable "PointAtWhoIsLost$Lazy" "PointAtWhoIsLost$Torn")) (by decide +kernel))
theorem nc_k35 {X : CX} {s : State} (h : KK X s) : va_Nc "PointAtWhoIsLost$Wild" "PointAtWhoIsLost$Torn" s := h.nc (flat_of_before _ h.1.2.1 (Cond.not (.castable "PointAtWhoIsLost$Wild" "PointAtWhoIsLost$Torn")) (by decide +kernel))
theorem nc_k45 {X : CX} {s : State} (h : KK X s) : va_Nc "PointAtWhoIsLost$Rotten" "PointAtWhoIsLost$Torn" s := h.nc (flat_of_before _ h.1.2.1 (Cond.not (.castable "PointAtWhoIsLost$Rotten" "PointAtWhoIsLost$Torn")) (by decide +kernel))
theorem nc_r05 {X : CX} {s : State} (h : KK X s) : va_Nc "[B" "PointAtWhoIsLost$Torn" s := h.nc (flat_of_before _ h.1.2.1 (Cond.not (.castable "[B" "PointAtWhoIsLost$Torn")) (by decide +kernel))
theorem nc_r15 {X : CX} {s : State} (h : KK X s) : va_Nc "[S" "PointAtWhoIsLost$Torn" s := h.nc (flat_of_before _ h.1.2.1 (Cond.not (.castable "[S" "PointAtWhoIsLost$Torn")) (by decide +kernel))
theorem nc_r25 {X : CX} {s : State} (h : KK X s) : va_Nc "[I" "PointAtWhoIsLost$Torn" s := h.nc (flat_of_before _ h.1.2.1 (Cond.not (.castable "[I" "PointAtWhoIsLost$Torn")) (by decide +kernel))
theorem nc_r35 {X : CX} {s : State} (h : KK X s) : va_Nc "[J" "PointAtWhoIsLost$Torn" s := h.nc (flat_of_before _ h.1.2.1 (Cond.not (.castable "[J" "PointAtWhoIsLost$Torn")) (by decide +kernel))
theorem nc_r45 {X : CX} {s : State} (h : KK X s) : va_Nc "[Z" "PointAtWhoIsLost$Torn" s := h.nc (flat_of_before _ h.1.2.1 (Cond.not (.castable "[Z" "PointAtWhoIsLost$Torn")) (by decide +kernel))
theorem nc_kind {X : CX} {s : State} (h : KK X s) (k j : Fin 6) (hc : castK k j = false) : va_Nc (kN k) (kN j) s := by
  match j, k, hc with
  | 0, 0, hc => exact absurd hc (by decide)
  | 0, 1, hc => exact absurd hc (by decide)
  | 0, 2, hc => exact absurd hc (by decide)
  | 0, 3, hc => exact absurd hc (by decide)
  | 0, 4, hc => exact absurd hc (by decide)
  | 0, 5, hc => exact absurd hc (by decide)
  | 1, 0, _ => exact nc_k01 h
  | 1, 1, hc => exact absurd hc (by decide)
  | 1, 2, _ => exact nc_k21 h
  | 1, 3, hc => exact absurd hc (by decide)
  | 1, 4, _ => exact nc_k41 h
  | 1, 5, _ => exact nc_k51 h
  | 2, 0, _ => exact nc_k02 h
  | 2, 1, _ => exact nc_k12 h
  | 2, 2, hc => exact absurd hc (by decide)
  | 2, 3, _ => exact nc_k32 h
  | 2, 4, hc => exact absurd hc (by decide)
  | 2, 5, _ => exact nc_k52 h
  | 3, 0, _ => exact nc_k03 h
  | 3, 1, _ => exact nc_k13 h
  | 3, 2, _ => exact nc_k23 h
  | 3, 3, hc => exact absurd hc (by decide)
  | 3, 4, _ => exact nc_k43 h
  | 3, 5, _ => exact nc_k53 h
  | 4, 0, _ => exact nc_k04 h
  | 4, 1, _ => exact nc_k14 h
  | 4, 2, _ => exact nc_k24 h
  | 4, 3, _ => exact nc_k34 h
  | 4, 4, hc => exact absurd hc (by decide)
  | 4, 5, _ => exact nc_k54 h
  | 5, 0, _ => exact nc_k05 h
  | 5, 1, _ => exact nc_k15 h
  | 5, 2, _ => exact nc_k25 h
  | 5, 3, _ => exact nc_k35 h
  | 5, 4, _ => exact nc_k45 h
  | 5, 5, hc => exact absurd hc (by decide)
theorem nc_rowK {X : CX} {s : State} (h : KK X s) (k : Fin 5) (j : Fin 6) : va_Nc (rowN k) (kN j) s := by
  match j, k with
  | 0, 0 => exact nc_r00 h
  | 0, 1 => exact nc_r10 h
  | 0, 2 => exact nc_r20 h
  | 0, 3 => exact nc_r30 h
  | 0, 4 => exact nc_r40 h
  | 1, 0 => exact nc_r01 h
  | 1, 1 => exact nc_r11 h
  | 1, 2 => exact nc_r21 h
  | 1, 3 => exact nc_r31 h
  | 1, 4 => exact nc_r41 h
  | 2, 0 => exact nc_r02 h
  | 2, 1 => exact nc_r12 h
  | 2, 2 => exact nc_r22 h
  | 2, 3 => exact nc_r32 h
  | 2, 4 => exact nc_r42 h
  | 3, 0 => exact nc_r03 h
  | 3, 1 => exact nc_r13 h
  | 3, 2 => exact nc_r23 h
  | 3, 3 => exact nc_r33 h
  | 3, 4 => exact nc_r43 h
  | 4, 0 => exact nc_r04 h
  | 4, 1 => exact nc_r14 h
  | 4, 2 => exact nc_r24 h
  | 4, 3 => exact nc_r34 h
  | 4, 4 => exact nc_r44 h
  | 5, 0 => exact nc_r05 h
  | 5, 1 => exact nc_r15 h
  | 5, 2 => exact nc_r25 h
  | 5, 3 => exact nc_r35 h
  | 5, 4 => exact nc_r45 h
theorem post_recv {X : CX} {s : State} {ws : va_W} {H : Heap} {P : PV} (hK : KK X s) (hP : va_P X.2.2.1 vwCl (PC P :: ws) H) : ∃ cell : Cell, H[P.1]? = some cell ∧ cell.vm.isStatics = false ∧ s.vm.findClass (kN P.2.1) = some cell.cls := by
  obtain ⟨pa, pk, pn, px, pz⟩ := P
  match pk, hP with
  | 0, hP => exact va_recv (q := (RX6, TX6, 3)) hK.k hP rfl (q0 := 0) rfl
  | 1, hP => exact va_recv (q := (RX7, TX7, 3)) hK.k hP rfl (q0 := 0) rfl
  | 2, hP => exact va_recv (q := (RX8, TX8, 3)) hK.k hP rfl (q0 := 0) rfl
  | 3, hP => exact va_recv (q := (RX9, TX9, 3)) hK.k hP rfl (q0 := 0) rfl
  | 4, hP => exact va_recv (q := (RX10, TX10, 3)) hK.k hP rfl (q0 := 0) rfl
  | 5, hP => exact va_recv (q := (RX11, TX11, 3)) hK.k hP rfl (q0 := 0) rfl
theorem kN_len (k : Fin 6) : (kN k).toList.length ≤ 60 := by match k with | 0 => decide | 1 => decide | 2 => decide | 3 => decide | 4 => decide | 5 => decide
theorem kN_pk (k : Fin 6) : packageOf (kN k) = "" ∨ packageOf (kN k) = "java/lang" := by match k with | 0 => exact Or.inl (by decide +kernel) | 1 => exact Or.inl (by decide +kernel) | 2 => exact Or.inl (by decide +kernel) | 3 => exact Or.inl (by decide +kernel) | 4 => exact Or.inl (by decide +kernel) | 5 => exact Or.inl (by decide +kernel)
theorem rowN_len (k : Fin 5) : (rowN k).toList.length ≤ 60 := by match k with | 0 => decide | 1 => decide | 2 => decide | 3 => decide | 4 => decide
theorem rowN_pk (k : Fin 5) : packageOf (rowN k) = "" ∨ packageOf (rowN k) = "java/lang" := by match k with | 0 => exact Or.inl (by decide +kernel) | 1 => exact Or.inl (by decide +kernel) | 2 => exact Or.inl (by decide +kernel) | 3 => exact Or.inl (by decide +kernel) | 4 => exact Or.inl (by decide +kernel)
theorem link_K (j : Fin 6) : Cond.classLink RX0 (match j with | 0 => 13 | 1 => 19 | 2 => 22 | 3 => 25 | 4 => 28 | 5 => 31) (kN j) ∈ lw_all := by match j with | 0 => exact q381 | 1 => exact q503 | 2 => exact q565 | 3 => exact q566 | 4 => exact q567 | 5 => exact q568
section SAYC
variable {p : Program} {l : Launch} {e : Env} {R : Room} {s : State} {m : MethodId} {args : Array Value} {below : List Frame} {meth : Method} {c : Code} {H : Heap} {locs : List Loc} {cells slots : Nat} {Q : State → Prop} {cc : ByteArray} {nL pc : Nat} {ls : Array Slot} {st : List Value} {X : CX} {rest ws : va_W} {ca fa : Nat → Nat}

theorem w_castK0 (B : CallFix p m c cc nL s args lw_all RX0) (hK : KK X s) {P : PV} (hP : va_P X.2.2.1 vwCl (PC P :: ws) H) (hc : castK P.2.1 0 = true) (hdg : decode cc pc = .ok (.checkcast 13, 3)) (kk : W p l e R s m args below meth c H locs cells slots Q (F0 m (pc + 3) ls (.ref P.1 :: st))) : W p l e R s m args below meth c H locs cells slots Q (F0 m pc ls (.ref P.1 :: st)) := by
  have hr := post_recv hK hP
  obtain ⟨pa, pk, pn, px, pz⟩ := P
  match pk, hc, hP, hr with
  | 0, _, _, hr => exact va_castE B.1 B.2.1 B.2.2.2.1 (B.2.2.2.2 _ (link_K 0)) hr hdg kk
  | 1, _, hP, _ => exact w_castP B hK (P := (pa, 1, pn, px, pz)) hP hdg kk
  | 2, _, hP, _ => exact w_castP B hK (P := (pa, 2, pn, px, pz)) hP hdg kk
  | 3, _, hP, _ => exact w_castP B hK (P := (pa, 3, pn, px, pz)) hP hdg kk
  | 4, _, hP, _ => exact w_castP B hK (P := (pa, 4, pn, px, pz)) hP hdg kk
  | 5, _, hP, _ => exact w_castP B hK (P := (pa, 5, pn, px, pz)) hP hdg kk
theorem w_castK1 (B : CallFix p m c cc nL s args lw_all RX0) (hK : KK X s) {P : PV} (hP : va_P X.2.2.1 vwCl (PC P :: ws) H) (hc : castK P.2.1 1 = true) (hdg : decode cc pc = .ok (.checkcast 19, 3)) (kk : W p l e R s m args below meth c H locs cells slots Q (F0 m (pc + 3) ls (.ref P.1 :: st))) : W p l e R s m args below meth c H locs cells slots Q (F0 m pc ls (.ref P.1 :: st)) := by
  have hr := post_recv hK hP
  obtain ⟨pa, pk, pn, px, pz⟩ := P
  match pk, hc, hP, hr with
  | 0, hc, _, _ => exact absurd (show castK 0 1 = true from hc) (by decide)
  | 1, _, _, hr => exact va_castE B.1 B.2.1 B.2.2.2.1 (B.2.2.2.2 _ (link_K 1)) hr hdg kk
  | 2, hc, _, _ => exact absurd (show castK 2 1 = true from hc) (by decide)
  | 3, _, _, hr => exact va_castY B.1 B.2.1 B.2.2.2.1 (B.2.2.2.2 _ (link_K 1)) (hK.castW q1959) hr hdg kk
  | 4, hc, _, _ => exact absurd (show castK 4 1 = true from hc) (by decide)
  | 5, hc, _, _ => exact absurd (show castK 5 1 = true from hc) (by decide)
theorem w_castK2 (B : CallFix p m c cc nL s args lw_all RX0) (hK : KK X s) {P : PV} (hP : va_P X.2.2.1 vwCl (PC P :: ws) H) (hc : castK P.2.1 2 = true) (hdg : decode cc pc = .ok (.checkcast 22, 3)) (kk : W p l e R s m args below meth c H locs cells slots Q (F0 m (pc + 3) ls (.ref P.1 :: st))) : W p l e R s m args below meth c H locs cells slots Q (F0 m pc ls (.ref P.1 :: st)) := by
  have hr := post_recv hK hP
  obtain ⟨pa, pk, pn, px, pz⟩ := P
  match pk, hc, hP, hr with
  | 0, hc, _, _ => exact absurd (show castK 0 2 = true from hc) (by decide)
  | 1, hc, _, _ => exact absurd (show castK 1 2 = true from hc) (by decide)
  | 2, _, _, hr => exact va_castE B.1 B.2.1 B.2.2.2.1 (B.2.2.2.2 _ (link_K 2)) hr hdg kk
  | 3, hc, _, _ => exact absurd (show castK 3 2 = true from hc) (by decide)
  | 4, _, _, hr => exact va_castY B.1 B.2.1 B.2.2.2.1 (B.2.2.2.2 _ (link_K 2)) (hK.castW q1960) hr hdg kk
  | 5, hc, _, _ => exact absurd (show castK 5 2 = true from hc) (by decide)
theorem w_castK3 (B : CallFix p m c cc nL s args lw_all RX0) (hK : KK X s) {P : PV} (hP : va_P X.2.2.1 vwCl (PC P :: ws) H) (hc : castK P.2.1 3 = true) (hdg : decode cc pc = .ok (.checkcast 25, 3)) (kk : W p l e R s m args below meth c H locs cells slots Q (F0 m (pc + 3) ls (.ref P.1 :: st))) : W p l e R s m args below meth c H locs cells slots Q (F0 m pc ls (.ref P.1 :: st)) := by
  have hr := post_recv hK hP
  obtain ⟨pa, pk, pn, px, pz⟩ := P
  match pk, hc, hP, hr with
  | 0, hc, _, _ => exact absurd (show castK 0 3 = true from hc) (by decide)
  | 1, hc, _, _ => exact absurd (show castK 1 3 = true from hc) (by decide)
  | 2, hc, _, _ => exact absurd (show castK 2 3 = true from hc) (by decide)
  | 3, _, _, hr => exact va_castE B.1 B.2.1 B.2.2.2.1 (B.2.2.2.2 _ (link_K 3)) hr hdg kk
  | 4, hc, _, _ => exact absurd (show castK 4 3 = true from hc) (by decide)
  | 5, hc, _, _ => exact absurd (show castK 5 3 = true from hc) (by decide)
theorem w_castK4 (B : CallFix p m c cc nL s args lw_all RX0) (hK : KK X s) {P : PV} (hP : va_P X.2.2.1 vwCl (PC P :: ws) H) (hc : castK P.2.1 4 = true) (hdg : decode cc pc = .ok (.checkcast 28, 3)) (kk : W p l e R s m args below meth c H locs cells slots Q (F0 m (pc + 3) ls (.ref P.1 :: st))) : W p l e R s m args below meth c H locs cells slots Q (F0 m pc ls (.ref P.1 :: st)) := by
  have hr := post_recv hK hP
  obtain ⟨pa, pk, pn, px, pz⟩ := P
  match pk, hc, hP, hr with
  | 0, hc, _, _ => exact absurd (show castK 0 4 = true from hc) (by decide)
  | 1, hc, _, _ => exact absurd (show castK 1 4 = true from hc) (by decide)
  | 2, hc, _, _ => exact absurd (show castK 2 4 = true from hc) (by decide)
  | 3, hc, _, _ => exact absurd (show castK 3 4 = true from hc) (by decide)
  | 4, _, _, hr => exact va_castE B.1 B.2.1 B.2.2.2.1 (B.2.2.2.2 _ (link_K 4)) hr hdg kk
  | 5, hc, _, _ => exact absurd (show castK 5 4 = true from hc) (by decide)
theorem w_castK5 (B : CallFix p m c cc nL s args lw_all RX0) (hK : KK X s) {P : PV} (hP : va_P X.2.2.1 vwCl (PC P :: ws) H) (hc : castK P.2.1 5 = true) (hdg : decode cc pc = .ok (.checkcast 31, 3)) (kk : W p l e R s m args below meth c H locs cells slots Q (F0 m (pc + 3) ls (.ref P.1 :: st))) : W p l e R s m args below meth c H locs cells slots Q (F0 m pc ls (.ref P.1 :: st)) := by
  have hr := post_recv hK hP
  obtain ⟨pa, pk, pn, px, pz⟩ := P
  match pk, hc, hP, hr with
  | 0, hc, _, _ => exact absurd (show castK 0 5 = true from hc) (by decide)
  | 1, hc, _, _ => exact absurd (show castK 1 5 = true from hc) (by decide)
  | 2, hc, _, _ => exact absurd (show castK 2 5 = true from hc) (by decide)
  | 3, hc, _, _ => exact absurd (show castK 3 5 = true from hc) (by decide)
  | 4, hc, _, _ => exact absurd (show castK 4 5 = true from hc) (by decide)
  | 5, _, _, hr => exact va_castE B.1 B.2.1 B.2.2.2.1 (B.2.2.2.2 _ (link_K 5)) hr hdg kk
end SAYC
/-- the kind that is asked for -/
def fKi (x : Int32) : Fin 6 := if x = 0 then 0 else if x = 1 then 1 else if x = 2 then 2 else if x = 3 then 3 else if x = 4 then 4 else 5
noncomputable def fC_says (w : CW) (x1 x2 : Int32) : Option (Int32 × CW) :=
  (fC_isShelf x1).bind fun a => if a = 0 then fC_no w (-2) else
  (fC_isIn x2 0 5).bind fun b => if b = 0 then fC_no w (-2) else
  (inb 8 x1).bind fun _ => hc3 (chd w x1.toNatClampNeg) (fC_no w (-4)) (fun P => (inL (cpl w) P).bind fun _ =>
    if castK P.2.1 (fKi x2) = true then (if x2 = 0 then some (P.2.2.2.1, w) else fC_armOf w P) else fC_no w (-3)) (fun _ => fC_no w (-3))
set_option maxHeartbeats 4000000 in
theorem tC_says (l : Launch) (hlt : l.stackTraces = false) (X : CX) (ca fa : Nat → Nat) (rest : va_W) (w w' : CW) (x1 x2 : Int32) (r : Int32) (hf : fC_says w x1 x2 = some (r, w')) : HX l yX0_says cX0_says 5 (some .int) [(44, 87, 133, 165), (88, 96, 133, 165), (97, 105, 133, 165), (106, 114, 133, 165), (115, 123, 133, 165), (124, 132, 133, 165)] 7 3 1770 10242 [.ref (ca 0), .int x1, .int x2] X (CP X ca fa w ++ rest) (fun v (_ : Unit) => v = some (.int r)) (fun _ => CP X ca fa w' ++ rest) := by
  refine HX.mk (by decide) (Nat.le_of_ble_eq_true rfl) ?_
  intro p e s m below meth c B hr hlk htab hK hG ls hl
  have hx := B.1
  have hb := B.2.1
  have hl : lv_has ls 5 [(0, .ref (ca 0)), (1, .int x1), (2, .int x2)] := hl
  unfold fC_says at hf
  have no : fC_no w (-2) = some (r, w') → W p l e (RMw 7 3 1770 10242) s m [Value.ref (ca 0), Value.int x1, Value.int x2].toArray below meth c s.heap [] 0 0 (MQ below (QX X (fun v (_ : Unit) => v = some (.int r)) (fun _ => CP X ca fa w' ++ rest)) [Value.ref (ca 0), Value.int x1, Value.int x2].toArray s 3 1770 (Az X)) (F0 m 16 ls []) := by
    intro hf
    refine lv_aload_n hx hb dX0_says_16 rfl (lv_at hl 0 rfl) ?_
    refine lv_bipush (v := (-2)) hx hb dX0_says_17 (by decide) ?_
    refine cC_no B hK hG hf rfl ⟨Nat.le_of_ble_eq_true rfl, Nat.le_of_ble_eq_true rfl⟩ ⟨Nat.zero_le _, Nat.zero_le _⟩ hl.1 (Nat.le_of_ble_eq_true rfl) dX0_says_19 (fun H locs hG => ?_)
    refine W.widen (k := 3) (n := 1770) (Nat.le_of_ble_eq_true rfl) (Nat.le_of_ble_eq_true rfl) ?_
    exact w_iretX B hr hlk () rfl hG dX0_says_22
  refine lv_iload_n hx hb dX0_says_0 rfl (lv_at hl 1 rfl) ?_
  obtain ⟨a, e_1, hf⟩ := bo hf
  refine cC_isShelf B e_1 ⟨Nat.le_of_ble_eq_true rfl, Nat.le_of_ble_eq_true rfl⟩ ⟨Nat.zero_le _, Nat.zero_le _⟩ hl.1 (Nat.le_of_ble_eq_true rfl) dX0_says_1 ?_
  refine lv_if_eq (tgt := 16) hx hb dX0_says_4 (by decide) (fun c_1 => no (ifp c_1 hf)) (fun c_1 => ?_)
  have hf := ifn c_1 hf
  obtain ⟨b, e_2, hf⟩ := bo hf
  refine lv_iload_n hx hb dX0_says_7 rfl (lv_at hl 2 rfl) ?_
  refine lv_iconst (v := 0) hx hb dX0_says_8 (by decide) ?_
  refine lv_iconst (v := 5) hx hb dX0_says_9 (by decide) ?_
  refine cC_isIn B e_2 ⟨Nat.le_of_ble_eq_true rfl, Nat.le_of_ble_eq_true rfl⟩ ⟨Nat.zero_le _, Nat.zero_le _⟩ hl.1 (Nat.le_of_ble_eq_true rfl) dX0_says_10 ?_
  refine lv_if_ne (tgt := 23) hx hb dX0_says_13 (by decide) (fun c_2 => ?_) (fun c_2 => no (ifp c_2 hf))
  have hf := ifn c_2 hf
  obtain ⟨u, hu, hf⟩ := bo hf
  refine lv_aload_n hx hb dX0_says_23 rfl (lv_at hl 0 rfl) ?_
  refine co_this_g4 B hK hG.1 dX0_says_24 ?_
  refine lv_iload_n hx hb dX0_says_27 rfl (lv_at hl 1 rfl) ?_
  refine co_sh_l B hK hG.1 hu dX0_says_28 ?_
  -- the handler
  have other : ∀ (q : Nat) (H : Heap) (locs : List Loc), GG X (CP X ca fa w ++ rest) s.heap H locs → fC_no w (-3) = some (r, w') → ∀ (ls : Array Slot) , lv_has ls 5 [(0, .ref (ca 0))] → W p l e (RMw 7 3 1770 10242) s m [Value.ref (ca 0), Value.int x1, Value.int x2].toArray below meth c H locs (0 + 3) (0 + 1770) (MQ below (QX X (fun v (_ : Unit) => v = some (.int r)) (fun _ => CP X ca fa w' ++ rest)) [Value.ref (ca 0), Value.int x1, Value.int x2].toArray s 3 1770 (Az X)) (F0 m 133 ls [.ref q]) := by
    intro q H locs hG hf ls hl
    refine lv_astore hx hb dX0_says_133 hl (by decide) rfl (fun ls hl => ?_)
    refine lv_aload_n hx hb dX0_says_135 rfl (lv_at hl 1 rfl) ?_
    refine lv_bipush (v := (-3)) hx hb dX0_says_136 (by decide) ?_
    refine cC_no B hK hG hf rfl ⟨Nat.le_of_ble_eq_true rfl, Nat.le_of_ble_eq_true rfl⟩ ⟨Nat.le_of_ble_eq_true rfl, Nat.le_of_ble_eq_true rfl⟩ hl.1 (Nat.le_of_ble_eq_true rfl) dX0_says_138 (fun H locs hG => ?_)
    refine W.widen (k := 3) (n := 1770) (Nat.le_of_ble_eq_true rfl) (Nat.le_of_ble_eq_true rfl) ?_
    exact w_iretX B hr hlk () rfl hG dX0_says_141
  have bad : ∀ (a : Nat) (A : String), (∀ j : Fin 6, j = fKi x2 → va_Nc A (kN j) s) → (∃ cell : Cell, s.heap[a]? = some cell ∧ cell.vm.isStatics = false ∧ s.vm.findClass A = some cell.cls) → A.toList.length ≤ 60 → (packageOf A = "" ∨ packageOf A = "java/lang") → fC_no w (-3) = some (r, w') → ∀ ls : Array Slot, lv_has ls 5 [(3, .ref a), (0, .ref (ca 0)), (1, .int x1), (2, .int x2)] → W p l e (RMw 7 3 1770 10242) s m [Value.ref (ca 0), Value.int x1, Value.int x2].toArray below meth c s.heap [] 0 0 (MQ below (QX X (fun v (_ : Unit) => v = some (.int r)) (fun _ => CP X ca fa w' ++ rest)) [Value.ref (ca 0), Value.int x1, Value.int x2].toArray s 3 1770 (Az X)) (F0 m 44 ls []) := by
    intro a A hnc hrc hA pA hf ls hl
    refine lv_iload_n hx hb dX0_says_44 rfl (lv_at hl 3 rfl) ?_
    by_cases c_0 : x2 = 0
    · have hk : fKi x2 = 0 := by simp [fKi, c_0]
      refine w_tab (tgt := 80) 0 c_0 hx hb dX0_says_45 (by decide) (by decide) rfl (by decide) ?_
      refine lv_aload_n hx hb dX0_says_80 rfl (lv_at hl 0 rfl) ?_
      refine w_castNo (st := []) B hK hG hlt hl.1 (link_K 0) (hnc 0 hk.symm) hrc hA (kN_len 0) pA (kN_pk 0) (by decide) (Nat.le_of_ble_eq_true rfl) (by decide) (by decide) dX0_says_81 (fun x H1 locs1 hG1 _ hE => ?_)
      refine w_catchS B hK [] [(88, 96, 133, 165), (97, 105, 133, 165), (106, 114, 133, 165), (115, 123, 133, 165), (124, 132, 133, 165)] htab (by decide) (by decide) (by decide) q489 hE q501 q490 ?_
      exact other x H1 locs1 hG1 hf ls (lv_sub hl [1] rfl)
    by_cases c_1 : x2 = 1
    · have hk : fKi x2 = 1 := by simp [fKi, c_1]
      refine w_tab (tgt := 88) 1 c_1 hx hb dX0_says_45 (by decide) (by decide) rfl (by decide) ?_
      refine lv_aload_n hx hb dX0_says_88 rfl (lv_at hl 1 rfl) ?_
      refine lv_aload_n hx hb dX0_says_89 rfl (lv_at hl 0 rfl) ?_
      refine w_castNo (st := [.ref (ca 0)]) B hK hG hlt hl.1 (link_K 1) (hnc 1 hk.symm) hrc hA (kN_len 1) pA (kN_pk 1) (by decide) (Nat.le_of_ble_eq_true rfl) (by decide) (by decide) dX0_says_90 (fun x H1 locs1 hG1 _ hE => ?_)
      refine w_catchS B hK [(44, 87, 133, 165)] [(97, 105, 133, 165), (106, 114, 133, 165), (115, 123, 133, 165), (124, 132, 133, 165)] htab (by decide) (by decide) (by decide) q489 hE q501 q490 ?_
      exact other x H1 locs1 hG1 hf ls (lv_sub hl [1] rfl)
    by_cases c_2 : x2 = 2
    · have hk : fKi x2 = 2 := by simp [fKi, c_2]
      refine w_tab (tgt := 97) 2 c_2 hx hb dX0_says_45 (by decide) (by decide) rfl (by decide) ?_
      refine lv_aload_n hx hb dX0_says_97 rfl (lv_at hl 1 rfl) ?_
      refine lv_aload_n hx hb dX0_says_98 rfl (lv_at hl 0 rfl) ?_
      refine w_castNo (st := [.ref (ca 0)]) B hK hG hlt hl.1 (link_K 2) (hnc 2 hk.symm) hrc hA (kN_len 2) pA (kN_pk 2) (by decide) (Nat.le_of_ble_eq_true rfl) (by decide) (by decide) dX0_says_99 (fun x H1 locs1 hG1 _ hE => ?_)
      refine w_catchS B hK [(44, 87, 133, 165), (88, 96, 133, 165)] [(106, 114, 133, 165), (115, 123, 133, 165), (124, 132, 133, 165)] htab (by decide) (by decide) (by decide) q489 hE q501 q490 ?_
      exact other x H1 locs1 hG1 hf ls (lv_sub hl [1] rfl)
    by_cases c_3 : x2 = 3
    · have hk : fKi x2 = 3 := by simp [fKi, c_3]
      refine w_tab (tgt := 106) 3 c_3 hx hb dX0_says_45 (by decide) (by decide) rfl (by decide) ?_
      refine lv_aload_n hx hb dX0_says_106 rfl (lv_at hl 1 rfl) ?_
      refine lv_aload_n hx hb dX0_says_107 rfl (lv_at hl 0 rfl) ?_
      refine w_castNo (st := [.ref (ca 0)]) B hK hG hlt hl.1 (link_K 3) (hnc 3 hk.symm) hrc hA (kN_len 3) pA (kN_pk 3) (by decide) (Nat.le_of_ble_eq_true rfl) (by decide) (by decide) dX0_says_108 (fun x H1 locs1 hG1 _ hE => ?_)
      refine w_catchS B hK [(44, 87, 133, 165), (88, 96, 133, 165), (97, 105, 133, 165)] [(115, 123, 133, 165), (124, 132, 133, 165)] htab (by decide) (by decide) (by decide) q489 hE q501 q490 ?_
      exact other x H1 locs1 hG1 hf ls (lv_sub hl [1] rfl)
    by_cases c_4 : x2 = 4
    · have hk : fKi x2 = 4 := by simp [fKi, c_4]
      refine w_tab (tgt := 115) 4 c_4 hx hb dX0_says_45 (by decide) (by decide) rfl (by decide) ?_
      refine lv_aload_n hx hb dX0_says_115 rfl (lv_at hl 1 rfl) ?_
      refine lv_aload_n hx hb dX0_says_116 rfl (lv_at hl 0 rfl) ?_
      refine w_castNo (st := [.ref (ca 0)]) B hK hG hlt hl.1 (link_K 4) (hnc 4 hk.symm) hrc hA (kN_len 4) pA (kN_pk 4) (by decide) (Nat.le_of_ble_eq_true rfl) (by decide) (by decide) dX0_says_117 (fun x H1 locs1 hG1 _ hE => ?_)
      refine w_catchS B hK [(44, 87, 133, 165), (88, 96, 133, 165), (97, 105, 133, 165), (106, 114, 133, 165)] [(124, 132, 133, 165)] htab (by decide) (by decide) (by decide) q489 hE q501 q490 ?_
      exact other x H1 locs1 hG1 hf ls (lv_sub hl [1] rfl)
    have hk : fKi x2 = 5 := by simp [fKi, c_0, c_1, c_2, c_3, c_4]
    refine lv_tableOut (tgt := 124) hx hb dX0_says_45 (by have := lv_neT c_0 (a := 0) rfl; have := lv_neT c_1 (a := 1) rfl; have := lv_neT c_2 (a := 2) rfl; have := lv_neT c_3 (a := 3) rfl; have := lv_neT c_4 (a := 4) rfl; omega) (by decide) ?_
    refine lv_aload_n hx hb dX0_says_124 rfl (lv_at hl 1 rfl) ?_
    refine lv_aload_n hx hb dX0_says_125 rfl (lv_at hl 0 rfl) ?_
    refine w_castNo (st := [.ref (ca 0)]) B hK hG hlt hl.1 (link_K 5) (hnc 5 hk.symm) hrc hA (kN_len 5) pA (kN_pk 5) (by decide) (Nat.le_of_ble_eq_true rfl) (by decide) (by decide) dX0_says_126 (fun x H1 locs1 hG1 _ hE => ?_)
    refine w_catchS B hK [(44, 87, 133, 165), (88, 96, 133, 165), (97, 105, 133, 165), (106, 114, 133, 165), (115, 123, 133, 165)] [] htab (by decide) (by decide) (by decide) q489 hE q501 q490 ?_
    exact other x H1 locs1 hG1 hf ls (lv_sub hl [1] rfl)
  match hh : chd w x1.toNatClampNeg, hf with
  | none, hf =>
    have hf := hc3_0 hf
    refine co_held B hK hG.1 hu hh dX0_says_29 ?_
    refine lv_astore_nN hx hb dX0_says_32 rfl hl (by decide) rfl (fun ls hl => ?_)
    refine lv_aload_nN hx hb dX0_says_33 rfl (lv_at hl 0 rfl) ?_
    refine lv_ifnonnullN hx hb dX0_says_34 ?_
    refine lv_aload_n hx hb dX0_says_37 rfl (lv_at hl 1 rfl) ?_
    refine lv_bipush (v := (-4)) hx hb dX0_says_38 (by decide) ?_
    refine cC_no B hK hG hf rfl ⟨Nat.le_of_ble_eq_true rfl, Nat.le_of_ble_eq_true rfl⟩ ⟨Nat.zero_le _, Nat.zero_le _⟩ hl.1 (Nat.le_of_ble_eq_true rfl) dX0_says_40 (fun H locs hG => ?_)
    refine W.widen (k := 3) (n := 1770) (Nat.le_of_ble_eq_true rfl) (Nat.le_of_ble_eq_true rfl) ?_
    exact w_iretX B hr hlk () rfl hG dX0_says_43
  | some (.inr k), hf =>
    have hf : fC_no w (-3) = some (r, w') := hf
    refine co_held B hK hG.1 hu hh dX0_says_29 ?_
    refine lv_astore_n hx hb dX0_says_32 rfl hl (by decide) rfl (fun ls hl => ?_)
    refine lv_aload_n hx hb dX0_says_33 rfl (lv_at hl 0 rfl) ?_
    refine lv_ifnonnull (tgt := 44) hx hb dX0_says_34 (by decide) ?_
    exact bad k.1 (rowN k.2.1) (fun j _ => nc_rowK hK k.2.1 j) (row_recv hK hG.1 (cp_row (vp_lt (inb_in hu)) hh)) (rowN_len _) (rowN_pk _) hf ls hl
  | some (.inl P), hf =>
    obtain ⟨u2, h3, hf⟩ := bo (hc3_1 hf)
    have hP := cp_P (inL_in h3) hG.1
    refine co_held B hK hG.1 hu hh dX0_says_29 ?_
    refine lv_astore_n hx hb dX0_says_32 rfl hl (by decide) rfl (fun ls hl => ?_)
    refine lv_aload_n hx hb dX0_says_33 rfl (lv_at hl 0 rfl) ?_
    refine lv_ifnonnull (tgt := 44) hx hb dX0_says_34 (by decide) ?_
    by_cases hc : castK P.2.1 (fKi x2) = true
    · have hf := ifp hc hf
      refine lv_iload_n hx hb dX0_says_44 rfl (lv_at hl 3 rfl) ?_
      by_cases c_0 : x2 = 0
      · have hk : fKi x2 = 0 := by simp [fKi, c_0]
        refine w_tab (tgt := 80) 0 c_0 hx hb dX0_says_45 (by decide) (by decide) rfl (by decide) ?_
        rw [hk] at hc
        have hf := ifp c_0 hf
        cases Option.some.inj hf
        refine lv_aload_n hx hb dX0_says_80 rfl (lv_at hl 0 rfl) ?_
        refine w_castK0 B hK hP hc dX0_says_81 ?_
        refine po_C1 B hK hP dX0_says_84 ?_
        refine W.widen (k := 3) (n := 1770) (Nat.le_of_ble_eq_true rfl) (Nat.le_of_ble_eq_true rfl) ?_
        exact w_iretX B hr hlk () rfl hG dX0_says_87
      by_cases c_1 : x2 = 1
      · have hk : fKi x2 = 1 := by simp [fKi, c_1]
        refine w_tab (tgt := 88) 1 c_1 hx hb dX0_says_45 (by decide) (by decide) rfl (by decide) ?_
        rw [hk] at hc
        have hf := ifn c_0 hf
        refine lv_aload_n hx hb dX0_says_88 rfl (lv_at hl 1 rfl) ?_
        refine lv_aload_n hx hb dX0_says_89 rfl (lv_at hl 0 rfl) ?_
        refine w_castK1 B hK hP hc dX0_says_90 ?_
        refine cC_armOf B hK hG hf rfl ⟨Nat.le_of_ble_eq_true rfl, Nat.le_of_ble_eq_true rfl⟩ ⟨Nat.le_of_ble_eq_true rfl, Nat.le_of_ble_eq_true rfl⟩ hl.1 (Nat.le_of_ble_eq_true rfl) dX0_says_93 (fun H locs hG => ?_)
        refine W.widen (k := 3) (n := 1770) (Nat.le_of_ble_eq_true rfl) (Nat.le_of_ble_eq_true rfl) ?_
        exact w_iretX B hr hlk () rfl hG dX0_says_96
      by_cases c_2 : x2 = 2
      · have hk : fKi x2 = 2 := by simp [fKi, c_2]
        refine w_tab (tgt := 97) 2 c_2 hx hb dX0_says_45 (by decide) (by decide) rfl (by decide) ?_
        rw [hk] at hc
        have hf := ifn c_0 hf
        refine lv_aload_n hx hb dX0_says_97 rfl (lv_at hl 1 rfl) ?_
        refine lv_aload_n hx hb dX0_says_98 rfl (lv_at hl 0 rfl) ?_
        refine w_castK2 B hK hP hc dX0_says_99 ?_
        refine cC_armOf B hK hG hf rfl ⟨Nat.le_of_ble_eq_true rfl, Nat.le_of_ble_eq_true rfl⟩ ⟨Nat.le_of_ble_eq_true rfl, Nat.le_of_ble_eq_true rfl⟩ hl.1 (Nat.le_of_ble_eq_true rfl) dX0_says_102 (fun H locs hG => ?_)
        refine W.widen (k := 3) (n := 1770) (Nat.le_of_ble_eq_true rfl) (Nat.le_of_ble_eq_true rfl) ?_
        exact w_iretX B hr hlk () rfl hG dX0_says_105
      by_cases c_3 : x2 = 3
      · have hk : fKi x2 = 3 := by simp [fKi, c_3]
        refine w_tab (tgt := 106) 3 c_3 hx hb dX0_says_45 (by decide) (by decide) rfl (by decide) ?_
        rw [hk] at hc
        have hf := ifn c_0 hf
        refine lv_aload_n hx hb dX0_says_106 rfl (lv_at hl 1 rfl) ?_
        refine lv_aload_n hx hb dX0_says_107 rfl (lv_at hl 0 rfl) ?_
        refine w_castK3 B hK hP hc dX0_says_108 ?_
        refine cC_armOf B hK hG hf rfl ⟨Nat.le_of_ble_eq_true rfl, Nat.le_of_ble_eq_true rfl⟩ ⟨Nat.le_of_ble_eq_true rfl, Nat.le_of_ble_eq_true rfl⟩ hl.1 (Nat.le_of_ble_eq_true rfl) dX0_says_111 (fun H locs hG => ?_)
        refine W.widen (k := 3) (n := 1770) (Nat.le_of_ble_eq_true rfl) (Nat.le_of_ble_eq_true rfl) ?_
        exact w_iretX B hr hlk () rfl hG dX0_says_114
      by_cases c_4 : x2 = 4
      · have hk : fKi x2 = 4 := by simp [fKi, c_4]
        refine w_tab (tgt := 115) 4 c_4 hx hb dX0_says_45 (by decide) (by decide) rfl (by decide) ?_
        rw [hk] at hc
        have hf := ifn c_0 hf
        refine lv_aload_n hx hb dX0_says_115 rfl (lv_at hl 1 rfl) ?_
        refine lv_aload_n hx hb dX0_says_116 rfl (lv_at hl 0 rfl) ?_
        refine w_castK4 B hK hP hc dX0_says_117 ?_
        refine cC_armOf B hK hG hf rfl ⟨Nat.le_of_ble_eq_true rfl, Nat.le_of_ble_eq_true rfl⟩ ⟨Nat.le_of_ble_eq_true rfl, Nat.le_of_ble_eq_true rfl⟩ hl.1 (Nat.le_of_ble_eq_true rfl) dX0_says_120 (fun H locs hG => ?_)
        refine W.widen (k := 3) (n := 1770) (Nat.le_of_ble_eq_true rfl) (Nat.le_of_ble_eq_true rfl) ?_
        exact w_iretX B hr hlk () rfl hG dX0_says_123
      have hk : fKi x2 = 5 := by simp [fKi, c_0, c_1, c_2, c_3, c_4]
      refine lv_tableOut (tgt := 124) hx hb dX0_says_45 (by have := lv_neT c_0 (a := 0) rfl; have := lv_neT c_1 (a := 1) rfl; have := lv_neT c_2 (a := 2) rfl; have := lv_neT c_3 (a := 3) rfl; have := lv_neT c_4 (a := 4) rfl; omega) (by decide) ?_
      rw [hk] at hc
      have hf := ifn c_0 hf
      refine lv_aload_n hx hb dX0_says_124 rfl (lv_at hl 1 rfl) ?_
      refine lv_aload_n hx hb dX0_says_125 rfl (lv_at hl 0 rfl) ?_
      refine w_castK5 B hK hP hc dX0_says_126 ?_
      refine cC_armOf B hK hG hf rfl ⟨Nat.le_of_ble_eq_true rfl, Nat.le_of_ble_eq_true rfl⟩ ⟨Nat.le_of_ble_eq_true rfl, Nat.le_of_ble_eq_true rfl⟩ hl.1 (Nat.le_of_ble_eq_true rfl) dX0_says_129 (fun H locs hG => ?_)
      refine W.widen (k := 3) (n := 1770) (Nat.le_of_ble_eq_true rfl) (Nat.le_of_ble_eq_true rfl) ?_
      exact w_iretX B hr hlk () rfl hG dX0_says_132
    · have hf := ifn hc hf
      exact bad P.1 (kN P.2.1) (fun j hj => nc_kind hK _ _ (by rw [hj]; exact Bool.eq_false_iff.mpr hc)) (post_recv hK hP) (kN_len _) (kN_pk _) hf ls hl
