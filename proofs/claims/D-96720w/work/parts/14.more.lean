set_option maxRecDepth 100000
/-- a post: its address, kind, number, a, cell -/
abbrev PV : Type := Nat × Fin 6 × Int32 × Int32 × Int32
def sto (f : Nat → Int32) (n : Nat) (i x : Int32) : Option (Nat → Int32) := if i < 0 ∨ n ≤ i.toNatClampNeg then none else some (upd f i.toNatClampNeg x)
def stoL (f : Nat → Int64) (n : Nat) (i : Int32) (x : Int64) : Option (Nat → Int64) := if i < 0 ∨ n ≤ i.toNatClampNeg then none else some (vp_updL f i.toNatClampNeg x)
theorem sto_in {α : Type} {f : Nat → Int32} {n : Nat} {i x : Int32} {k : (Nat → Int32) → α} {r : α} (h : (sto f n i x).map k = some r) : vp_in i n ∧ k (upd f i.toNatClampNeg x) = r := by
  unfold sto at h
  by_cases hc : i < 0 ∨ n ≤ i.toNatClampNeg
  · rw [if_pos hc] at h; cases h
  · rw [if_neg hc] at h; exact ⟨hc, Option.some.inj h⟩
theorem stoL_in {α : Type} {f : Nat → Int64} {n : Nat} {i : Int32} {x : Int64} {k : (Nat → Int64) → α} {r : α} (h : (stoL f n i x).map k = some r) : vp_in i n ∧ k (vp_updL f i.toNatClampNeg x) = r := by
  unfold stoL at h
  by_cases hc : i < 0 ∨ n ≤ i.toNatClampNeg
  · rw [if_pos hc] at h; cases h
  · rw [if_neg hc] at h; exact ⟨hc, Option.some.inj h⟩
section WB
variable {p : Program} {l : Launch} {e : Env} {R : Room} {s : State} {m : MethodId} {args : Array Value} {below : List Frame} {meth : Method} {c : Code} {H : Heap} {locs : List Loc} {cells slots : Nat} {Q : State → Prop} {cc : ByteArray} {nL pc : Nat} {ls : Array Slot} {st st0 : List Value} {own : String} {X : CX} {ws ws' : va_W}
theorem w_aretW (B : CallFix p m c cc nL s args lw_all own) {rt : FieldType} (hr : meth.sig.returnType = some rt) (hrt : (∃ n, rt = .object n) ∨ ∃ t, rt = .array t) (hlk : meth.locks = false) {r : Nat} (hG : GG X ws s.heap H locs) (hdg : decode cc pc = .ok (.areturn, 1)) :
    W p l e R s m args below meth c H locs cells slots (MQ below (QW X ws (some (.ref r))) args s cells slots (Az X)) (F0 m pc ls [.ref r]) :=
  W.aret B.1 B.2.1 hr hrt (Or.inr ⟨r, rfl⟩) (fun t ht _ => ⟨rfl, by rw [ht]; exact hG.1, hG.2.1, hG.2.2.F ht⟩) hG.2.2.2.2 hdg (hlocks := hlk)
theorem w_min (B : CallFix p m c cc nL s args lw_all own) (hl : ls.size = nL) {index : Nat} (h1 : Cond.methodLink own index Lib.Math.min.name ∈ lw_all) (h2 : Cond.static Lib.Math.min.name ∈ lw_all) (h3 : Cond.initialized "java/lang/Math" ∈ lw_all) (h4 : Cond.code Lib.Math.min.name Lib.Math.min.code 2 (some .int) ∈ lw_all)
    (hframes : 1 ≤ R.frames) (hcat : (st.map fun v => v.category).sum ≤ 8) (hlocals : 21 ≤ R.locals) (hc : cells ≤ R.cells) (hs : slots ≤ R.slots) {x y : Int32} (hdg : decode cc pc = .ok (.invokestatic index, 3))
    (kk : W p l e R s m args below meth c H locs cells slots Q (F0 m (pc + 3) ls (.int (if y < x then y else x) :: st))) : W p l e R s m args below meth c H locs cells slots Q (F0 m pc ls (.int y :: .int x :: st)) :=
  va_mmin B.1 B.2.1 (by rw [B.2.2.1, hl]) B.2.2.2.1 (B.2.2.2.2 _ h1) (B.2.2.2.2 _ h2) (B.2.2.2.2 _ h3) (B.2.2.2.2 _ h4) hframes (by omega) hc hs hdg kk
end WB
/-! a fen: numbers by field (11: how many are lost), arrays by field (11: where the lost are), posts -/
abbrev FW : Type := (Nat → Int32) × (Nat → Nat → Int32) × (Nat → Option PV)
def FP (X : CX) (fa : Nat → Nat) (f : FW) : va_W := [(fa 0, .inr (2, [.ref (fa 1), .ref (fa 2), .ref (fa 3), .ref (fa 4), .ref (fa 5), .ref (fa 6), .int (f.1 6), .int (f.1 7), .int (f.1 8), .int (f.1 9), .int (f.1 10)])), (fa 1, .inl (X.2.2.2 0, 7, .inl (f.2.1 0))), (fa 3, .inl (X.2.2.2 0, 4, .inl (f.2.1 2))), (fa 4, .inl (X.2.2.2 0, 4, .inl (f.2.1 3))), (fa 5, .inr (3, [.ref (fa 7), .int (f.1 11)])), (fa 6, .inl (X.2.2.2 0, 70, .inl (f.2.1 5))), (fa 7, .inl (X.2.2.2 0, 4, .inl (f.2.1 11))), (fa 2, .inl (X.2.2.2 5, 8, .inr (.inr (.inr (.inr (fun i => (f.2.2 i).map (·.1)))))))]
def fpt (f : FW) (k : Nat) (v : Int32) : FW := (upd f.1 k v, f.2.1, f.2.2)
def fau (f : FW) (k : Nat) (g : Nat → Int32) : FW := (f.1, va_up f.2.1 k g, f.2.2)
/-! who is lost: how many, where -/
abbrev LW : Type := Int32 × (Nat → Int32)
def LoP (X : CX) (la : Nat → Nat) (w : LW) : va_W := [(la 0, .inr (3, [.ref (la 1), .int w.1])), (la 1, .inl (X.2.2.2 0, 4, .inl w.2))]
/-! a post looks at who is lost -/
def PC (P : PV) : Nat × va_E := (P.1, .inr (5 + P.2.1.val, [.int P.2.2.1, .int P.2.2.2.1, .int P.2.2.2.2]))
/-! a world in another order -/
theorem va_D_iff {A : Nat → Prop} {ws : va_W} : va_D A ws ↔ (ws.map Prod.fst).Nodup ∧ ∀ q ∈ ws, A q.1 := by
  constructor
  · intro h
    refine ⟨?_, fun q hq => ?_⟩
    · show List.Pairwise (· ≠ ·) (ws.map Prod.fst)
      rw [List.pairwise_iff_getElem]
      intro i j hi hj hij he
      have hi' : i < ws.length := by rw [List.length_map] at hi; exact hi
      have hj' : j < ws.length := by rw [List.length_map] at hj; exact hj
      rw [List.getElem_map, List.getElem_map] at he
      have := h.1 i j _ _ (List.getElem?_eq_getElem hi') (List.getElem?_eq_getElem hj') he
      omega
    · obtain ⟨k, hk⟩ := List.getElem?_of_mem hq
      exact h.2 k q hk
  · rintro ⟨h1, h2⟩
    refine ⟨fun i j p q hi hj he => ?_, fun k q hk => h2 q (List.mem_of_getElem? hk)⟩
    have h1 : List.Pairwise (· ≠ ·) (ws.map Prod.fst) := h1
    rw [List.pairwise_iff_getElem] at h1
    obtain ⟨li, ei⟩ := List.getElem?_eq_some_iff.mp hi
    obtain ⟨lj, ej⟩ := List.getElem?_eq_some_iff.mp hj
    have li' : i < (ws.map Prod.fst).length := by rw [List.length_map]; exact li
    have lj' : j < (ws.map Prod.fst).length := by rw [List.length_map]; exact lj
    have e1 : (ws.map Prod.fst)[i] = p.1 := by rw [List.getElem_map, ei]
    have e2 : (ws.map Prod.fst)[j] = q.1 := by rw [List.getElem_map, ej]
    rcases Nat.lt_trichotomy i j with h | h | h
    · exact absurd (by rw [e1, e2]; exact he) (h1 i j li' lj' h)
    · exact h
    · exact absurd (by rw [e1, e2]; exact he.symm) (h1 j i lj' li' h)
theorem va_P_mem {D : va_G} {cl : List vw_C} {ws : va_W} {H : Heap} (h : va_P D cl ws H) : ∀ q ∈ ws, va_at D cl q H := fun q hq => by
  obtain ⟨k, hk⟩ := List.getElem?_of_mem hq
  exact h k q hk
theorem va_P_of {D : va_G} {cl : List vw_C} {ws ws' : va_W} {H : Heap} (h : va_P D cl ws H) (hs : ∀ q ∈ ws', q ∈ ws) : va_P D cl ws' H := fun k q hk => va_P_mem h q (hs q (List.mem_of_getElem? hk))
theorem va_D_perm {A : Nat → Prop} {ws ws' : va_W} (hp : ws.Perm ws') (h : va_D A ws) : va_D A ws' := by
  rw [va_D_iff] at h ⊢
  exact ⟨(hp.map Prod.fst).nodup_iff.mp h.1, fun q hq => h.2 q (hp.mem_iff.mpr hq)⟩
theorem GG.perm {X : CX} {ws ws' : va_W} {H0 H : Heap} {locs : List Loc} (h : GG X ws H0 H locs) (hp : ws.Perm ws') : GG X ws' H0 H locs := ⟨va_P_of h.1 (fun q hq => hp.mem_iff.mpr hq), va_D_perm hp h.2.1, h.2.2⟩
