set_option maxRecDepth 100000
/-! a row on a shelf -/
theorem flat_same {α β : Type} (f g : α → List β) : ∀ L : List α, (∀ j ∈ L, g j = f j) → L.flatMap g = L.flatMap f := by
  intro L
  induction L with
  | nil => intro _; rfl
  | cons x t ih => intro h; rw [List.flatMap_cons, List.flatMap_cons, h x List.mem_cons_self, ih (fun j hj => h j (List.mem_cons_of_mem _ hj))]
theorem flat_ins {β : Type} (f g : Nat → List β) (i : Nat) (a : β) (hi : g i = a :: f i) (ho : ∀ j, j ≠ i → g j = f j) : ∀ L : List Nat, L.Nodup → i ∈ L → (L.flatMap g).Perm (a :: L.flatMap f) := by
  intro L
  induction L with
  | nil => intro _ h; cases h
  | cons x t ih =>
    intro hn hm
    rw [List.nodup_cons] at hn
    rw [List.flatMap_cons, List.flatMap_cons]
    by_cases e : x = i
    · subst e
      rw [hi, flat_same f g t (fun j hj => ho j (fun q => hn.1 (q ▸ hj)))]
      exact List.Perm.refl _
    · rw [ho x e]
      have := ih hn.2 (by rcases List.mem_cons.mp hm with h | h; exact absurd h.symm e; exact h)
      exact (List.Perm.append_left _ this).trans List.perm_middle
theorem rows_ins {X : CX} {held : Nat → HV} {i : Nat} {r : RV} (hi : i < 8) : (rowsC X (va_up held i (some (.inr r)))).Perm (rowC X r :: rowsC X (va_up held i none)) := by
  refine flat_ins _ _ i (rowC X r) ?_ ?_ _ List.nodup_range (List.mem_range.mpr hi)
  · simp only [va_up, if_true]
  · intro j hj
    simp only [va_up, if_neg hj]
theorem GG.holdR {X : CX} {ca fa : Nat → Nat} {w : CW} {rest : va_W} {H0 H : Heap} {locs : List Loc} {i : Nat} {r : RV} (hi : i < 8) (hG : GG X ((CP X ca fa w ++ (rowC X r :: rest)).set (15 + i) (ca (10 + i), .inr (4, [.ref r.1]))) H0 H locs) : GG X (CP X ca fa (chs w i (some (.inr r))) ++ rest) H0 H locs := by
  have hs : (CPt X (chs w i none)).Sublist (CPt X w) := List.Sublist.append (List.Sublist.refl _) (List.Sublist.append (rows_sub (fun _ q => by cases q)) (List.Sublist.refl _))
  have key : ∀ E : va_W, ((E ++ CPt X (chs w i none)) ++ (rowC X r :: rest)).Sublist ((E ++ CPt X w) ++ (rowC X r :: rest)) := fun E => List.Sublist.append (List.Sublist.append (List.Sublist.refl _) hs) (List.Sublist.refl _)
  have hp : ∀ E : va_W, ((E ++ CPt X (chs w i none)) ++ (rowC X r :: rest)).Perm ((E ++ CPt X (chs w i (some (.inr r)))) ++ rest) := by
    intro E
    refine List.perm_middle.trans ?_
    have h1 : (CPt X (chs w i (some (.inr r)))).Perm (rowC X r :: CPt X (chs w i none)) := by
      refine (List.Perm.append_left _ (List.Perm.append_right _ (rows_ins hi))).trans ?_
      exact List.perm_middle
    have h2 : (E ++ CPt X (chs w i (some (.inr r)))).Perm (rowC X r :: (E ++ CPt X (chs w i none))) := (List.Perm.append_left _ h1).trans List.perm_middle
    exact (List.Perm.append_right rest h2).symm
  have k2 := fun h => (hG.sublist h).perm (hp (((CP X ca fa w).take 23).set (15 + i) (ca (10 + i), .inr (4, [.ref r.1]))))
  have k3 := key (((CP X ca fa w).take 23).set (15 + i) (ca (10 + i), .inr (4, [.ref r.1])))
  match i, hi with
  | 0, _ => exact k2 k3
  | 1, _ => exact k2 k3
  | 2, _ => exact k2 k3
  | 3, _ => exact k2 k3
  | 4, _ => exact k2 k3
  | 5, _ => exact k2 k3
  | 6, _ => exact k2 k3
  | 7, _ => exact k2 k3
section RWS
variable {p : Program} {l : Launch} {e : Env} {R : Room} {s : State} {m : MethodId} {args : Array Value} {below : List Frame} {meth : Method} {c : Code} {H : Heap} {locs : List Loc} {cells slots : Nat} {Q : State → Prop} {cc : ByteArray} {nL pc : Nat} {ls : Array Slot} {st st0 : List Value} {X : CX} {ws rest : va_W} {ca fa : Nat → Nat} {w w' : CW} {own : String}
theorem co_hputR (B : CallFix p m c cc nL s args lw_all RX0) (hK : KK X s) {r : RV} (hG : GG X (CP X ca fa w ++ (rowC X r :: rest)) s.heap H locs) {i : Int32} {u : Unit} (hu : inb 8 i = some u) (hdg : decode cc pc = .ok (.putfield 98, 3)) (kk : ∀ (H1 : Heap) (locs1 : List Loc), GG X (CP X ca fa (chs w i.toNatClampNeg (some (.inr r))) ++ rest) s.heap H1 locs1 → W p l e R s m args below meth c H1 locs1 cells slots Q (F0 m (pc + 3) ls st)) : W p l e R s m args below meth c H locs cells slots Q (F0 m pc ls (.ref r.1 :: .ref (ca (10 + i.toNatClampNeg)) :: st)) := by
  refine w_put B hK hG (15 + i.toNatClampNeg) 0 (cp_sheet (vp_lt (inb_in hu))) rfl in_X3 tyX3 tyX3_ok nmX3 (by decide) q216 rfl rfl rfl rfl (Nat.le_of_ble_eq_true rfl) hdg (fun H1 l1 g => kk H1 l1 (GG.holdR (vp_lt (inb_in hu)) g))
theorem w_rS_TX {S : Type} {y : MethodName} {code : ByteArray} {nl fr mc ms lo index n : Nat} {ret : Option FieldType} {post : Nat → Heap → S → Prop} {wsOf : S → va_W} {As : List Value} (B : CallFix p m c cc nL s args lw_all own) (hK : KK X s) (hG : GG X ws s.heap H locs) (hM : TX l y code nl ret fr mc ms lo As X ws post wsOf) (hT : GoodIn lw_all (va_wsS own index y (ws_ y code nl ret)))
    (hd : y.cls ≠ "java/lang/invoke/MethodHandle" ∧ y.cls ≠ "java/lang/invoke/VarHandle" ∧ (parseMethodDescriptor y.desc).map (fun d => d.parameters.length) = some n) (hR : fr + 1 ≤ R.frames ∧ 8 + (nl + 11) + lo ≤ R.locals) (hcs : cells + mc ≤ R.cells ∧ slots + ms ≤ R.slots) (hn : As.length = n) (hsz : ls.size = nL) (hst : st0 = As.reverse ++ st) (hcat : (st.map fun v => v.category).sum ≤ 8)
    (hdg : decode cc pc = .ok (.invokestatic index, 3)) : va_RunT p l e R s m args below meth c H locs cells slots mc ms (F0 m pc ls st0) st (QT X post wsOf As.toArray) (Az X) :=
  runST B hM (va_cwS n B.2.2.2.2 hT rfl rfl rfl hd hR) ⟨fun _ _ _ _ q => q, fun U hU hW => ⟨rfl, hK.step hG.2.2 hU hW, by rw [hU]; exact hG.1, hG.2.1⟩⟩ rfl hn hsz hst (lv_room hcat) hdg hcs
end RWS
