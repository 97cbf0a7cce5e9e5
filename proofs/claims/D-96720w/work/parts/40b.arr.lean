set_option maxRecDepth 100000
theorem arrV_ext {cA : ClassId} {n : Nat} {f g : Nat → Value} (h : ∀ j, j < n → f j = g j) : arrV cA n f = arrV cA n g := by
  unfold arrV
  congr 1
  exact congrArg Array.ofFn (funext fun j => h j.val j.isLt)
/-- an array of references told otherwise, the same places -/
theorem GG.arr {X : CX} {ws : va_W} {H0 H : Heap} {locs : List Loc} {a n : Nat} {cA : ClassId} {f g : Nat → Option Nat} (h : GG X ws H0 H locs) (pos : Nat) (he : ws[pos]? = some (a, .inl (cA, n, .inr (.inr (.inr (.inr f)))))) (hfg : ∀ j, j < n → f j = g j) : GG X (ws.set pos (a, .inl (cA, n, .inr (.inr (.inr (.inr g)))))) H0 H locs := by
  refine ⟨h.1.set h.2.1 he ?_ (fun _ _ => rfl), h.2.1.set he, h.2.2⟩
  show H[a]? = some (vp_cell cA (n, .inr (.inr (.inr (.inr g)))))
  have e : vp_cell cA (n, .inr (.inr (.inr (.inr g)))) = vp_cell cA (n, .inr (.inr (.inr (.inr f)))) := by
    rw [vp_cell_q, vp_cell_q]
    exact arrV_ext (fun j hj => by rw [hfg j hj])
  rw [e]
  exact h.1 pos _ he
