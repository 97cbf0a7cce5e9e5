/-! the base: loops as pure functions, contracts in one context, rows and calls in short form -/
set_option maxRecDepth 100000
/-! loops -/
def itN {σ ρ : Type} (body : σ → Option (σ ⊕ ρ)) : Nat → σ → Option ρ
  | 0, _ => none
  | n + 1, s => (body s).bind (Sum.elim (itN body n) some)
theorem itN_succ {σ ρ : Type} {body : σ → Option (σ ⊕ ρ)} (n : Nat) (s : σ) : itN body (n + 1) s = (body s).bind (Sum.elim (itN body n) some) := rfl
theorem itN_mono {σ ρ : Type} {body : σ → Option (σ ⊕ ρ)} : ∀ (n : Nat) (s : σ) (r : ρ), itN body n s = some r → itN body (n + 1) s = some r := by
  intro n
  induction n with
  | zero => intro s r h; cases h
  | succ n ih =>
    intro s r h
    rw [itN_succ] at h ⊢
    cases hb : body s with
    | none => rw [hb] at h; cases h
    | some x =>
      rw [hb] at h
      cases x with
      | inl s' => exact ih s' r h
      | inr r' => exact h
theorem itN_le {σ ρ : Type} {body : σ → Option (σ ⊕ ρ)} {s : σ} {r : ρ} {n : Nat} (h : itN body n s = some r) : ∀ k, itN body (n + k) s = some r := by
  intro k
  induction k with
  | zero => exact h
  | succ k ih => exact itN_mono _ _ _ ih
theorem itN_eq {σ ρ : Type} {body : σ → Option (σ ⊕ ρ)} {s : σ} {r r' : ρ} {n n' : Nat} (h : itN body n s = some r) (h' : itN body n' s = some r') : r = r' := by
  have h1 := itN_le h n'
  have h2 := itN_le h' n
  rw [Nat.add_comm] at h2
  exact Option.some.inj (h1.symm.trans h2)
noncomputable def lp {σ ρ : Type} (body : σ → Option (σ ⊕ ρ)) (s : σ) : Option ρ := @dite _ (∃ r n, itN body n s = some r) (Classical.propDecidable _) (fun h => some (Classical.choose h)) (fun _ => none)
theorem lp_iff {σ ρ : Type} {body : σ → Option (σ ⊕ ρ)} {s : σ} {r : ρ} : lp body s = some r ↔ ∃ n, itN body n s = some r := by
  unfold lp
  by_cases h : ∃ r n, itN body n s = some r
  · rw [dif_pos h]
    obtain ⟨n, hn⟩ := Classical.choose_spec h
    constructor
    · intro e
      cases e
      exact ⟨n, hn⟩
    · rintro ⟨k, hk⟩
      rw [itN_eq hn hk]
  · rw [dif_neg h]
    constructor
    · intro e
      cases e
    · rintro ⟨k, hk⟩
      exact absurd ⟨r, k, hk⟩ h
theorem lp_done {σ ρ : Type} {body : σ → Option (σ ⊕ ρ)} {s : σ} {r : ρ} (h : body s = some (.inr r)) : lp body s = some r := lp_iff.mpr ⟨1, by rw [itN_succ, h]; rfl⟩
theorem lp_next' {σ ρ : Type} {body : σ → Option (σ ⊕ ρ)} {s s' : σ} {r : ρ} (h : body s = some (.inl s')) (k : lp body s' = some r) : lp body s = some r := by
  obtain ⟨n, hn⟩ := lp_iff.mp k
  exact lp_iff.mpr ⟨n + 1, by rw [itN_succ, h]; exact hn⟩
theorem lp_next {σ ρ : Type} {body : σ → Option (σ ⊕ ρ)} {s s' : σ} (h : body s = some (.inl s')) : lp body s = lp body s' := by
  cases k : lp body s' with
  | some r => exact lp_next' h k
  | none =>
    cases q : lp body s with
    | none => rfl
    | some r =>
      obtain ⟨n, hn⟩ := lp_iff.mp q
      cases n with
      | zero => cases hn
      | succ n =>
        rw [itN_succ, h] at hn
        have := lp_iff.mpr ⟨n, hn⟩
        rw [k] at this
        cases this
/-- what holds where a loop ends, and is handed back by each turn, holds at its start -/
theorem lp_ind {σ ρ : Type} {body : σ → Option (σ ⊕ ρ)} {r : ρ} {P : σ → Prop} (h0 : ∀ s, body s = some (.inr r) → P s) (h1 : ∀ s s', body s = some (.inl s') → P s' → P s) : ∀ s, lp body s = some r → P s := by
  intro s h
  obtain ⟨n, hn⟩ := lp_iff.mp h
  clear h
  induction n generalizing s with
  | zero => cases hn
  | succ n ih =>
    rw [itN_succ] at hn
    cases hb : body s with
    | none => rw [hb] at hn; cases hn
    | some x =>
      rw [hb] at hn
      cases x with
      | inl s' => exact h1 s s' hb (ih s' hn)
      | inr r' => cases hn; exact h0 s hb
/-! words of the pure functions -/
def rd {α : Type} (f : Nat → α) (n : Nat) (i : Int32) : Option α := if i < 0 ∨ n ≤ i.toNatClampNeg then none else some (f i.toNatClampNeg)
def inb (n : Nat) (i : Int32) : Option Unit := if i < 0 ∨ n ≤ i.toNatClampNeg then none else some ()
def nz (y : Int32) : Option Unit := if y = 0 then none else some ()
def bz (r : Int32) : Option Int32 := if r = 0 ∨ r = 1 then some r else none
def irem (x y : Int32) : Int32 := x - x / y * y
def lrem (x y : Int64) : Int64 := x - x / y * y
def ishl (x y : Int32) : Int32 := x <<< (y &&& 31)
def ishr (x y : Int32) : Int32 := x >>> (y &&& 31)
def iushr (x y : Int32) : Int32 := (x.toUInt32 >>> (y.toUInt32 &&& Int32.toUInt32 31)).toInt32
def lshl (x : Int64) (y : Int32) : Int64 := x <<< (y.toInt64 &&& 63)
def imax (x y : Int32) : Int32 := if x < y then y else x
theorem rd_some {α β : Type} {f : Nat → α} {n : Nat} {i : Int32} {k : α → Option β} {r : β} (h : (rd f n i).bind k = some r) : vp_in i n ∧ k (f i.toNatClampNeg) = some r := by
  unfold rd at h
  by_cases hc : i < 0 ∨ n ≤ i.toNatClampNeg
  · rw [if_pos hc] at h; cases h
  · rw [if_neg hc] at h; exact ⟨hc, h⟩
theorem inb_some {β : Type} {n : Nat} {i : Int32} {k : Unit → Option β} {r : β} (h : (inb n i).bind k = some r) : vp_in i n ∧ k () = some r := by
  unfold inb at h
  by_cases hc : i < 0 ∨ n ≤ i.toNatClampNeg
  · rw [if_pos hc] at h; cases h
  · rw [if_neg hc] at h; exact ⟨hc, h⟩
theorem nz_some {β : Type} {y : Int32} {k : Unit → Option β} {r : β} (h : (nz y).bind k = some r) : ¬ y = 0 ∧ k () = some r := by
  unfold nz at h
  by_cases hc : y = 0
  · rw [if_pos hc] at h; cases h
  · rw [if_neg hc] at h; exact ⟨hc, h⟩
theorem bz_some {β : Type} {x : Int32} {k : Int32 → Option β} {r : β} (h : (bz x).bind k = some r) : narrow .boolean (.int x) = .int x ∧ k x = some r := by
  unfold bz at h
  by_cases hc : x = 0 ∨ x = 1
  · rw [if_pos hc] at h
    refine ⟨?_, h⟩
    rcases hc with rfl | rfl <;> decide
  · rw [if_neg hc] at h; cases h
theorem bo {α β : Type} {o : Option α} {k : α → Option β} {r : β} (h : o.bind k = some r) : ∃ v, o = some v ∧ k v = some r := by
  cases o with
  | none => cases h
  | some v => exact ⟨v, rfl, h⟩
theorem bs {α γ β : Type} {o : Option (α ⊕ γ)} {f : α → Option β} {g : γ → Option β} {r : β} (h : o.bind (Sum.elim f g) = some r) : (∃ v, o = some (.inl v) ∧ f v = some r) ∨ ∃ v, o = some (.inr v) ∧ g v = some r := by
  cases o with
  | none => cases h
  | some v =>
    cases v with
    | inl x => exact Or.inl ⟨x, rfl, h⟩
    | inr x => exact Or.inr ⟨x, rfl, h⟩
theorem ifp {α : Type} {c : Prop} [Decidable c] {a b r : α} (hc : c) (h : (if c then a else b) = r) : a = r := by rw [if_pos hc] at h; exact h
theorem ifn {α : Type} {c : Prop} [Decidable c] {a b r : α} (hc : ¬ c) (h : (if c then a else b) = r) : b = r := by rw [if_neg hc] at h; exact h
