/-! outcomes of methods that may throw the class's Finding (cell 1) -/
def sc {α β γ : Type} (r : α ⊕ β) (f : α → γ) (g : β → γ) : γ := match r with
  | .inl a => f a
  | .inr b => g b
abbrev ocV (w : ZW) (r : Unit ⊕ Unit) : Outcome := match r with
  | .inl _ => .returned none
  | .inr _ => .threw (w.2.2 1)
abbrev ocI (w : ZW) (r : Int32 ⊕ Unit) : Outcome := match r with
  | .inl v => .returned (some (.int v))
  | .inr _ => .threw (w.2.2 1)
abbrev ocA (w : ZW) (r : Nat ⊕ Unit) : Outcome := match r with
  | .inl a => .returned (some (.ref a))
  | .inr _ => .threw (w.2.2 1)
/-! references that may be null -/
def mo {β : Type} (o : Option Nat) (n : β) (f : Nat → β) : β := match o with
  | none => n
  | some a => f a
theorem oz (o : Option Nat) : o = none ∨ ∃ a, o = some a := by cases o with
  | none => exact Or.inl rfl
  | some a => exact Or.inr ⟨a, rfl⟩
theorem mo_n {α : Type} {o : Option Nat} {n : Option α} {f : Nat → Option α} {r : α} (h : o = none) (hf : mo o n f = some r) : n = some r := by rw [h] at hf; exact hf
theorem mo_s {α : Type} {o : Option Nat} {n : Option α} {f : Nat → Option α} {r : α} {a : Nat} (h : o = some a) (hf : mo o n f = some r) : f a = some r := by rw [h] at hf; exact hf
theorem rf_n {o : Option Nat} (h : o = none) : va_rf o = .null := by rw [h]; rfl
theorem rf_s {o : Option Nat} {a : Nat} (h : o = some a) : va_rf o = .ref a := by rw [h]; rfl
