/-! the plain functions' own words -/
def gd {α : Type} (c : Prop) [Decidable c] (x : Option α) : Option α := if c then x else none
theorem gd_ {α : Type} {c : Prop} [Decidable c] {x : Option α} {r : α} (h : gd c x = some r) : c ∧ x = some r := by
  unfold gd at h
  split at h
  · exact ⟨by assumption, h⟩
  · cases h
def nm {α β : Type} (e : α) (f : α → β) : β := f e
theorem nmo_ {α β : Type} {e : α} {f : α → Option β} {r : β} (h : nm e f = some r) : ∃ v, v = e ∧ f v = some r := ⟨e, rfl, h⟩
theorem nmp_ {α β : Type} {e : α} {f : α → β} {r : β} (h : r = nm e f) : ∃ v, v = e ∧ r = f v := ⟨e, rfl, h⟩
def bd {α β : Type} (x : Option (α × ZS)) (f : α → ZS → Option β) : Option β := match x with
  | none => none
  | some (a, s) => f a s
theorem bd_ {α β : Type} {x : Option (α × ZS)} {f : α → ZS → Option β} {r : β} (h : bd x f = some r) : ∃ a s, x = some (a, s) ∧ f a s = some r := by
  unfold bd at h
  split at h
  · cases h
  · exact ⟨_, _, rfl, h⟩
def bo {α β : Type} (x : Option α) (f : α → Option β) : Option β := match x with
  | none => none
  | some a => f a
theorem bo_ {α β : Type} {x : Option α} {f : α → Option β} {r : β} (h : bo x f = some r) : ∃ a, x = some a ∧ f a = some r := by
  unfold bo at h
  split at h
  · cases h
  · exact ⟨_, rfl, h⟩
theorem if_t {α : Type} {c : Prop} [Decidable c] {a b : Option α} {r : α} (hc : c) (h : (if c then a else b) = some r) : a = some r := by rwa [if_pos hc] at h
theorem if_f {α : Type} {c : Prop} [Decidable c] {a b : Option α} {r : α} (hc : ¬ c) (h : (if c then a else b) = some r) : b = some r := by rwa [if_neg hc] at h
theorem ifp_t {α : Type} {c : Prop} [Decidable c] {a b r : α} (hc : c) (h : r = if c then a else b) : r = a := by rwa [if_pos hc] at h
theorem ifp_f {α : Type} {c : Prop} [Decidable c] {a b r : α} (hc : ¬ c) (h : r = if c then a else b) : r = b := by rwa [if_neg hc] at h
theorem fin_ {α : Type} {a c : α} {b d : ZS} (h : some (a, b) = some (c, d)) : c = a ∧ d = b := by cases h; exact ⟨rfl, rfl⟩
theorem fino_ {α : Type} {a c : α} (h : some a = some c) : c = a := by cases h; rfl
theorem none_ {α : Type} {r : α} {P : Prop} (h : none = some r) : P := by cases h
theorem b01 {v : Int32} (h : v = 0 ∨ v = 1) : narrow .boolean (.int v) = .int v := by rcases h with rfl | rfl <;> rfl
/-- the reference's cells: 0 the object, k + 1 the row of its field k -/
def zLm : ZL := fun i => match i with
  | 0 => some (.inr (6, [some (some 1), some (some 2), some (some 3), none, some (some 5), some (some 6), some (some 7), none, none, none, none, some (some 12), none, some (some 14), some (some 15), some (some 16), none, none, none, none, some (some 21), some (some 22), some (some 23), some (some 24)]))
  | 1 => some (.inl (0, 242, false))
  | 2 => some (.inl (0, 242, false))
  | 3 => some (.inl (0, 242, false))
  | 5 => some (.inl (0, 6, false))
  | 6 => some (.inl (0, 8000, false))
  | 7 => some (.inl (6, 2, true))
  | 12 => some (.inl (0, 60, false))
  | 14 => some (.inl (0, 4, false))
  | 15 => some (.inl (0, 60, false))
  | 16 => some (.inl (0, 40, false))
  | 21 => some (.inl (0, 4, false))
  | 22 => some (.inl (0, 4, false))
  | 23 => some (.inl (0, 160, false))
  | 24 => some (.inl (0, 40, false))
  | _ => none
theorem nchar {v : Int32} (h : v = (v.toUInt32 % 65536).toInt32) : narrow .char (.int v) = .int v := by rw [h]; exact pk_nc _
theorem f01 {v : Int32} (h : v = 0 ∨ v = 1) : fits .boolean (.int v) = true := by rcases h with rfl | rfl <;> rfl
