/-! the cells of the class (written by gen/mk18.py) -/
def zLx : ZL := fun i => match i with
  | 0 => some (.inr (0, [some (some 1), some (some 100), some (some 200), some (some 300), none, some (some 4), some (some 6), some (some 7)]))
  | 1 => some (.inr (1, [some none, some none, some none, some none, some none, none, none]))
  | 4 => some (.inr (4, [some (some 5), none]))
  | 5 => some (.inl (0, 40, false))
  | 6 => some (.inl (0, 6, false))
  | 7 => some (.inl (5, 4, true))
  | 100 => some (.inr (2, [none, some (some 102), some (some 103), some (some 104), none, none, none, none, none, some (some 110), some (some 111), some (some 112), some (some 113), some (some 114), none, some (some 116), none, some (some 118), none, some (some 120)]))
  | 102 => some (.inl (0, 8, false))
  | 103 => some (.inl (0, 8, false))
  | 104 => some (.inl (0, 8, false))
  | 110 => some (.inl (3, 7, true))
  | 111 => some (.inl (0, 7, false))
  | 112 => some (.inl (0, 7, false))
  | 113 => some (.inl (0, 7, false))
  | 114 => some (.inl (4, 2, true))
  | 116 => some (.inl (1, 50, false))
  | 118 => some (.inl (0, 20, false))
  | 120 => some (.inr (3, [some (some 121)]))
  | 121 => some (.inl (0, 128, false))
  | 200 => some (.inr (2, [none, some (some 202), some (some 203), some (some 204), none, none, none, none, none, some (some 210), some (some 211), some (some 212), some (some 213), some (some 214), none, some (some 216), none, some (some 218), none, some (some 220)]))
  | 202 => some (.inl (0, 8, false))
  | 203 => some (.inl (0, 8, false))
  | 204 => some (.inl (0, 8, false))
  | 210 => some (.inl (3, 7, true))
  | 211 => some (.inl (0, 7, false))
  | 212 => some (.inl (0, 7, false))
  | 213 => some (.inl (0, 7, false))
  | 214 => some (.inl (4, 2, true))
  | 216 => some (.inl (1, 50, false))
  | 218 => some (.inl (0, 20, false))
  | 220 => some (.inr (3, [some (some 221)]))
  | 221 => some (.inl (0, 128, false))
  | 300 => some (.inr (2, [none, some (some 302), some (some 303), some (some 304), none, none, none, none, none, some (some 310), some (some 311), some (some 312), some (some 313), some (some 314), none, some (some 316), none, some (some 318), none, some (some 320)]))
  | 302 => some (.inl (0, 8, false))
  | 303 => some (.inl (0, 8, false))
  | 304 => some (.inl (0, 8, false))
  | 310 => some (.inl (3, 7, true))
  | 311 => some (.inl (0, 7, false))
  | 312 => some (.inl (0, 7, false))
  | 313 => some (.inl (0, 7, false))
  | 314 => some (.inl (4, 2, true))
  | 316 => some (.inl (1, 50, false))
  | 318 => some (.inl (0, 20, false))
  | 320 => some (.inr (3, [some (some 321)]))
  | 321 => some (.inl (0, 128, false))
  | _ => none
theorem ly_x0 : zLx 0 = some (.inr (0, [some (some 1), some (some 100), some (some 200), some (some 300), none, some (some 4), some (some 6), some (some 7)])) := rfl
theorem ly_x1 : zLx 1 = some (.inr (1, [some none, some none, some none, some none, some none, none, none])) := rfl
theorem ly_x4 : zLx 4 = some (.inr (4, [some (some 5), none])) := rfl
theorem ly_x5 : zLx 5 = some (.inl (0, 40, false)) := rfl
theorem ly_x6 : zLx 6 = some (.inl (0, 6, false)) := rfl
theorem ly_x7 : zLx 7 = some (.inl (5, 4, true)) := rfl
def zBay (b : Nat) : Prop := b = 100 ∨ b = 200 ∨ b = 300
theorem zb100 : zBay 100 := by unfold zBay; decide
theorem zb200 : zBay 200 := by unfold zBay; decide
theorem zb300 : zBay 300 := by unfold zBay; decide
theorem ly_b0 {b : Nat} (hb : zBay b) : zLx b = some (.inr (2, [none, some (some (b + 2)), some (some (b + 3)), some (some (b + 4)), none, none, none, none, none, some (some (b + 10)), some (some (b + 11)), some (some (b + 12)), some (some (b + 13)), some (some (b + 14)), none, some (some (b + 16)), none, some (some (b + 18)), none, some (some (b + 20))])) := by rcases hb with rfl | rfl | rfl <;> rfl
theorem ly_b2 {b : Nat} (hb : zBay b) : zLx (b + 2) = some (.inl (0, 8, false)) := by rcases hb with rfl | rfl | rfl <;> rfl
theorem ly_b3 {b : Nat} (hb : zBay b) : zLx (b + 3) = some (.inl (0, 8, false)) := by rcases hb with rfl | rfl | rfl <;> rfl
theorem ly_b4 {b : Nat} (hb : zBay b) : zLx (b + 4) = some (.inl (0, 8, false)) := by rcases hb with rfl | rfl | rfl <;> rfl
theorem ly_b10 {b : Nat} (hb : zBay b) : zLx (b + 10) = some (.inl (3, 7, true)) := by rcases hb with rfl | rfl | rfl <;> rfl
theorem ly_b11 {b : Nat} (hb : zBay b) : zLx (b + 11) = some (.inl (0, 7, false)) := by rcases hb with rfl | rfl | rfl <;> rfl
theorem ly_b12 {b : Nat} (hb : zBay b) : zLx (b + 12) = some (.inl (0, 7, false)) := by rcases hb with rfl | rfl | rfl <;> rfl
theorem ly_b13 {b : Nat} (hb : zBay b) : zLx (b + 13) = some (.inl (0, 7, false)) := by rcases hb with rfl | rfl | rfl <;> rfl
theorem ly_b14 {b : Nat} (hb : zBay b) : zLx (b + 14) = some (.inl (4, 2, true)) := by rcases hb with rfl | rfl | rfl <;> rfl
theorem ly_b16 {b : Nat} (hb : zBay b) : zLx (b + 16) = some (.inl (1, 50, false)) := by rcases hb with rfl | rfl | rfl <;> rfl
theorem ly_b18 {b : Nat} (hb : zBay b) : zLx (b + 18) = some (.inl (0, 20, false)) := by rcases hb with rfl | rfl | rfl <;> rfl
theorem ly_b20 {b : Nat} (hb : zBay b) : zLx (b + 20) = some (.inr (3, [some (some (b + 21))])) := by rcases hb with rfl | rfl | rfl <;> rfl
theorem ly_b21 {b : Nat} (hb : zBay b) : zLx (b + 21) = some (.inl (0, 128, false)) := by rcases hb with rfl | rfl | rfl <;> rfl
/-- ships: their class's number, their number, their m -/
def zShipC (ci : Nat) : Prop := ci = 8 ∨ ci = 9 ∨ ci = 10 ∨ ci = 11 ∨ ci = 12 ∨ ci = 13 ∨ ci = 14
def oShip (w : ZW) (x : Option va_E) : Option (Nat × Int32 × Int32) := match x with
  | some (.inr (ci, [.ref t, .int n, .int m])) => if t = w.2.2 4 ∧ 8 ≤ ci ∧ ci ≤ 14 then some (ci, n, m) else none
  | _ => none
theorem oShip_ {w : ZW} {x : Option va_E} {ci : Nat} {n m : Int32} (h : oShip w x = some (ci, n, m)) : x = some (.inr (ci, [.ref (w.2.2 4), .int n, .int m])) ∧ zShipC ci := by
  unfold oShip at h
  split at h
  · split at h
    · rename_i h2
      cases h
      refine ⟨by rw [h2.1], ?_⟩
      unfold zShipC
      omega
    · cases h
  · cases h
