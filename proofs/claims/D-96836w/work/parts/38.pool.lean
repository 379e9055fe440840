/-! contents of objects in the pool (written by gen/mk38.py) -/
def oC1 (ci : Nat) (x : Option va_E) : Option (Value) := match x with
  | some (.inr (k, [c0])) => if k = ci then some c0 else none
  | _ => none
theorem oC1_ {ci : Nat} {x : Option va_E} {c0 : Value} (h : oC1 ci x = some c0) : x = some (.inr (ci, [c0])) := by
  unfold oC1 at h
  split at h
  · split at h
    · rename_i h2
      cases h
      rw [h2]
    · cases h
  · cases h
def oC2 (ci : Nat) (x : Option va_E) : Option (Value × Value) := match x with
  | some (.inr (k, [c0, c1])) => if k = ci then some (c0, c1) else none
  | _ => none
theorem oC2_ {ci : Nat} {x : Option va_E} {c0 c1 : Value} (h : oC2 ci x = some (c0, c1)) : x = some (.inr (ci, [c0, c1])) := by
  unfold oC2 at h
  split at h
  · split at h
    · rename_i h2
      cases h
      rw [h2]
    · cases h
  · cases h
def oC3 (ci : Nat) (x : Option va_E) : Option (Value × Value × Value) := match x with
  | some (.inr (k, [c0, c1, c2])) => if k = ci then some (c0, c1, c2) else none
  | _ => none
theorem oC3_ {ci : Nat} {x : Option va_E} {c0 c1 c2 : Value} (h : oC3 ci x = some (c0, c1, c2)) : x = some (.inr (ci, [c0, c1, c2])) := by
  unfold oC3 at h
  split at h
  · split at h
    · rename_i h2
      cases h
      rw [h2]
    · cases h
  · cases h
def oC5 (ci : Nat) (x : Option va_E) : Option (Value × Value × Value × Value × Value) := match x with
  | some (.inr (k, [c0, c1, c2, c3, c4])) => if k = ci then some (c0, c1, c2, c3, c4) else none
  | _ => none
theorem oC5_ {ci : Nat} {x : Option va_E} {c0 c1 c2 c3 c4 : Value} (h : oC5 ci x = some (c0, c1, c2, c3, c4)) : x = some (.inr (ci, [c0, c1, c2, c3, c4])) := by
  unfold oC5 at h
  split at h
  · split at h
    · rename_i h2
      cases h
      rw [h2]
    · cases h
  · cases h
def oC7 (ci : Nat) (x : Option va_E) : Option (Value × Value × Value × Value × Value × Value × Value) := match x with
  | some (.inr (k, [c0, c1, c2, c3, c4, c5, c6])) => if k = ci then some (c0, c1, c2, c3, c4, c5, c6) else none
  | _ => none
theorem oC7_ {ci : Nat} {x : Option va_E} {c0 c1 c2 c3 c4 c5 c6 : Value} (h : oC7 ci x = some (c0, c1, c2, c3, c4, c5, c6)) : x = some (.inr (ci, [c0, c1, c2, c3, c4, c5, c6])) := by
  unfold oC7 at h
  split at h
  · split at h
    · rename_i h2
      cases h
      rw [h2]
    · cases h
  · cases h
def oC8 (ci : Nat) (x : Option va_E) : Option (Value × Value × Value × Value × Value × Value × Value × Value) := match x with
  | some (.inr (k, [c0, c1, c2, c3, c4, c5, c6, c7])) => if k = ci then some (c0, c1, c2, c3, c4, c5, c6, c7) else none
  | _ => none
theorem oC8_ {ci : Nat} {x : Option va_E} {c0 c1 c2 c3 c4 c5 c6 c7 : Value} (h : oC8 ci x = some (c0, c1, c2, c3, c4, c5, c6, c7)) : x = some (.inr (ci, [c0, c1, c2, c3, c4, c5, c6, c7])) := by
  unfold oC8 at h
  split at h
  · split at h
    · rename_i h2
      cases h
      rw [h2]
    · cases h
  · cases h
def oC20 (ci : Nat) (x : Option va_E) : Option (Value × Value × Value × Value × Value × Value × Value × Value × Value × Value × Value × Value × Value × Value × Value × Value × Value × Value × Value × Value) := match x with
  | some (.inr (k, [c0, c1, c2, c3, c4, c5, c6, c7, c8, c9, c10, c11, c12, c13, c14, c15, c16, c17, c18, c19])) => if k = ci then some (c0, c1, c2, c3, c4, c5, c6, c7, c8, c9, c10, c11, c12, c13, c14, c15, c16, c17, c18, c19) else none
  | _ => none
theorem oC20_ {ci : Nat} {x : Option va_E} {c0 c1 c2 c3 c4 c5 c6 c7 c8 c9 c10 c11 c12 c13 c14 c15 c16 c17 c18 c19 : Value} (h : oC20 ci x = some (c0, c1, c2, c3, c4, c5, c6, c7, c8, c9, c10, c11, c12, c13, c14, c15, c16, c17, c18, c19)) : x = some (.inr (ci, [c0, c1, c2, c3, c4, c5, c6, c7, c8, c9, c10, c11, c12, c13, c14, c15, c16, c17, c18, c19])) := by
  unfold oC20 at h
  split at h
  · split at h
    · rename_i h2
      cases h
      rw [h2]
    · cases h
  · cases h
def oC24 (ci : Nat) (x : Option va_E) : Option (Value × Value × Value × Value × Value × Value × Value × Value × Value × Value × Value × Value × Value × Value × Value × Value × Value × Value × Value × Value × Value × Value × Value × Value) := match x with
  | some (.inr (k, [c0, c1, c2, c3, c4, c5, c6, c7, c8, c9, c10, c11, c12, c13, c14, c15, c16, c17, c18, c19, c20, c21, c22, c23])) => if k = ci then some (c0, c1, c2, c3, c4, c5, c6, c7, c8, c9, c10, c11, c12, c13, c14, c15, c16, c17, c18, c19, c20, c21, c22, c23) else none
  | _ => none
theorem oC24_ {ci : Nat} {x : Option va_E} {c0 c1 c2 c3 c4 c5 c6 c7 c8 c9 c10 c11 c12 c13 c14 c15 c16 c17 c18 c19 c20 c21 c22 c23 : Value} (h : oC24 ci x = some (c0, c1, c2, c3, c4, c5, c6, c7, c8, c9, c10, c11, c12, c13, c14, c15, c16, c17, c18, c19, c20, c21, c22, c23)) : x = some (.inr (ci, [c0, c1, c2, c3, c4, c5, c6, c7, c8, c9, c10, c11, c12, c13, c14, c15, c16, c17, c18, c19, c20, c21, c22, c23])) := by
  unfold oC24 at h
  split at h
  · split at h
    · rename_i h2
      cases h
      rw [h2]
    · cases h
  · cases h
def oFR (ci k : Nat) (x : Option va_E) : Option (List Value × Nat) := match x with
  | some (.inr (c, vs)) => if c = ci then (match vs[k]? with
    | some (.ref r) => some (vs, r)
    | _ => none) else none
  | _ => none
theorem oFR_ {ci k : Nat} {x : Option va_E} {vs : List Value} {r : Nat} (h : oFR ci k x = some (vs, r)) : x = some (.inr (ci, vs)) ∧ vs[k]? = some (.ref r) := by
  unfold oFR at h
  split at h
  · split at h
    · rename_i h2
      split at h
      · rename_i h3
        cases h
        exact ⟨by rw [h2], h3⟩
      · cases h
    · cases h
  · cases h
def oRowG (w : ZW) (t : Nat) (x : Option va_E) : Option (Nat × (Nat → Option Nat)) := match x with
  | some (.inl (c, n, .inr (.inr (.inr (.inr f))))) => if c = w.2.1 t then some (n, f) else none
  | _ => none
theorem oRowG_ {w : ZW} {t : Nat} {x : Option va_E} {n : Nat} {f : Nat → Option Nat} (h : oRowG w t x = some (n, f)) : x = some (.inl (w.2.1 t, n, .inr (.inr (.inr (.inr f))))) := by
  unfold oRowG at h
  split at h
  · split at h
    · rename_i h2
      cases h
      rw [h2]
    · cases h
  · cases h
