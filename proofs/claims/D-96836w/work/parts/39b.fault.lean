/-! outcomes of the reader's methods, which may throw a Fault out of the pool; its place; a term put onto a row of terms -/
abbrev ocV2 (r : Unit ⊕ Nat) : Outcome := match r with
  | .inl _ => .returned none
  | .inr a => .threw a
abbrev ocA2 (r : Nat ⊕ Nat) : Outcome := match r with
  | .inl a => .returned (some (.ref a))
  | .inr a => .threw a
def oFt (x : Option va_E) : Option Int32 := match x with
  | some (.inr (17, [_, _, _, _, _, _, .int v])) => some v
  | _ => none
theorem oFt_ {x : Option va_E} {v : Int32} (h : oFt x = some v) : ∃ c0 c1 c2 c3 c4 c5 : Value, x = some (.inr (17, [c0, c1, c2, c3, c4, c5, .int v])) := by
  unfold oFt at h
  split at h
  · cases h
    exact ⟨_, _, _, _, _, _, rfl⟩
  · cases h
def oTm (x : Option va_E) : Option (Nat × List Value) := match x with
  | some (.inr (ci, vs)) => if ci = 7 ∨ ci = 16 ∨ ci = 18 ∨ ci = 19 then some (ci, vs) else none
  | _ => none
theorem oTm_ {x : Option va_E} {ci : Nat} {vs : List Value} (h : oTm x = some (ci, vs)) : x = some (.inr (ci, vs)) ∧ (ci = 7 ∨ ci = 16 ∨ ci = 18 ∨ ci = 19) := by
  unfold oTm at h
  split at h
  · split at h
    · rename_i h2
      cases h
      exact ⟨rfl, h2⟩
    · cases h
  · cases h
section ZAst
variable {p : Program} {l : Launch} {e : Env} {R : Room} {s : State} {m : MethodId} {args : Array Value} {below : List Frame} {meth : Method} {c : Code} {Q : State → Prop} {w : ZW} {A : Nat → Prop} {nL : Nat} {cc : ByteArray} {own : String} {ret : Option FieldType} {hh : List (Nat × Nat × Nat × Nat)} {σ : ZS} {pc : Nat} {lv : List (Nat × Value)} {st : List Value}
theorem z_aastoreT (C : zCx p s m args meth c w zLx A nL cc own ret hh) {j N b ci : Nat} {vs : List Value} (hci : ci = 7 ∨ ci = 16 ∨ ci = 18 ∨ ci = 19) (hP : σ.2.2.1 b = some (.inr (ci, vs))) (hj : zLx j = some (.inl (4, N, true))) {i : Int32} (hin : ¬ (i < 0 ∨ N ≤ i.toNatClampNeg)) (hd : decode cc pc = .ok (.aastore, 1)) (kk : Z p l e R s m args below meth c Q w zLx A nL (sG σ j i.toNatClampNeg (some b)) (pc + 1) lv st) : Z p l e R s m args below meth c Q w zLx A nL σ pc lv (.ref b :: .int i :: .ref (w.2.2 j) :: st) := by
  obtain ⟨r, hr, hcast⟩ := zCs_term ci (by rcases hci with rfl | rfl | rfl | rfl <;> decide)
  exact z_aastore C hj (by decide) rfl (zSee.pool hP) hr hcast hin hd kk
end ZAst
