/-! shelves and sheets (written by gen/mk37.py) -/
def oShelf (x : Option va_E) : Option (Option Nat) := match x with
  | some (.inr (5, [.null])) => some none
  | some (.inr (5, [.ref a])) => some (some a)
  | _ => none
theorem oShelf_ {x : Option va_E} {o : Option Nat} (h : oShelf x = some o) : x = some (.inr (5, [va_rf o])) := by
  unfold oShelf at h
  split at h
  · cases h; rfl
  · cases h; rfl
  · cases h
def zSheetC (ci : Nat) : Prop := ci = 20 ∨ ci = 21 ∨ ci = 22
def oSheet (x : Option va_E) : Option (Nat × Nat) := match x with
  | some (.inr (ci, [.ref r])) => if 20 ≤ ci ∧ ci ≤ 22 then some (ci, r) else none
  | _ => none
theorem oSheet_ {x : Option va_E} {ci r : Nat} (h : oSheet x = some (ci, r)) : x = some (.inr (ci, [.ref r])) ∧ zSheetC ci := by
  unfold oSheet at h
  split at h
  · split at h
    · cases h
      refine ⟨rfl, ?_⟩
      unfold zSheetC
      omega
    · cases h
  · cases h
def oRow (w : ZW) (t : Nat) (x : Option va_E) : Option (Nat × (Nat → Int32)) := match x with
  | some (.inl (c, n, .inl f)) => if c = w.2.1 t then some (n, f) else none
  | _ => none
theorem oRow_ {w : ZW} {t : Nat} {x : Option va_E} {n : Nat} {f : Nat → Int32} (h : oRow w t x = some (n, f)) : x = some (.inl (w.2.1 t, n, .inl f)) := by
  unfold oRow at h
  split at h
  · split at h
    · rename_i h2
      cases h
      rw [h2]
    · cases h
  · cases h
def oNul (x : Option va_E) : Option Nat := match x with
  | some (.inr (ci, [.null])) => some ci
  | _ => none
theorem oNul_ {x : Option va_E} {ci : Nat} (h : oNul x = some ci) : x = some (.inr (ci, [.null])) := by
  unfold oNul at h
  split at h
  · cases h; rfl
  · cases h
section ZSheet
variable {p : Program} {l : Launch} {e : Env} {R : Room} {s : State} {m : MethodId} {args : Array Value} {below : List Frame} {meth : Method} {c : Code} {Q : State → Prop} {w : ZW} {L : ZL} {A : Nat → Prop} {nL : Nat} {cc : ByteArray} {own : String} {ret : Option FieldType} {hh : List (Nat × Nat × Nat × Nat)}
variable {σ : ZS} {pc : Nat} {lv lv' : List (Nat × Value)} {st : List Value}
theorem z_getHeld (C : zCx p s m args meth c w L A nL cc own ret hh) {a : Nat} {o : Option Nat} (hP : σ.2.2.1 a = some (.inr (5, [va_rf o]))) {index : Nat} {host : String} (hq : Cond.fieldLinkNest own index "OldLight$Shelf" "held" "Ljava/lang/Object;" host ∈ lw_tbl) (hd : decode cc pc = .ok (.getfield index, 3)) (kk : Z p l e R s m args below meth c Q w L A nL σ (pc + 3) lv (va_rf o :: st)) : Z p l e R s m args below meth c Q w L A nL σ pc lv (.ref a :: st) := z_getN C (T := TX5) (N := 1) rfl in_X5 (zSee.pool hP) 0 (by decide) hq (Or.inl rfl) rfl hd kk
theorem z_castSheet (C : zCx p s m args meth c w L A nL cc own ret hh) {a ci r : Nat} (hci : zSheetC ci) (hP : σ.2.2.1 a = some (.inr (ci, [.ref r]))) {index : Nat} (hq : Cond.classLink own index "OldLight$Sheet" ∈ lw_all) (hd : decode cc pc = .ok (.checkcast index, 3)) (kk : Z p l e R s m args below meth c Q w L A nL σ (pc + 3) lv (.ref a :: st)) : Z p l e R s m args below meth c Q w L A nL σ pc lv (.ref a :: st) := by
  intro H locs k n ls h1 h2 h3 h4 h5 hl
  rcases hci with rfl | rfl | rfl
  · obtain ⟨cell, kc, g1, g2, g3, -⟩ := zRecv C (T := TX22) (N := 1) rfl (zSee.pool hP) h1
    exact va_castY C.1 C.2.1 C.2.2.2.1 (C.2.2.2.2.1 _ hq) (C.2.2.2.2.2.1.2.1 _ q1907 rfl) ⟨cell, g1, g2, g3⟩ hd (kk H locs k n ls h1 h2 h3 h4 h5 hl)
  · obtain ⟨cell, kc, g1, g2, g3, -⟩ := zRecv C (T := TX23) (N := 1) rfl (zSee.pool hP) h1
    exact va_castY C.1 C.2.1 C.2.2.2.1 (C.2.2.2.2.1 _ hq) (C.2.2.2.2.2.1.2.1 _ q1909 rfl) ⟨cell, g1, g2, g3⟩ hd (kk H locs k n ls h1 h2 h3 h4 h5 hl)
  · obtain ⟨cell, kc, g1, g2, g3, -⟩ := zRecv C (T := TX24) (N := 1) rfl (zSee.pool hP) h1
    exact va_castY C.1 C.2.1 C.2.2.2.1 (C.2.2.2.2.1 _ hq) (C.2.2.2.2.2.1.2.1 _ q1908 rfl) ⟨cell, g1, g2, g3⟩ hd (kk H locs k n ls h1 h2 h3 h4 h5 hl)
end ZSheet
