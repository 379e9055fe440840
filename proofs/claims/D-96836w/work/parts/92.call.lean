/-! calls over an inner world: what is behind is chosen behind the call -/
section ZSubCall
variable {p : Program} {l : Launch} {e : Env} {R : Room} {s : State} {m : MethodId} {args : Array Value} {below : List Frame} {meth : Method} {c : Code} {Q : State → Prop} {w : ZW} {A : Nat → Prop} {nL : Nat} {cc : ByteArray} {own : String} {ret : Option FieldType} {hh : List (Nat × Nat × Nat × Nat)}
variable {σ σ' σ'' σ3 : ZS} {pc len : Nat} {lv lv' : List (Nat × Value)} {st rest av : List Value} {y : MethodName} {bytes : ByteArray} {maxL : Nat} {rt : Option FieldType} {wd : Cond} {ws : List Cond} {fr lo : Nat} {o : Outcome} {w' : ZW} {L' : ZL}
theorem z_callSj {v : Int32} (C : zCx p s m args meth c w zL0 A nL cc own ret hh) (hp : zPay ws y bytes maxL rt wd) (hI : ∀ (H : Heap) (ls : Array Slot), zHold zcl w zL0 σ H → (∃ locs, va_S A s.heap H locs) → zInv p l e R s m args below meth c H (F0 m pc ls st) rest len y av) (hS : zSub w w' L' σ σ') (hM : zC l w' L' y ws fr lo av σ' (.returned (some (.int v))) σ'')
    (hc1 : σ'.2.2.2.2.1 ≤ σ.2.2.2.2.1) (hs1 : σ'.2.2.2.2.2 ≤ σ.2.2.2.2.2)
    (hfr : fr + 1 ≤ R.frames) (hlo : (rest.map fun v => v.category).sum + (maxL + 11) + lo ≤ R.locals)
    (kk : (∀ a x, σ''.2.2.1 a = some x → zA w' L' σ' a) → (∀ a x, σ''.2.2.1 a = some x → ∀ i d, L' i = some d → a ≠ w'.2.2 i) → σ'.2.2.2.1 ≤ σ''.2.2.2.1 → ∃ σ3, zBk w' L' σ σ' σ'' σ3 ∧ σ3.2.2.2.2.1 + σ'.2.2.2.2.1 ≤ σ.2.2.2.2.1 + σ''.2.2.2.2.1 ∧ σ3.2.2.2.2.2 + σ'.2.2.2.2.2 ≤ σ.2.2.2.2.2 + σ''.2.2.2.2.2 ∧ Z p l e R s m args below meth c Q w zL0 A nL σ3 (pc + len) lv (.int v :: rest)) : Z p l e R s m args below meth c Q w zL0 A nL σ pc lv st := by
  intro H locs k n ls h1 h2 h3 h4 h5 hl T hT X
  have hts := C.2.2.2.2.1
  have hK := C.2.2.2.2.2.1
  obtain ⟨hws, hwd, hwi, hini⟩ := hp
  have hH' := hS.hold h1
  have hsub : ∀ q, zA w' L' σ' q → A q := by
    rintro q (⟨i, d, hi, rfl⟩ | ⟨x, hx⟩ | hz)
    · exact h3 _ _ (hS.2.2.2.2.1 i d hi)
    · exact h3 q x (hS.2.2.2.2.2.1 q x hx).1
    · exact C.2.2.2.2.2.2.2.1 q (Nat.le_trans h2.1 (by rw [hH'.1]; exact hz))
  have hsteady : ∀ x ∈ lw_all, ∀ (a' : Array Value) (U : State), s.WarmedH U.vm → x.before a' U = true := fun x hx a' U hW => word_at hW (lw_self x hx).2 (hts x hx)
  obtain ⟨o', s0, t, T', Ls, k1, n1, e1, e2, ⟨ho, q1, q2, q3, q4, q5⟩, e3, e4, e5, X', hout⟩ := zCallT (hI H ls h1 ⟨locs, h2⟩) hM (bytes := bytes) (maxL := maxL) (ret := rt) (w := wd) hwd (by rw [hws]; exact List.mem_cons_self)
    (fun x hx a' U hW => by
      rw [hws] at hx
      rcases List.mem_cons.mp hx with rfl | hx
      · exact hsteady _ hwi a' U hW
      · exact hsteady _ hx a' U hW) (fun a' U hW => hsteady _ hini a' U hW) (by rw [C.2.2.1]; exact hl.1) hfr (by show 2 * 0 + _ + _ + _ ≤ _; rw [Nat.mul_zero, Nat.zero_add]; exact hlo) hT X (by show k + σ'.2.2.2.2.1 ≤ _; omega) (by show n + σ'.2.2.2.2.2 ≤ _; omega)
    (fun U hU hW => ⟨rfl, by rw [hU]; exact hH', (hK.moved hW).alter hS.1 hS.2.1, hS.2.2.1, by rw [hU]; exact (((C.2.2.2.2.2.2.2.2.2.2.2.2.2.moved hW.alike).kept h2.2.1).narrow hsub).alter hS.1⟩)
  subst ho
  obtain ⟨σ3, hB, hc3, hs3, kk⟩ := kk q5 (fun a x hx => (q1.2.2.1 a x hx).2) (by rw [hS.2.2.2.1, ← h1.1, ← q1.1, ← e1]; exact q2.1)
  have hS' : va_S A s.heap t.heap (locs ++ Ls) := by
    refine ⟨Nat.le_trans h2.1 (by rw [← e1]; exact q2.1), fun q g1 g2 => ?_, fun q hq => ?_⟩
    · rw [q2.2 q (by rw [e1]; exact Nat.lt_of_lt_of_le g1 h2.1) (fun hz => g2 (hsub q hz)), e1]
      exact h2.2.1 q g1 g2
    · rcases List.mem_append.mp hq with h | h
      · exact h2.2.2 q h
      · exact hsub _ (e5 q h)
  have hH3 : zHold zcl w zL0 σ3 t.heap := hB.hold hS h1 q1 (fun q g1 g2 => by rw [q2.2 q (by rw [e1]; exact g1) g2, e1])
  have h3' : ∀ a x, σ3.2.2.1 a = some x → A a := by
    intro a x hx
    rcases hB.2 a x hx with ⟨i, d, hi, rfl, rfl⟩ | hp | ⟨hp, -, -⟩
    · exact hsub _ (Or.inl ⟨i, d, hi, rfl⟩)
    · exact hsub a (q5 a x hp)
    · exact h3 a x hp
  have h4' : k + k1 + σ3.2.2.2.2.1 ≤ R.cells := by omega
  have h5' : n + n1 + σ3.2.2.2.2.2 ≤ R.slots := by omega
  obtain ⟨t', a1, b1⟩ := kk t.heap _ _ _ ls hH3 hS' h3' h4' h5' hl T' e3 X'
  exact ⟨t', hout _ a1, b1⟩
end ZSubCall
