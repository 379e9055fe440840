/-! terms (written by gen/mk32.py) -/
abbrev yTerm : MethodName := ⟨"OldLight$Term", "value", "(LOldLight$Facts;)I"⟩
theorem np_X20_value : zNp yX20_value.desc 1 := by unfold zNp; decide +kernel
theorem mh_X20 : zMH RX20 := by unfold zMH; decide
theorem np_X17_value : zNp yX17_value.desc 1 := by unfold zNp; decide +kernel
theorem mh_X17 : zMH RX17 := by unfold zMH; decide
theorem np_X19_value : zNp yX19_value.desc 1 := by unfold zNp; decide +kernel
theorem mh_X19 : zMH RX19 := by unfold zMH; decide
theorem np_X8_value : zNp yX8_value.desc 1 := by unfold zNp; decide +kernel
theorem mh_X8 : zMH RX8 := by unfold zMH; decide
theorem np_Term : zNp yTerm.desc 1 := by unfold zNp; decide +kernel
theorem mh_Term : zMH "OldLight$Term" := by unfold zMH; decide
/-- the term at a has the value r, by the contract of its own method -/
def zVal (l : Launch) (w : ZW) (σ : ZS) (b fr lo a : Nat) (r : Int32) : Prop :=
  (∃ (v : Int32), σ.2.2.1 a = some (.inr (19, [.int v])) ∧ zC l w zLx yX20_value (ws_ yX20_value cX20_value 2 (some .int)) fr lo [.ref a, .ref (w.2.2 (b + 20))] σ (.returned (some (.int r))) σ) ∨
  (∃ (v : Int32), σ.2.2.1 a = some (.inr (16, [.int v])) ∧ zC l w zLx yX17_value (ws_ yX17_value cX17_value 2 (some .int)) fr lo [.ref a, .ref (w.2.2 (b + 20))] σ (.returned (some (.int r))) σ) ∨
  (∃ (a1 : Nat), σ.2.2.1 a = some (.inr (18, [.ref a1])) ∧ zC l w zLx yX19_value (ws_ yX19_value cX19_value 2 (some .int)) fr lo [.ref a, .ref (w.2.2 (b + 20))] σ (.returned (some (.int r))) σ) ∨
  (∃ (v : Int32) (a1 a2 : Nat), σ.2.2.1 a = some (.inr (7, [.int v, .ref a1, .ref a2])) ∧ zC l w zLx yX8_value (ws_ yX8_value cX8_value 4 (some .int)) fr lo [.ref a, .ref (w.2.2 (b + 20))] σ (.returned (some (.int r))) σ)
section ZTerm
variable {p : Program} {l : Launch} {e : Env} {R : Room} {s : State} {m : MethodId} {args : Array Value} {below : List Frame} {meth : Method} {c : Code} {Q : State → Prop} {w : ZW} {A : Nat → Prop} {nL : Nat} {cc : ByteArray} {own : String} {ret : Option FieldType} {hh : List (Nat × Nat × Nat × Nat)}
variable {σ : ZS} {pc : Nat} {lv lv' : List (Nat × Value)} {st : List Value}
theorem z_term (C : zCx p s m args meth c w zLx A nL cc own ret hh) {index b fr lo a : Nat} {r : Int32} (hq1 : Cond.methodLink own index yTerm ∈ lw_all) (hv : zVal l w σ b fr lo a r) (hd : decode cc pc = .ok (.invokevirtual index, 3)) (hfr : fr + 1 ≤ R.frames) (hlo : (st.map fun v => v.category).sum + (4 + 11) + lo ≤ R.locals) (kk : Z p l e R s m args below meth c Q w zLx A nL σ (pc + 3) lv (.int r :: st)) : Z p l e R s m args below meth c Q w zLx A nL σ pc lv (.ref (w.2.2 (b + 20)) :: .ref a :: st) := by
  rcases hv with ⟨v, hP, hM⟩ | ⟨v, hP, hM⟩ | ⟨a1, hP, hM⟩ | ⟨v, a1, a2, hP, hM⟩
  · exact z_calli C (rest := st) (av := [.ref a, .ref (w.2.2 (b + 20))]) (zPay.of q404 q103) (fun H ls hH h2 => zInv_U C (x := yTerm) (owner := "OldLight$Term") (As := [.ref (w.2.2 (b + 20))]) (rest := st) (ci := 19) (T := TX20) (N := 1) rfl (zSee.pool hP) hH hq1 q401 (zDecl_abs C q400) mh_Term q403 q402 np_Term hd) hM hfr (by have := hlo; omega) kk
  · exact z_calli C (rest := st) (av := [.ref a, .ref (w.2.2 (b + 20))]) (zPay.of q407 q100) (fun H ls hH h2 => zInv_U C (x := yTerm) (owner := "OldLight$Term") (As := [.ref (w.2.2 (b + 20))]) (rest := st) (ci := 16) (T := TX17) (N := 1) rfl (zSee.pool hP) hH hq1 q401 (zDecl_abs C q400) mh_Term q406 q405 np_Term hd) hM hfr (by have := hlo; omega) kk
  · exact z_calli C (rest := st) (av := [.ref a, .ref (w.2.2 (b + 20))]) (zPay.of q410 q102) (fun H ls hH h2 => zInv_U C (x := yTerm) (owner := "OldLight$Term") (As := [.ref (w.2.2 (b + 20))]) (rest := st) (ci := 18) (T := TX19) (N := 1) rfl (zSee.pool hP) hH hq1 q401 (zDecl_abs C q400) mh_Term q409 q408 np_Term hd) hM hfr (by have := hlo; omega) kk
  · exact z_calli C (rest := st) (av := [.ref a, .ref (w.2.2 (b + 20))]) (zPay.of q413 q86) (fun H ls hH h2 => zInv_U C (x := yTerm) (owner := "OldLight$Term") (As := [.ref (w.2.2 (b + 20))]) (rest := st) (ci := 7) (T := TX8) (N := 3) rfl (zSee.pool hP) hH hq1 q401 (zDecl_abs C q400) mh_Term q412 q418 np_Term hd) hM hfr (by have := hlo; omega) kk
end ZTerm
