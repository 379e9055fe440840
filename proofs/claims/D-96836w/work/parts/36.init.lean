/-! constructors in the pool (written by gen/mk36.py) -/
theorem sP_self {σ : ZS} {a : Nat} {x : va_E} : (sP σ a x).2.2.1 a = some x := by simp [sP]
theorem sN_self {σ : ZS} {x : va_E} {n : Nat} : (sN σ x n).2.2.1 σ.2.2.2.1 = some x := by simp [sN]
section ZInit
variable {p : Program} {l : Launch} {e : Env} {R : Room} {s : State} {m : MethodId} {args : Array Value} {below : List Frame} {meth : Method} {c : Code} {Q : State → Prop} {w : ZW} {L : ZL} {A : Nat → Prop} {nL : Nat} {cc : ByteArray} {own : String} {ret : Option FieldType} {hh : List (Nat × Nat × Nat × Nat)}
variable {σ : ZS} {pc : Nat} {lv lv' : List (Nat × Value)} {st : List Value}
theorem z_objInit (C : zCx p s m args meth c w L A nL cc own ret hh) {idx a : Nat} (hq : Cond.methodLink own idx Lib.objectInit ∈ lw_all) (hd : decode cc pc = .ok (.invokespecial idx, 3)) (hfr : 1 ≤ R.frames) (hlo : (st.map fun v => v.category).sum + 12 ≤ R.locals) (kk : Z p l e R s m args below meth c Q w L A nL σ (pc + 3) lv st) : Z p l e R s m args below meth c Q w L A nL σ pc lv (.ref a :: st) := by
  intro H locs k n ls h1 h2 h3 h4 h5 hl
  have hts := C.2.2.2.2.1
  refine W.objInit C.1 C.2.1 C.2.2.2.1 (hts _ hq) (hts _ q116) (hts _ q117) rfl (by rw [C.2.2.1]; exact hl.1) rfl hd hfr (by show 2 * 0 + _ + 12 ≤ _; rw [Nat.mul_zero, Nat.zero_add]; exact hlo) ?_
  exact kk H locs k n ls h1 h2 h3 h4 h5 hl
theorem z_putS0 (C : zCx p s m args meth c w L A nL cc RX9 ret hh) (hin2 : meth.name = "<init>") {a ci : Nat} {v0 v1 v2 v : Value} (hci : zShipC ci) (hP : σ.2.2.1 a = some (.inr (ci, [v0, v1, v2]))) {index : Nat} (hq : Cond.fieldLink RX9 index RX9 (TX9 0).2.1 (TX9 0).2.2.1 ∈ lw_all) (hn : narrow (.object "OldLight$Trace") v = v) (hfit : fits (.object "OldLight$Trace") v = true) (hd : decode cc pc = .ok (.putfield index, 3)) (kk : Z p l e R s m args below meth c Q w L A nL (sP σ a (.inr (ci, [v, v1, v2]))) (pc + 3) lv st) : Z p l e R s m args below meth c Q w L A nL σ pc lv (v :: .ref a :: st) := by
  rcases hci with rfl | rfl | rfl | rfl | rfl | rfl | rfl
  · exact z_putP C hP (zPutF C (T := TX9) (N := 3) rfl in_X9 tyX9 tyX9_ok nmX9 0 (by decide) hq (Or.inl rfl) rfl hin2 rfl hn hfit (Nat.le_of_ble_eq_true rfl) hd) kk
  · exact z_putP C hP (zPutF C (T := TX10) (N := 3) rfl in_X10 tyX10 tyX10_ok nmX10 0 (by decide) hq (Or.inl rfl) rfl hin2 rfl hn hfit (Nat.le_of_ble_eq_true rfl) hd) kk
  · exact z_putP C hP (zPutF C (T := TX11) (N := 3) rfl in_X11 tyX11 tyX11_ok nmX11 0 (by decide) hq (Or.inl rfl) rfl hin2 rfl hn hfit (Nat.le_of_ble_eq_true rfl) hd) kk
  · exact z_putP C hP (zPutF C (T := TX12) (N := 3) rfl in_X12 tyX12 tyX12_ok nmX12 0 (by decide) hq (Or.inl rfl) rfl hin2 rfl hn hfit (Nat.le_of_ble_eq_true rfl) hd) kk
  · exact z_putP C hP (zPutF C (T := TX13) (N := 3) rfl in_X13 tyX13 tyX13_ok nmX13 0 (by decide) hq (Or.inl rfl) rfl hin2 rfl hn hfit (Nat.le_of_ble_eq_true rfl) hd) kk
  · exact z_putP C hP (zPutF C (T := TX14) (N := 3) rfl in_X14 tyX14 tyX14_ok nmX14 0 (by decide) hq (Or.inl rfl) rfl hin2 rfl hn hfit (Nat.le_of_ble_eq_true rfl) hd) kk
  · exact z_putP C hP (zPutF C (T := TX15) (N := 3) rfl in_X15 tyX15 tyX15_ok nmX15 0 (by decide) hq (Or.inl rfl) rfl hin2 rfl hn hfit (Nat.le_of_ble_eq_true rfl) hd) kk
theorem z_putS1 (C : zCx p s m args meth c w L A nL cc RX9 ret hh) (hin2 : meth.name = "<init>") {a ci : Nat} {v0 v1 v2 v : Value} (hci : zShipC ci) (hP : σ.2.2.1 a = some (.inr (ci, [v0, v1, v2]))) {index : Nat} (hq : Cond.fieldLink RX9 index RX9 (TX9 1).2.1 (TX9 1).2.2.1 ∈ lw_all) (hn : narrow (.int) v = v) (hfit : fits (.int) v = true) (hd : decode cc pc = .ok (.putfield index, 3)) (kk : Z p l e R s m args below meth c Q w L A nL (sP σ a (.inr (ci, [v0, v, v2]))) (pc + 3) lv st) : Z p l e R s m args below meth c Q w L A nL σ pc lv (v :: .ref a :: st) := by
  rcases hci with rfl | rfl | rfl | rfl | rfl | rfl | rfl
  · exact z_putP C hP (zPutF C (T := TX9) (N := 3) rfl in_X9 tyX9 tyX9_ok nmX9 1 (by decide) hq (Or.inl rfl) rfl hin2 rfl hn hfit (Nat.le_of_ble_eq_true rfl) hd) kk
  · exact z_putP C hP (zPutF C (T := TX10) (N := 3) rfl in_X10 tyX10 tyX10_ok nmX10 1 (by decide) hq (Or.inl rfl) rfl hin2 rfl hn hfit (Nat.le_of_ble_eq_true rfl) hd) kk
  · exact z_putP C hP (zPutF C (T := TX11) (N := 3) rfl in_X11 tyX11 tyX11_ok nmX11 1 (by decide) hq (Or.inl rfl) rfl hin2 rfl hn hfit (Nat.le_of_ble_eq_true rfl) hd) kk
  · exact z_putP C hP (zPutF C (T := TX12) (N := 3) rfl in_X12 tyX12 tyX12_ok nmX12 1 (by decide) hq (Or.inl rfl) rfl hin2 rfl hn hfit (Nat.le_of_ble_eq_true rfl) hd) kk
  · exact z_putP C hP (zPutF C (T := TX13) (N := 3) rfl in_X13 tyX13 tyX13_ok nmX13 1 (by decide) hq (Or.inl rfl) rfl hin2 rfl hn hfit (Nat.le_of_ble_eq_true rfl) hd) kk
  · exact z_putP C hP (zPutF C (T := TX14) (N := 3) rfl in_X14 tyX14 tyX14_ok nmX14 1 (by decide) hq (Or.inl rfl) rfl hin2 rfl hn hfit (Nat.le_of_ble_eq_true rfl) hd) kk
  · exact z_putP C hP (zPutF C (T := TX15) (N := 3) rfl in_X15 tyX15 tyX15_ok nmX15 1 (by decide) hq (Or.inl rfl) rfl hin2 rfl hn hfit (Nat.le_of_ble_eq_true rfl) hd) kk
theorem z_putS2 (C : zCx p s m args meth c w L A nL cc RX9 ret hh) (hin2 : meth.name = "<init>") {a ci : Nat} {v0 v1 v2 v : Value} (hci : zShipC ci) (hP : σ.2.2.1 a = some (.inr (ci, [v0, v1, v2]))) {index : Nat} (hq : Cond.fieldLink RX9 index RX9 (TX9 2).2.1 (TX9 2).2.2.1 ∈ lw_all) (hn : narrow (.int) v = v) (hfit : fits (.int) v = true) (hd : decode cc pc = .ok (.putfield index, 3)) (kk : Z p l e R s m args below meth c Q w L A nL (sP σ a (.inr (ci, [v0, v1, v]))) (pc + 3) lv st) : Z p l e R s m args below meth c Q w L A nL σ pc lv (v :: .ref a :: st) := by
  rcases hci with rfl | rfl | rfl | rfl | rfl | rfl | rfl
  · exact z_putP C hP (zPutF C (T := TX9) (N := 3) rfl in_X9 tyX9 tyX9_ok nmX9 2 (by decide) hq (Or.inl rfl) rfl hin2 rfl hn hfit (Nat.le_of_ble_eq_true rfl) hd) kk
  · exact z_putP C hP (zPutF C (T := TX10) (N := 3) rfl in_X10 tyX10 tyX10_ok nmX10 2 (by decide) hq (Or.inl rfl) rfl hin2 rfl hn hfit (Nat.le_of_ble_eq_true rfl) hd) kk
  · exact z_putP C hP (zPutF C (T := TX11) (N := 3) rfl in_X11 tyX11 tyX11_ok nmX11 2 (by decide) hq (Or.inl rfl) rfl hin2 rfl hn hfit (Nat.le_of_ble_eq_true rfl) hd) kk
  · exact z_putP C hP (zPutF C (T := TX12) (N := 3) rfl in_X12 tyX12 tyX12_ok nmX12 2 (by decide) hq (Or.inl rfl) rfl hin2 rfl hn hfit (Nat.le_of_ble_eq_true rfl) hd) kk
  · exact z_putP C hP (zPutF C (T := TX13) (N := 3) rfl in_X13 tyX13 tyX13_ok nmX13 2 (by decide) hq (Or.inl rfl) rfl hin2 rfl hn hfit (Nat.le_of_ble_eq_true rfl) hd) kk
  · exact z_putP C hP (zPutF C (T := TX14) (N := 3) rfl in_X14 tyX14 tyX14_ok nmX14 2 (by decide) hq (Or.inl rfl) rfl hin2 rfl hn hfit (Nat.le_of_ble_eq_true rfl) hd) kk
  · exact z_putP C hP (zPutF C (T := TX15) (N := 3) rfl in_X15 tyX15 tyX15_ok nmX15 2 (by decide) hq (Or.inl rfl) rfl hin2 rfl hn hfit (Nat.le_of_ble_eq_true rfl) hd) kk
theorem z_aastoreS (C : zCx p s m args meth c w zLx A nL cc own ret hh) {j N b ci : Nat} {n k : Int32} (hci : zShipC ci) (hP : σ.2.2.1 b = some (.inr (ci, [.ref (w.2.2 4), .int n, .int k]))) (hj : zLx j = some (.inl (3, N, true))) {i : Int32} (hin : ¬ (i < 0 ∨ N ≤ i.toNatClampNeg)) (hd : decode cc pc = .ok (.aastore, 1)) (kk : Z p l e R s m args below meth c Q w zLx A nL (sG σ j i.toNatClampNeg (some b)) (pc + 1) lv st) : Z p l e R s m args below meth c Q w zLx A nL σ pc lv (.ref b :: .int i :: .ref (w.2.2 j) :: st) := by
  obtain ⟨r, hr, hcast⟩ := zCs_ship ci (by rcases hci with rfl | rfl | rfl | rfl | rfl | rfl | rfl <;> decide)
  exact z_aastore C hj (by decide) rfl (zSee.pool hP) hr hcast hin hd kk
end ZInit
