/-! ships (written by gen/mk34.py) -/
theorem zShip_cl {ci : Nat} (h : zShipC ci) : ∃ (Cn : String) (T : u_T), zcl[ci]? = some (Cn, T, 3) := by
  rcases h with rfl | rfl | rfl | rfl | rfl | rfl | rfl
  · exact ⟨RX9, TX9, rfl⟩
  · exact ⟨RX10, TX10, rfl⟩
  · exact ⟨RX11, TX11, rfl⟩
  · exact ⟨RX12, TX12, rfl⟩
  · exact ⟨RX13, TX13, rfl⟩
  · exact ⟨RX14, TX14, rfl⟩
  · exact ⟨RX15, TX15, rfl⟩
section ZShip
variable {p : Program} {l : Launch} {e : Env} {R : Room} {s : State} {m : MethodId} {args : Array Value} {below : List Frame} {meth : Method} {c : Code} {Q : State → Prop} {w : ZW} {A : Nat → Prop} {nL : Nat} {cc : ByteArray} {own : String} {ret : Option FieldType} {hh : List (Nat × Nat × Nat × Nat)}
variable {σ : ZS} {pc : Nat} {lv lv' : List (Nat × Value)} {st : List Value}
theorem z_getS0 (C : zCx p s m args meth c w zLx A nL cc own ret hh) {a ci : Nat} {n k : Int32} (hci : zShipC ci) (hP : σ.2.2.1 a = some (.inr (ci, [.ref (w.2.2 4), .int n, .int k]))) {index : Nat} {ref : String} (hq : Cond.fieldLink own index ref (TX9 0).2.1 (TX9 0).2.2.1 ∈ lw_all) (hm : zSm ref (TX9 0)) (hd : decode cc pc = .ok (.getfield index, 3)) (kk : Z p l e R s m args below meth c Q w zLx A nL σ (pc + 3) lv (.ref (w.2.2 4) :: st)) : Z p l e R s m args below meth c Q w zLx A nL σ pc lv (.ref a :: st) := by
  rcases hci with rfl | rfl | rfl | rfl | rfl | rfl | rfl
  · exact z_get C (T := TX9) (N := 3) rfl in_X9 (zSee.pool hP) 0 (by decide) hq hm rfl hd kk
  · exact z_get C (T := TX10) (N := 3) rfl in_X10 (zSee.pool hP) 0 (by decide) hq hm rfl hd kk
  · exact z_get C (T := TX11) (N := 3) rfl in_X11 (zSee.pool hP) 0 (by decide) hq hm rfl hd kk
  · exact z_get C (T := TX12) (N := 3) rfl in_X12 (zSee.pool hP) 0 (by decide) hq hm rfl hd kk
  · exact z_get C (T := TX13) (N := 3) rfl in_X13 (zSee.pool hP) 0 (by decide) hq hm rfl hd kk
  · exact z_get C (T := TX14) (N := 3) rfl in_X14 (zSee.pool hP) 0 (by decide) hq hm rfl hd kk
  · exact z_get C (T := TX15) (N := 3) rfl in_X15 (zSee.pool hP) 0 (by decide) hq hm rfl hd kk
theorem z_getS1 (C : zCx p s m args meth c w zLx A nL cc own ret hh) {a ci : Nat} {n k : Int32} (hci : zShipC ci) (hP : σ.2.2.1 a = some (.inr (ci, [.ref (w.2.2 4), .int n, .int k]))) {index : Nat} {ref : String} (hq : Cond.fieldLink own index ref (TX9 1).2.1 (TX9 1).2.2.1 ∈ lw_all) (hm : zSm ref (TX9 1)) (hd : decode cc pc = .ok (.getfield index, 3)) (kk : Z p l e R s m args below meth c Q w zLx A nL σ (pc + 3) lv (.int n :: st)) : Z p l e R s m args below meth c Q w zLx A nL σ pc lv (.ref a :: st) := by
  rcases hci with rfl | rfl | rfl | rfl | rfl | rfl | rfl
  · exact z_get C (T := TX9) (N := 3) rfl in_X9 (zSee.pool hP) 1 (by decide) hq hm rfl hd kk
  · exact z_get C (T := TX10) (N := 3) rfl in_X10 (zSee.pool hP) 1 (by decide) hq hm rfl hd kk
  · exact z_get C (T := TX11) (N := 3) rfl in_X11 (zSee.pool hP) 1 (by decide) hq hm rfl hd kk
  · exact z_get C (T := TX12) (N := 3) rfl in_X12 (zSee.pool hP) 1 (by decide) hq hm rfl hd kk
  · exact z_get C (T := TX13) (N := 3) rfl in_X13 (zSee.pool hP) 1 (by decide) hq hm rfl hd kk
  · exact z_get C (T := TX14) (N := 3) rfl in_X14 (zSee.pool hP) 1 (by decide) hq hm rfl hd kk
  · exact z_get C (T := TX15) (N := 3) rfl in_X15 (zSee.pool hP) 1 (by decide) hq hm rfl hd kk
theorem z_getS2 (C : zCx p s m args meth c w zLx A nL cc own ret hh) {a ci : Nat} {n k : Int32} (hci : zShipC ci) (hP : σ.2.2.1 a = some (.inr (ci, [.ref (w.2.2 4), .int n, .int k]))) {index : Nat} {ref : String} (hq : Cond.fieldLink own index ref (TX9 2).2.1 (TX9 2).2.2.1 ∈ lw_all) (hm : zSm ref (TX9 2)) (hd : decode cc pc = .ok (.getfield index, 3)) (kk : Z p l e R s m args below meth c Q w zLx A nL σ (pc + 3) lv (.int k :: st)) : Z p l e R s m args below meth c Q w zLx A nL σ pc lv (.ref a :: st) := by
  rcases hci with rfl | rfl | rfl | rfl | rfl | rfl | rfl
  · exact z_get C (T := TX9) (N := 3) rfl in_X9 (zSee.pool hP) 2 (by decide) hq hm rfl hd kk
  · exact z_get C (T := TX10) (N := 3) rfl in_X10 (zSee.pool hP) 2 (by decide) hq hm rfl hd kk
  · exact z_get C (T := TX11) (N := 3) rfl in_X11 (zSee.pool hP) 2 (by decide) hq hm rfl hd kk
  · exact z_get C (T := TX12) (N := 3) rfl in_X12 (zSee.pool hP) 2 (by decide) hq hm rfl hd kk
  · exact z_get C (T := TX13) (N := 3) rfl in_X13 (zSee.pool hP) 2 (by decide) hq hm rfl hd kk
  · exact z_get C (T := TX14) (N := 3) rfl in_X14 (zSee.pool hP) 2 (by decide) hq hm rfl hd kk
  · exact z_get C (T := TX15) (N := 3) rfl in_X15 (zSee.pool hP) 2 (by decide) hq hm rfl hd kk
theorem z_getS0N (C : zCx p s m args meth c w zLx A nL cc own ret hh) {a ci : Nat} {n k : Int32} (hci : zShipC ci) (hP : σ.2.2.1 a = some (.inr (ci, [.ref (w.2.2 4), .int n, .int k]))) {index : Nat} {ref : String} {host : String} (hq : Cond.fieldLinkNest own index ref (TX9 0).2.1 (TX9 0).2.2.1 host ∈ lw_tbl) (hm : zSm ref (TX9 0)) (hd : decode cc pc = .ok (.getfield index, 3)) (kk : Z p l e R s m args below meth c Q w zLx A nL σ (pc + 3) lv (.ref (w.2.2 4) :: st)) : Z p l e R s m args below meth c Q w zLx A nL σ pc lv (.ref a :: st) := by
  rcases hci with rfl | rfl | rfl | rfl | rfl | rfl | rfl
  · exact z_getN C (T := TX9) (N := 3) rfl in_X9 (zSee.pool hP) 0 (by decide) hq hm rfl hd kk
  · exact z_getN C (T := TX10) (N := 3) rfl in_X10 (zSee.pool hP) 0 (by decide) hq hm rfl hd kk
  · exact z_getN C (T := TX11) (N := 3) rfl in_X11 (zSee.pool hP) 0 (by decide) hq hm rfl hd kk
  · exact z_getN C (T := TX12) (N := 3) rfl in_X12 (zSee.pool hP) 0 (by decide) hq hm rfl hd kk
  · exact z_getN C (T := TX13) (N := 3) rfl in_X13 (zSee.pool hP) 0 (by decide) hq hm rfl hd kk
  · exact z_getN C (T := TX14) (N := 3) rfl in_X14 (zSee.pool hP) 0 (by decide) hq hm rfl hd kk
  · exact z_getN C (T := TX15) (N := 3) rfl in_X15 (zSee.pool hP) 0 (by decide) hq hm rfl hd kk
theorem z_getS1N (C : zCx p s m args meth c w zLx A nL cc own ret hh) {a ci : Nat} {n k : Int32} (hci : zShipC ci) (hP : σ.2.2.1 a = some (.inr (ci, [.ref (w.2.2 4), .int n, .int k]))) {index : Nat} {ref : String} {host : String} (hq : Cond.fieldLinkNest own index ref (TX9 1).2.1 (TX9 1).2.2.1 host ∈ lw_tbl) (hm : zSm ref (TX9 1)) (hd : decode cc pc = .ok (.getfield index, 3)) (kk : Z p l e R s m args below meth c Q w zLx A nL σ (pc + 3) lv (.int n :: st)) : Z p l e R s m args below meth c Q w zLx A nL σ pc lv (.ref a :: st) := by
  rcases hci with rfl | rfl | rfl | rfl | rfl | rfl | rfl
  · exact z_getN C (T := TX9) (N := 3) rfl in_X9 (zSee.pool hP) 1 (by decide) hq hm rfl hd kk
  · exact z_getN C (T := TX10) (N := 3) rfl in_X10 (zSee.pool hP) 1 (by decide) hq hm rfl hd kk
  · exact z_getN C (T := TX11) (N := 3) rfl in_X11 (zSee.pool hP) 1 (by decide) hq hm rfl hd kk
  · exact z_getN C (T := TX12) (N := 3) rfl in_X12 (zSee.pool hP) 1 (by decide) hq hm rfl hd kk
  · exact z_getN C (T := TX13) (N := 3) rfl in_X13 (zSee.pool hP) 1 (by decide) hq hm rfl hd kk
  · exact z_getN C (T := TX14) (N := 3) rfl in_X14 (zSee.pool hP) 1 (by decide) hq hm rfl hd kk
  · exact z_getN C (T := TX15) (N := 3) rfl in_X15 (zSee.pool hP) 1 (by decide) hq hm rfl hd kk
theorem z_getS2N (C : zCx p s m args meth c w zLx A nL cc own ret hh) {a ci : Nat} {n k : Int32} (hci : zShipC ci) (hP : σ.2.2.1 a = some (.inr (ci, [.ref (w.2.2 4), .int n, .int k]))) {index : Nat} {ref : String} {host : String} (hq : Cond.fieldLinkNest own index ref (TX9 2).2.1 (TX9 2).2.2.1 host ∈ lw_tbl) (hm : zSm ref (TX9 2)) (hd : decode cc pc = .ok (.getfield index, 3)) (kk : Z p l e R s m args below meth c Q w zLx A nL σ (pc + 3) lv (.int k :: st)) : Z p l e R s m args below meth c Q w zLx A nL σ pc lv (.ref a :: st) := by
  rcases hci with rfl | rfl | rfl | rfl | rfl | rfl | rfl
  · exact z_getN C (T := TX9) (N := 3) rfl in_X9 (zSee.pool hP) 2 (by decide) hq hm rfl hd kk
  · exact z_getN C (T := TX10) (N := 3) rfl in_X10 (zSee.pool hP) 2 (by decide) hq hm rfl hd kk
  · exact z_getN C (T := TX11) (N := 3) rfl in_X11 (zSee.pool hP) 2 (by decide) hq hm rfl hd kk
  · exact z_getN C (T := TX12) (N := 3) rfl in_X12 (zSee.pool hP) 2 (by decide) hq hm rfl hd kk
  · exact z_getN C (T := TX13) (N := 3) rfl in_X13 (zSee.pool hP) 2 (by decide) hq hm rfl hd kk
  · exact z_getN C (T := TX14) (N := 3) rfl in_X14 (zSee.pool hP) 2 (by decide) hq hm rfl hd kk
  · exact z_getN C (T := TX15) (N := 3) rfl in_X15 (zSee.pool hP) 2 (by decide) hq hm rfl hd kk
theorem zSub_up (C : zCx p s m args meth c w zLx A nL cc own ret hh) {X Y : String} (hq : Cond.superclass X Y ∈ lw_all) (ps : ClassId) (hps : s.vm.findClass X = some ps) (py : ClassId) (hpy : s.vm.findClass Y = some py) : s.vm.isSubclass ps py = true := by
  obtain ⟨p1, k1, kp, h1, h2, h3, h4, -⟩ := Cond.superclass_spec hps (C.2.2.2.2.1 _ hq)
  cases hpy.symm.trans h1
  simp [Vm.isSubclass, Vm.isSubclassAux, h2, h4]
  right
  have hlt := (Array.getElem?_eq_some_iff.mp h2).1
  obtain ⟨n9, hn9⟩ : ∃ n9, s.vm.classes.size = n9 + 1 := ⟨s.vm.classes.size - 1, by omega⟩
  rw [hn9]
  simp [Vm.isSubclassAux]
end ZShip
