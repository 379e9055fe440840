/-! a thrown object that passes the first entry (not castable), and is caught by the second -/
section ZThrows2
variable {p : Program} {l : Launch} {e : Env} {R : Room} {s : State} {m : MethodId} {args : Array Value} {below : List Frame} {meth : Method} {c : Code} {w : ZW} {L : ZL} {nL : Nat} {cc : ByteArray} {own : String} {ret : Option FieldType} {hh : List (Nat × Nat × Nat × Nat)}
variable {σ : ZS} {pc : Nat} {lv : List (Nat × Value)} {st : List Value} {a : Nat} {A : Nat → Prop} {Q : State → Prop}
theorem z_catch2 (C : zCx p s m args meth c w L A nL cc own ret hh) (sp ep hp ct sp2 ep2 hp2 ct2 : Nat) (post : List (Nat × Nat × Nat × Nat)) (hsplit : hh = (sp, ep, hp, ct) :: (sp2, ep2, hp2, ct2) :: post) (hcov : covers ⟨sp, ep, hp, ct⟩ pc = true) (h0 : ct ≠ 0) (hcov2 : covers ⟨sp2, ep2, hp2, ct2⟩ pc = true) (h02 : ct2 ≠ 0)
    {Cn : String} {T0 : u_T} {N ci : Nat} (hc : zcl[ci]? = some (Cn, T0, N)) {fs : List Value} (hs : zSee w L σ a (.inr (ci, fs))) {Cn1 : String} {T1 : u_T} {N1 ci1 : Nat} (hc1 : zcl[ci1]? = some (Cn1, T1, N1)) (hnc : va_Nc Cn Cn1 s) (hq1 : Cond.classLink own ct Cn1 ∈ lw_all) (hq2 : Cond.classLink own ct2 Cn ∈ lw_all)
    (kk : Z p l e R s m args below meth c Q w L A nL σ hp2 lv [.ref a]) : ZT p l e R s m args below meth c Q w L A nL σ pc lv st a := by
  intro H locs k n ls h1 h2 h3 h4 h5 hl T hT X
  have htab := C.2.2.2.2.2.2.2.2.2.2.2.1
  have hpl : e.platform.magicAccessors = ({} : Platform).magicAccessors := by rw [X.admits.platform]
  obtain ⟨r', hr', cell, g1, g2, g3, -⟩ := h1.at hs
  have hcls := (C.2.2.2.2.2.1.1.1 ci _ hc).2
  have hcls1 := (C.2.2.2.2.2.1.1.1 ci1 _ hc1).2
  obtain ⟨kC, hkC, hkind⟩ := hcls.2
  obtain ⟨kC1, hkC1, -⟩ := hcls1.2
  obtain ⟨cC1, hfc1, hcl1⟩ := Cond.classLink_spec C.2.2.2.1 (C.2.2.2.2.1 _ hq1) e.platform hpl
  have hcc1 : cC1 = w.1.1 ci1 := Option.some.inj (hfc1.symm.trans hcls1.1)
  subst hcc1
  obtain ⟨hg₁, hwarm₁, -⟩ := State.classEntry (e := e) X.warmed hcl1
  obtain ⟨k₁, hk₁, -⟩ := hwarm₁.alike.2.2 _ _ hkC
  obtain ⟨k₂, hk₂, -⟩ := hwarm₁.alike.2.2 _ _ hkC1
  have hsz : (T.vm.noted m.cls ct (.cls (w.1.1 ci1))).classes.size ≤ T.vm.classes.size := by simp [Vm.size_noted]
  have hasg : (T.vm.noted m.cls ct (.cls (w.1.1 ci1))).assignable (w.1.1 ci) (w.1.1 ci1) = false := by
    obtain ⟨c0, t0, f1, f2, f3⟩ := hnc
    have e1 : c0 = w.1.1 ci := Option.some.inj (f1.symm.trans hcls.1)
    have e2 : t0 = w.1.1 ci1 := Option.some.inj (f2.symm.trans hcls1.1)
    rw [hwarm₁.alike.assignable, ← e1, ← e2]
    exact f3
  have X₁ := X.noted hwarm₁
  obtain ⟨cC2, hfc2, hcl2⟩ := Cond.classLink_spec C.2.2.2.1 (C.2.2.2.2.1 _ hq2) e.platform hpl
  have hcc2 : cC2 = w.1.1 ci := Option.some.inj (hfc2.symm.trans hcls.1)
  subst hcc2
  obtain ⟨hg₃, hwarm₃, -⟩ := State.classEntry (e := e) X₁.warmed hcl2
  obtain ⟨k₃, hk₃, he₃⟩ := hwarm₃.alike.2.2 _ _ hkC
  have hsz2 : ((T.setVm (T.vm.noted m.cls ct (.cls (w.1.1 ci1)))).vm.noted m.cls ct2 (.cls (w.1.1 ci))).classes.size ≤ (T.vm.noted m.cls ct (.cls (w.1.1 ci1))).classes.size := by simp [Vm.size_noted]
  have hasg2 : ((T.setVm (T.vm.noted m.cls ct (.cls (w.1.1 ci1)))).vm.noted m.cls ct2 (.cls (w.1.1 ci))).assignable (w.1.1 ci) (w.1.1 ci) = true := by
    unfold Vm.assignable Vm.assignableAux
    rw [beq_self_eq_true, Bool.true_or]
  have X₂ := X₁.noted hwarm₃
  obtain ⟨t, a1, b1⟩ := kk H locs k n ls h1 h2 h3 h4 h5 hl ((T.setVm (T.vm.noted m.cls ct (.cls (w.1.1 ci1)))).setVm ((T.setVm (T.vm.noted m.cls ct (.cls (w.1.1 ci1)))).vm.noted m.cls ct2 (.cls (w.1.1 ci)))) hT X₂
  refine ⟨t, ?_, b1⟩
  have htabm : c.exceptionTable.toList = (⟨sp, ep, hp, ct⟩ : ExceptionTableEntry) :: (⟨sp2, ep2, hp2, ct2⟩ : ExceptionTableEntry) :: tableOf post := by rw [htab, hsplit]; simp [tableOf]
  refine zCaught (vm' := (T.setVm (T.vm.noted m.cls ct (.cls (w.1.1 ci1)))).vm.noted m.cls ct2 (.cls (w.1.1 ci))) (pc := hp2) (g := F0 m pc ls st) (c := c) X.here ?_ a1
  intro Q' E d acts
  have hvm : ((T.setTop (F0 m pc ls st)).pushFrame (.throwing a)).vm = T.vm := Stand.throwing_vm T _ a
  have hheap : ((T.setTop (F0 m pc ls st)).pushFrame (.throwing a)).heap = T.heap := Stand.throwing_heap T _ a
  rw [W.findHandler_eq (meth := meth) (by rw [hvm]; exact X.method') X.code, htabm]
  have hg₂ : (Jvm.resolveClass (F0 m pc ls st).method.cls (⟨sp, ep, hp, ct⟩ : ExceptionTableEntry).catchType).Gives e.toSetting ((T.setTop (F0 m pc ls st)).pushFrame (.throwing a)).vm (.ok (w.1.1 ci1)) (T.vm.noted m.cls ct (.cls (w.1.1 ci1))) := by rw [hvm]; exact hg₁
  rw [zFindCold (cell := cell) hcov h0 hg₂ (by rw [hvm]; exact hsz) (by rw [hheap, hT]; exact g1) (fun q h => by rw [g3] at h; cases h) (by rw [g2]; exact ⟨k₁, hk₁⟩) ⟨k₂, hk₂⟩]
  rw [if_neg (by rw [g2, hasg]; decide)]
  have hg₄ : (Jvm.resolveClass (F0 m pc ls st).method.cls (⟨sp2, ep2, hp2, ct2⟩ : ExceptionTableEntry).catchType).Gives e.toSetting (((T.setTop (F0 m pc ls st)).pushFrame (.throwing a)).setVm (T.vm.noted m.cls ct (.cls (w.1.1 ci1)))).vm (.ok (w.1.1 ci)) ((T.setVm (T.vm.noted m.cls ct (.cls (w.1.1 ci1)))).vm.noted m.cls ct2 (.cls (w.1.1 ci))) := hg₃
  rw [zFindCold (s := ((T.setTop (F0 m pc ls st)).pushFrame (.throwing a)).setVm (T.vm.noted m.cls ct (.cls (w.1.1 ci1)))) (cell := cell) hcov2 h02 hg₄ hsz2 (by show ((T.setTop (F0 m pc ls st)).pushFrame (.throwing a)).heap[a]? = some cell; rw [hheap, hT]; exact g1) (fun q h => by rw [g3] at h; cases h) (by rw [g2]; exact ⟨k₃, hk₃⟩) ⟨k₃, hk₃⟩]
  rw [if_pos (by rw [g2]; exact hasg2)]
  rfl
end ZThrows2
