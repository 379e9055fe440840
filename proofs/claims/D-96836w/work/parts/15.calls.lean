/-! my own layer, 6: calls -/
def zNp (d : String) (n : Nat) : Prop := (parseMethodDescriptor d).map (fun d => d.parameters.length) = some n
theorem zNp.use {d : String} {n : Nat} (h : zNp d n) (sig : MethodDescriptor) (hs : parseMethodDescriptor d = some sig) : n = sig.parameters.length := by
  unfold zNp at h
  rw [hs] at h
  exact (Option.some.inj h).symm
def zMH (c : String) : Prop := c ≠ "java/lang/invoke/MethodHandle" ∧ c ≠ "java/lang/invoke/VarHandle"
section ZInv
variable {p : Program} {l : Launch} {e : Env} {R : Room} {s : State} {m : MethodId} {args : Array Value} {below : List Frame} {meth : Method} {c : Code} {w : ZW} {L : ZL} {A : Nat → Prop} {nL : Nat} {cc : ByteArray} {own : String} {ret : Option FieldType} {hh : List (Nat × Nat × Nat × Nat)}
variable {σ : ZS} {pc : Nat} {lv lv' : List (Nat × Value)} {st rest As : List Value} {a : Nat} {H : Heap} {ls : Array Slot} {y : MethodName} {index : Nat} {bytes : ByteArray} {maxL : Nat} {rt : Option FieldType} {wd : Cond}
/-- the receiver's cell -/
theorem zRecv (C : zCx p s m args meth c w L A nL cc own ret hh) {Cn : String} {T : u_T} {N ci : Nat} (hc : zcl[ci]? = some (Cn, T, N)) {fs : List Value} (hs : zSee w L σ a (.inr (ci, fs))) (h1 : zHold zcl w L σ H) : ∃ (cell : Cell) (k : Class), H[a]? = some cell ∧ cell.vm.isStatics = false ∧ s.vm.findClass Cn = some cell.cls ∧ s.vm.classes[cell.cls]? = some k := by
  obtain ⟨r', hr', cell, g1, g2, g3, -⟩ := h1.at hs
  obtain ⟨hfc, k, hk, -⟩ := (C.2.2.2.2.2.1.1.1 ci _ hc).2
  exact ⟨cell, k, g1, by rw [g3]; rfl, by rw [g2]; exact hfc, by rw [g2]; exact hk⟩
theorem zInv_V (C : zCx p s m args meth c w L A nL cc own ret hh) {Cn : String} {T : u_T} {N ci : Nat} (hc : zcl[ci]? = some (Cn, T, N)) {fs : List Value} (hs : zSee w L σ a (.inr (ci, fs))) (h1 : zHold zcl w L σ H)
    (hq1 : Cond.methodLink own index y ∈ lw_all) (hq2 : Cond.instanceMethod y ∈ lw_all) (hq3 : Cond.selects Cn y y ∈ lw_all) (hwd : zCode y bytes maxL rt wd) (hq5 : wd ∈ lw_all) (hy : zMH y.cls) (hnp : zNp y.desc As.length)
    (hd : decode cc pc = .ok (.invokevirtual index, 3)) : zInv p l e R s m args below meth c H (F0 m pc ls (As.reverse ++ .ref a :: rest)) rest 3 y (.ref a :: As) := by
  intro T0 locs cells slots hT X
  have hts := C.2.2.2.2.1
  obtain ⟨cellB, kB, hcell, hobj, hcls, -⟩ := zRecv C hc hs h1
  obtain ⟨mk, methM, hnamed, hmethM, hstM, habM⟩ := Cond.instanceMethod_spec (hts _ hq2)
  obtain ⟨methM', cM, hmethM', -, -, -, -, -, hsigM⟩ := hwd.spec hnamed (hts _ hq5)
  cases hmethM.symm.trans hmethM'
  obtain ⟨c2, r2, m2, q1, q2, q3, q4, kP, hkP, hkPi⟩ := Cond.selects_spec (hts _ hq3)
  cases hcls.symm.trans q1
  cases (State.methodFound?_of_named hnamed hy).symm.trans q2
  cases hnamed.symm.trans q3
  have hselP : selectMethod e.platform s.vm cellB.cls mk = .method mk := by rw [Launch.admits_selectMethod X.admits]; exact q4
  obtain ⟨vm₁, X₁, hstep₁⟩ := X.invokevirtual C.1 C.2.2.2.1 (hts _ hq1) hnamed hmethM hstM hkP hkPi hy (a := a) (cell := cellB) (by rw [hT]; exact hcell)
    (fun z h => by rw [h] at hobj; cases hobj) hselP hmethM habM hkP hkPi (g := F0 m pc ls (As.reverse ++ .ref a :: rest)) rfl (argsL := As) (rest := rest) (hnp.use _ hsigM) rfl (by rw [C.2.1]; exact hd)
  exact ⟨vm₁, mk, _, X₁, X₁.named hnamed, rfl, by rw [C.2.1]; exact hd, fun target h => hstep₁ _ fun acts => by rw [doInvoke_state]; exact h⟩
/-- a call on a string constant -/
theorem zInv_K (C : zCx p s m args meth c w L A nL cc own ret hh) {i : Nat} {b : List Int32} (hb : zsB[i]? = some b) (h2 : ∃ locs, va_S A s.heap H locs)
    (hq1 : Cond.methodLink own index y ∈ lw_all) (hq2 : Cond.instanceMethod y ∈ lw_all) (hq3 : Cond.selects "java/lang/String" y y ∈ lw_all) (hwd : zCode y bytes maxL rt wd) (hq5 : wd ∈ lw_all) (hy : zMH y.cls) (hnp : zNp y.desc As.length)
    (hd : decode cc pc = .ok (.invokevirtual index, 3)) : zInv p l e R s m args below meth c H (F0 m pc ls (As.reverse ++ .ref (zsK w i) :: rest)) rest 3 y (.ref (zsK w i) :: As) := by
  intro T0 locs cells slots hT X
  have hts := C.2.2.2.2.1
  obtain ⟨locs0, h2⟩ := h2
  obtain ⟨cellB, hcell, hobj, hcls, -⟩ := ((C.2.2.2.2.2.2.2.2.2.2.2.2.2.1 i b hb).1).kept h2.2.1
  obtain ⟨mk, methM, hnamed, hmethM, hstM, habM⟩ := Cond.instanceMethod_spec (hts _ hq2)
  obtain ⟨methM', cM, hmethM', -, -, -, -, -, hsigM⟩ := hwd.spec hnamed (hts _ hq5)
  cases hmethM.symm.trans hmethM'
  obtain ⟨c2, r2, m2, q1, q2, q3, q4, kP, hkP, hkPi⟩ := Cond.selects_spec (hts _ hq3)
  cases hcls.symm.trans q1
  cases (State.methodFound?_of_named hnamed hy).symm.trans q2
  cases hnamed.symm.trans q3
  have hselP : selectMethod e.platform s.vm cellB.cls mk = .method mk := by rw [Launch.admits_selectMethod X.admits]; exact q4
  obtain ⟨vm₁, X₁, hstep₁⟩ := X.invokevirtual C.1 C.2.2.2.1 (hts _ hq1) hnamed hmethM hstM hkP hkPi hy (a := zsK w i) (cell := cellB) (by rw [hT]; exact hcell)
    (fun z h => by rw [h] at hobj; cases hobj) hselP hmethM habM hkP hkPi (g := F0 m pc ls (As.reverse ++ .ref (zsK w i) :: rest)) rfl (argsL := As) (rest := rest) (hnp.use _ hsigM) rfl (by rw [C.2.1]; exact hd)
  exact ⟨vm₁, mk, _, X₁, X₁.named hnamed, rfl, by rw [C.2.1]; exact hd, fun target h => hstep₁ _ fun acts => by rw [doInvoke_state]; exact h⟩
theorem zInv_VN (C : zCx p s m args meth c w L A nL cc own ret hh) {host : String} {Cn : String} {T : u_T} {N ci : Nat} (hc : zcl[ci]? = some (Cn, T, N)) {fs : List Value} (hs : zSee w L σ a (.inr (ci, fs))) (h1 : zHold zcl w L σ H)
    (hq1 : Cond.methodLinkNest own index y host ∈ lw_tbl) (hq2 : Cond.instanceMethod y ∈ lw_all) (hq3 : Cond.selects Cn y y ∈ lw_all) (hwd : zCode y bytes maxL rt wd) (hq5 : wd ∈ lw_all) (hy : zMH y.cls) (hnp : zNp y.desc As.length)
    (hd : decode cc pc = .ok (.invokevirtual index, 3)) : zInv p l e R s m args below meth c H (F0 m pc ls (As.reverse ++ .ref a :: rest)) rest 3 y (.ref a :: As) := by
  intro T0 locs cells slots hT X
  have hts := C.2.2.2.2.1
  obtain ⟨cellB, kB, hcell, hobj, hcls, -⟩ := zRecv C hc hs h1
  obtain ⟨mk, methM, hnamed, hmethM, hstM, habM⟩ := Cond.instanceMethod_spec (hts _ hq2)
  obtain ⟨methM', cM, hmethM', -, -, -, -, -, hsigM⟩ := hwd.spec hnamed (hts _ hq5)
  cases hmethM.symm.trans hmethM'
  obtain ⟨c2, r2, m2, q1, q2, q3, q4, kP, hkP, hkPi⟩ := Cond.selects_spec (hts _ hq3)
  cases hcls.symm.trans q1
  cases (State.methodFound?_of_named hnamed hy).symm.trans q2
  cases hnamed.symm.trans q3
  have hselP : selectMethod e.platform s.vm cellB.cls mk = .method mk := by rw [Launch.admits_selectMethod X.admits]; exact q4
  obtain ⟨vm₁, X₁, hstep₁⟩ := X.invokevirtualNest C.1 C.2.2.2.1 (C.2.2.2.2.2.1.nw hq1 rfl) hnamed hmethM hstM hkP hkPi hy (a := a) (cell := cellB) (by rw [hT]; exact hcell)
    (fun z h => by rw [h] at hobj; cases hobj) hselP hmethM habM hkP hkPi (g := F0 m pc ls (As.reverse ++ .ref a :: rest)) rfl (argsL := As) (rest := rest) (hnp.use _ hsigM) rfl (by rw [C.2.1]; exact hd)
  exact ⟨vm₁, mk, _, X₁, X₁.named hnamed, rfl, by rw [C.2.1]; exact hd, fun target h => hstep₁ _ fun acts => by rw [doInvoke_state]; exact h⟩
theorem zInv_S (C : zCx p s m args meth c w L A nL cc own ret hh)
    (hq1 : Cond.methodLink own index y ∈ lw_all) (hq2 : Cond.static y ∈ lw_all) (hq3 : Cond.initialized y.cls ∈ lw_all) (hwd : zCode y bytes maxL rt wd) (hq5 : wd ∈ lw_all) (hy : zMH y.cls) (hnp : zNp y.desc As.length)
    (hd : decode cc pc = .ok (.invokestatic index, 3)) : zInv p l e R s m args below meth c H (F0 m pc ls (As.reverse ++ rest)) rest 3 y As := by
  intro T0 locs cells slots hT X
  have hts := C.2.2.2.2.1
  obtain ⟨mk, hnamed⟩ := hwd.named (hts _ hq5)
  obtain ⟨methM, cM, hmethM, -, -, -, -, -, hsigM⟩ := hwd.spec hnamed (hts _ hq5)
  have hstatic : methM.isStatic = true := Cond.static_spec hnamed hmethM (hts _ hq2)
  obtain ⟨kP, hkP, -⟩ := className_of_methodNamed hnamed
  have hinitP : kP.init = .initialized := Cond.initialized_spec (findClass_of_methodNamed hnamed) hkP (hts _ hq3)
  obtain ⟨vm₁, X₁, hstep₁⟩ := X.invokestatic C.1 C.2.2.2.1 (hts _ hq1) hnamed hmethM hstatic hkP hinitP hy (g := F0 m pc ls (As.reverse ++ rest)) rfl (argsL := As) (rest := rest) (hnp.use _ hsigM) rfl (by rw [C.2.1]; exact hd)
  exact ⟨vm₁, mk, _, X₁, X₁.named hnamed, rfl, by rw [C.2.1]; exact hd, fun target h => hstep₁ _ fun acts => by rw [doInvoke_state]; exact h⟩
theorem zInv_SN (C : zCx p s m args meth c w L A nL cc own ret hh) {host : String}
    (hq1 : Cond.methodLinkNest own index y host ∈ lw_tbl) (hq2 : Cond.static y ∈ lw_all) (hq3 : Cond.initialized y.cls ∈ lw_all) (hwd : zCode y bytes maxL rt wd) (hq5 : wd ∈ lw_all) (hy : zMH y.cls) (hnp : zNp y.desc As.length)
    (hd : decode cc pc = .ok (.invokestatic index, 3)) : zInv p l e R s m args below meth c H (F0 m pc ls (As.reverse ++ rest)) rest 3 y As := by
  intro T0 locs cells slots hT X
  have hts := C.2.2.2.2.1
  obtain ⟨mk, hnamed⟩ := hwd.named (hts _ hq5)
  obtain ⟨methM, cM, hmethM, -, -, -, -, -, hsigM⟩ := hwd.spec hnamed (hts _ hq5)
  have hstatic : methM.isStatic = true := Cond.static_spec hnamed hmethM (hts _ hq2)
  obtain ⟨kP, hkP, -⟩ := className_of_methodNamed hnamed
  have hinitP : kP.init = .initialized := Cond.initialized_spec (findClass_of_methodNamed hnamed) hkP (hts _ hq3)
  obtain ⟨vm₁, X₁, hstep₁⟩ := X.invokestaticNest C.1 C.2.2.2.1 (C.2.2.2.2.2.1.nw hq1 rfl) hnamed hmethM hstatic hkP hinitP hy (g := F0 m pc ls (As.reverse ++ rest)) rfl (argsL := As) (rest := rest) (hnp.use _ hsigM) rfl (by rw [C.2.1]; exact hd)
  exact ⟨vm₁, mk, _, X₁, X₁.named hnamed, rfl, by rw [C.2.1]; exact hd, fun target h => hstep₁ _ fun acts => by rw [doInvoke_state]; exact h⟩
theorem zInv_I (C : zCx p s m args meth c w L A nL cc own ret hh)
    (hq1 : Cond.methodLink own index y ∈ lw_all) (hq2 : Cond.instanceMethod y ∈ lw_all) (hq5 : Cond.code y bytes maxL none ∈ lw_all) (hn1 : y.name = "<init>") (hy : zMH y.cls) (hnp : zNp y.desc As.length)
    (hd : decode cc pc = .ok (.invokespecial index, 3)) : zInv p l e R s m args below meth c H (F0 m pc ls (As.reverse ++ .ref a :: rest)) rest 3 y (.ref a :: As) := by
  intro T0 locs cells slots hT X
  have hts := C.2.2.2.2.1
  have hpl : e.platform.magicAccessors = ({} : Platform).magicAccessors := by rw [X.admits.platform]
  obtain ⟨mk, methM, cM, kP, vm₁, hnamed, hmethM, hcodeM, -, hlocalsM, -, hkP, -, hW₁, hstep₁⟩ := Steps.initColdArgs (e := e) X.here C.1 X.warmed hpl C.2.2.2.1 hn1 hy (hts _ hq1) (hts _ hq2) (hts _ hq5) (f := F0 m pc ls (As.reverse ++ .ref a :: rest)) (argsL := As) (rest := rest) rfl hnp.use rfl (by rw [C.2.1]; exact hd)
  have X₁ := X.noted hW₁
  exact ⟨vm₁, mk, _, X₁, X₁.named hnamed, rfl, by rw [C.2.1]; exact hd, fun target h => hstep₁ _ fun acts => by rw [doInvoke_state]; exact h⟩
theorem zInv_IN (C : zCx p s m args meth c w L A nL cc own ret hh) {host : String}
    (hq1 : Cond.methodLinkNest own index y host ∈ lw_tbl) (hq2 : Cond.instanceMethod y ∈ lw_all) (hq5 : Cond.code y bytes maxL none ∈ lw_all) (hn1 : y.name = "<init>") (hy : zMH y.cls) (hnp : zNp y.desc As.length)
    (hd : decode cc pc = .ok (.invokespecial index, 3)) : zInv p l e R s m args below meth c H (F0 m pc ls (As.reverse ++ .ref a :: rest)) rest 3 y (.ref a :: As) := by
  intro T0 locs cells slots hT X
  have hts := C.2.2.2.2.1
  have hpl : e.platform.magicAccessors = ({} : Platform).magicAccessors := by rw [X.admits.platform]
  obtain ⟨mk, methM, cM, kP, vm₁, hnamed, hmethM, hcodeM, -, hlocalsM, -, hkP, -, hW₁, hstep₁⟩ := Steps.initColdArgsNest (e := e) X.here C.1 X.warmed hpl C.2.2.2.1 hn1 hy (C.2.2.2.2.2.1.nw hq1 rfl) (hts _ hq2) (hts _ hq5) (f := F0 m pc ls (As.reverse ++ .ref a :: rest)) (argsL := As) (rest := rest) rfl hnp.use rfl (by rw [C.2.1]; exact hd)
  have X₁ := X.noted hW₁
  exact ⟨vm₁, mk, _, X₁, X₁.named hnamed, rfl, by rw [C.2.1]; exact hd, fun target h => hstep₁ _ fun acts => by rw [doInvoke_state]; exact h⟩
/-- a call of x, found in owner, that selects y -/
theorem zInv_U (C : zCx p s m args meth c w L A nL cc own ret hh) {x : MethodName} {owner : String} {Cn : String} {T : u_T} {N ci : Nat} (hc : zcl[ci]? = some (Cn, T, N)) {fs : List Value} (hs : zSee w L σ a (.inr (ci, fs))) (h1 : zHold zcl w L σ H)
    (hq1 : Cond.methodLink own index x ∈ lw_all) (hsame : Cond.sameMethod x.cls owner x.name x.desc ∈ lw_all) (hdecl : va_Decl s ⟨owner, x.name, x.desc⟩) (howner : zMH owner)
    (hq2 : Cond.instanceMethod y ∈ lw_all) (hq3 : Cond.selects Cn x y ∈ lw_all) (hnp : zNp x.desc As.length)
    (hd : decode cc pc = .ok (.invokevirtual index, 3)) : zInv p l e R s m args below meth c H (F0 m pc ls (As.reverse ++ .ref a :: rest)) rest 3 y (.ref a :: As) := by
  intro T0 locs cells slots hT X
  have hts := C.2.2.2.2.1
  obtain ⟨cellB, kB, hcell, hobj, hcls, -⟩ := zRecv C hc hs h1
  obtain ⟨r0, r, hn, hrm, hstR, hsigR⟩ := hdecl
  obtain ⟨cn, ck, r1, hcn, hck, hni, hf, hn1⟩ := Cond.sameMethod_found (hts _ hsame)
  cases hn.symm.trans hn1
  obtain ⟨mk, methM, hnamed, hmethM, -, habM⟩ := Cond.instanceMethod_spec (hts _ hq2)
  obtain ⟨c2, r2, m2, q1, q2, q3, q4, kP, hkP, hkPi⟩ := Cond.selects_spec (hts _ hq3)
  cases hcls.symm.trans q1
  cases hf.symm.trans q2
  cases hnamed.symm.trans q3
  have hselP : selectMethod e.platform s.vm cellB.cls r0 = .method mk := by rw [Launch.admits_selectMethod X.admits]; exact q4
  obtain ⟨vm₁, X₁, hstep₁⟩ := X.invokevirtualUp C.1 C.2.2.2.1 (hts _ hq1) (hts _ hsame) howner hn hrm hstR (a := a) (cell := cellB) (by rw [hT]; exact hcell)
    (fun z h => by rw [h] at hobj; cases hobj) hselP hmethM habM hkP hkPi (g := F0 m pc ls (As.reverse ++ .ref a :: rest)) rfl (argsL := As) (rest := rest) (hnp.use _ hsigR) rfl (by rw [C.2.1]; exact hd)
  exact ⟨vm₁, mk, _, X₁, X₁.named hnamed, rfl, by rw [C.2.1]; exact hd, fun target h => hstep₁ _ fun acts => by rw [doInvoke_state]; exact h⟩
theorem zDecl_of (C : zCx p s m args meth c w L A nL cc own ret hh) {x : MethodName} (hi : Cond.instanceMethod x ∈ lw_all) (hc : Cond.code x bytes maxL rt ∈ lw_all) : va_Decl s x := va_Decl.of (C.2.2.2.2.1 _ hi) (C.2.2.2.2.1 _ hc)
theorem zDecl_abs (C : zCx p s m args meth c w L A nL cc own ret hh) {x : MethodName} (hi : Cond.declares x ∈ lw_tbl) : va_Decl s x := va_Decl.abs (C.2.2.2.2.2.1.2.1 _ hi rfl)
/-- super.y(..) -/
theorem zInv_SU (C : zCx p s m args meth c w L A nL cc own ret hh) {Cn : String} {T : u_T} {N ci : Nat} (hc : zcl[ci]? = some (Cn, T, N)) {fs : List Value} (hs : zSee w L σ a (.inr (ci, fs))) (h1 : zHold zcl w L σ H) {x : MethodName}
    (hq1 : Cond.methodLink own index x ∈ lw_all) (hsame : Cond.sameMethod x.cls y.cls x.name x.desc ∈ lw_all) (hxy : x.name = y.name ∧ x.desc = y.desc) (hsup : Cond.superclass own x.cls ∈ lw_all) (hsub : ∀ ps, s.vm.findClass x.cls = some ps → ∀ py, s.vm.findClass y.cls = some py → s.vm.isSubclass ps py = true) (hq2 : Cond.instanceMethod y ∈ lw_all) (hwd : zCode y bytes maxL rt wd) (hq5 : wd ∈ lw_all) (hno : x.name ≠ "<init>") (hnp : zNp y.desc As.length)
    (hd : decode cc pc = .ok (.invokespecial index, 3)) : zInv p l e R s m args below meth c H (F0 m pc ls (As.reverse ++ .ref a :: rest)) rest 3 y (.ref a :: As) := by
  intro T0 locs cells slots hT X
  have hts := C.2.2.2.2.1
  obtain ⟨cellB, kB, hcell, hobj, hcls, hkB⟩ := zRecv C hc hs h1
  obtain ⟨mk, methM, hnamed, hmethM, hstM, habM⟩ := Cond.instanceMethod_spec (hts _ hq2)
  obtain ⟨methM', cM, hmethM', -, -, -, -, -, hsigM⟩ := hwd.spec hnamed (hts _ hq5)
  cases hmethM.symm.trans hmethM'
  obtain ⟨ps, dk, kp, hps, hdk, hkp, hsuper, -, -, hnid⟩ := Cond.superclass_spec C.2.2.2.1 (hts _ hsup)
  have hn : s.methodNamed? ⟨y.cls, x.name, x.desc⟩ = some mk := by rw [hxy.1, hxy.2]; exact hnamed
  obtain ⟨vm₁, X₁, hstep₁⟩ := X.invokespecialUp C.1 C.2.2.2.1 (hts _ hq1) (hts _ hsame) hn hmethM hstM habM hno hdk hnid hps hsuper (hsub ps hps _ (findClass_of_methodNamed hnamed)) (a := a) (cell := cellB) (by rw [hT]; exact hcell)
    (fun z h => by rw [h] at hobj; cases hobj) hkB (g := F0 m pc ls (As.reverse ++ .ref a :: rest)) rfl (argsL := As) (rest := rest) (hnp.use _ hsigM) rfl (by rw [C.2.1]; exact hd)
  exact ⟨vm₁, mk, _, X₁, X₁.named hnamed, rfl, by rw [C.2.1]; exact hd, fun target h => hstep₁ _ (by rw [doInvoke_state]; exact h)⟩
theorem zSub_self {x y : MethodName} (h : x.cls = y.cls) (ps : ClassId) (hps : s.vm.findClass x.cls = some ps) (py : ClassId) (hpy : s.vm.findClass y.cls = some py) : s.vm.isSubclass ps py = true := by
  rw [h] at hps
  cases hps.symm.trans hpy
  simp [Vm.isSubclass, Vm.isSubclassAux]
/-- a call through an interface -/
theorem zInv_F (C : zCx p s m args meth c w L A nL cc own ret hh) {x : MethodName} {count : Nat} {Cn : String} {T : u_T} {N ci : Nat} (hc : zcl[ci]? = some (Cn, T, N)) {fs : List Value} (hs : zSee w L σ a (.inr (ci, fs))) (h1 : zHold zcl w L σ H)
    (hq1 : Cond.methodLink own index x ∈ lw_all) (hx : x ∈ zIf) (hq2 : Cond.instanceMethod y ∈ lw_all) (hq3 : Cond.selects Cn x y ∈ lw_all) (hpub : Cond.publicMethod y ∈ lw_tbl) (hunh : Cond.unhidden Cn x.name x.desc ∈ lw_tbl) (hcast : Cond.castable Cn x.cls ∈ lw_tbl) (hnp : zNp x.desc As.length)
    (hd : decode cc pc = .ok (.invokeinterface index count, 5)) : zInv p l e R s m args below meth c H (F0 m pc ls (As.reverse ++ .ref a :: rest)) rest 5 y (.ref a :: As) := by
  intro T0 locs cells slots hT X
  have hts := C.2.2.2.2.1
  have hK := C.2.2.2.2.2.1
  obtain ⟨cellB, kB, hcell, hobj, hcls, hkB⟩ := zRecv C hc hs h1
  obtain ⟨hz1, hz2⟩ := hK.2.2.1 x hx
  obtain ⟨r0, r, hn, hrm, hstR, hsigR⟩ := Cond.declares_spec hz1
  obtain ⟨cL, kL, r1, hcL, hkL, hiL, hfoundL, hn1⟩ := Cond.interfaceMethod_spec hz2
  cases hn.symm.trans hn1
  have hr0cls : r0.cls = cL := Option.some.inj ((findClass_of_methodNamed hn).symm.trans hcL)
  obtain ⟨hnameR, hdescR⟩ := name_of_methodNamed hn hrm
  obtain ⟨mk, methM, hnamed, hmethM, -, habM⟩ := Cond.instanceMethod_spec (hts _ hq2)
  obtain ⟨c2, r2, m2, q1, q2, q3, q4, -⟩ := Cond.selects_spec (hts _ hq3)
  cases hcls.symm.trans q1
  cases hfoundL.symm.trans q2
  cases hnamed.symm.trans q3
  have hselP : selectMethod e.platform s.vm cellB.cls r0 = .method mk := by rw [Launch.admits_selectMethod X.admits]; exact q4
  have hpubM : hasFlag methM.accessFlags Acc.public_ = true := Cond.publicMethod_spec hnamed hmethM (hK.nw hpub rfl (a := args))
  have hway : ((cellB.cls :: s.vm.superclasses cellB.cls).any fun k => (declaredIn s.vm r.name r.desc k).any fun (_, z) => z.isPrivate || z.isStatic) = false := by
    rw [hnameR, hdescR]; exact Cond.unhidden_spec hcls (hK.nw hunh rfl (a := args))
  obtain ⟨c3, t3, w1, w2, w3⟩ := Cond.castable_spec (hK.nw hcast rfl (a := args))
  cases hcls.symm.trans w1
  cases hcL.symm.trans w2
  obtain ⟨vm₁, X₁, hstep₁⟩ := X.invokeinterface C.1 C.2.2.2.1 (hts _ hq1) hn hrm hstR (by rw [hr0cls]; exact hkL) hiL (zIf_ok x hx) (a := a) (cell := cellB) (kcell := kB) (by rw [hT]; exact hcell)
    (fun z h => by rw [h] at hobj; cases hobj) hkB (by rw [hr0cls]; exact w3) hselP hmethM hway hpubM habM (g := F0 m pc ls (As.reverse ++ .ref a :: rest)) rfl (argsL := As) (rest := rest) (hnp.use _ hsigR) rfl (by rw [C.2.1]; exact hd)
  exact ⟨vm₁, mk, _, X₁, X₁.named hnamed, rfl, by rw [C.2.1]; exact hd, fun target h => hstep₁ _ fun acts => by rw [doInvoke_state]; exact h⟩
end ZInv
section ZCallRow
variable {p : Program} {l : Launch} {e : Env} {R : Room} {s : State} {m : MethodId} {args : Array Value} {below : List Frame} {meth : Method} {c : Code} {Q : State → Prop} {w : ZW} {L : ZL} {A : Nat → Prop} {nL : Nat} {cc : ByteArray} {own : String} {ret : Option FieldType} {hh : List (Nat × Nat × Nat × Nat)}
variable {σ σ' : ZS} {pc len : Nat} {lv lv' : List (Nat × Value)} {st rest av : List Value} {y : MethodName} {bytes : ByteArray} {maxL : Nat} {rt : Option FieldType} {wd : Cond} {ws : List Cond} {fr lo : Nat} {o : Outcome}
theorem zA_sub (C : zCx p s m args meth c w L A nL cc own ret hh) {H : Heap} {locs : List Loc} (h1 : zHold zcl w L σ H) (h2 : va_S A s.heap H locs) (h3 : ∀ a x, σ.2.2.1 a = some x → A a) : ∀ q, zA w L σ q → A q := by
  intro q hq
  rcases hq with ⟨i, d, hi, rfl⟩ | ⟨x, hx⟩ | hz
  · exact C.2.2.2.2.2.2.2.2.1 i d hi
  · exact h3 q x hx
  · exact C.2.2.2.2.2.2.2.1 q (Nat.le_trans h2.1 (by rw [h1.1]; exact hz))
/-- what a call asks, apart from how it is found -/
def zPay (ws : List Cond) (y : MethodName) (bytes : ByteArray) (maxL : Nat) (rt : Option FieldType) (wd : Cond) : Prop := ws = wd :: lw_all ∧ zCode y bytes maxL rt wd ∧ wd ∈ lw_all ∧ Cond.initialized y.cls ∈ lw_all
theorem zPay.of {y : MethodName} {bytes : ByteArray} {maxL : Nat} {rt : Option FieldType} (h : Cond.code y bytes maxL rt ∈ lw_all) (hi : Cond.initialized y.cls ∈ lw_all) : zPay (ws_ y bytes maxL rt) y bytes maxL rt (Cond.code y bytes maxL rt) := ⟨rfl, Or.inl rfl, h, hi⟩
theorem zPay.ofW {y : MethodName} {bytes : ByteArray} {maxL : Nat} {rt : Option FieldType} {hh : List (Nat × Nat × Nat × Nat)} (h : Cond.codeWith y bytes maxL rt hh ∈ lw_all) (hi : Cond.initialized y.cls ∈ lw_all) : zPay (wsW_ y bytes maxL rt hh) y bytes maxL rt (Cond.codeWith y bytes maxL rt hh) := ⟨rfl, Or.inr ⟨hh, rfl⟩, h, hi⟩
theorem z_call0 (C : zCx p s m args meth c w L A nL cc own ret hh) (hp : zPay ws y bytes maxL rt wd) (hI : ∀ (H : Heap) (ls : Array Slot), zHold zcl w L σ H → (∃ locs, va_S A s.heap H locs) → zInv p l e R s m args below meth c H (F0 m pc ls st) rest len y av) (hM : zC l w L y ws fr lo av σ o σ')
    (hfr : fr + 1 ≤ R.frames) (hlo : (rest.map fun v => v.category).sum + (maxL + 11) + lo ≤ R.locals)
    (kk : match o with | .returned v => Z p l e R s m args below meth c Q w L A nL σ' (pc + len) lv (v.toList ++ rest) | .threw x => ZT p l e R s m args below meth c Q w L A nL σ' pc lv rest x) : Z p l e R s m args below meth c Q w L A nL σ pc lv st := by
  intro H locs k n ls h1 h2 h3 h4 h5 hl T hT X
  have hts := C.2.2.2.2.1
  have hK := C.2.2.2.2.2.1
  obtain ⟨hws, hwd, hwi, hini⟩ := hp
  have hsub := zA_sub C h1 h2 h3
  have hsteady : ∀ x ∈ lw_all, ∀ (a' : Array Value) (U : State), s.WarmedH U.vm → x.before a' U = true := fun x hx a' U hW => word_at hW (lw_self x hx).2 (hts x hx)
  obtain ⟨o', s0, t, T', Ls, k1, n1, e1, e2, ⟨ho, q1, q2, q3, q4, q5⟩, e3, e4, e5, X', hout⟩ := zCallT (hI H ls h1 ⟨locs, h2⟩) hM (bytes := bytes) (maxL := maxL) (ret := rt) (w := wd) hwd (by rw [hws]; exact List.mem_cons_self)
    (fun x hx a' U hW => by
      rw [hws] at hx
      rcases List.mem_cons.mp hx with rfl | hx
      · exact hsteady _ hwi a' U hW
      · exact hsteady _ hx a' U hW) (fun a' U hW => hsteady _ hini a' U hW) (by rw [C.2.2.1]; exact hl.1) hfr (by show 2 * 0 + _ + _ + _ ≤ _; rw [Nat.mul_zero, Nat.zero_add]; exact hlo) hT X h4 h5
    (fun U hU hW => ⟨rfl, by rw [hU]; exact h1, hK.moved hW, C.2.2.2.2.2.2.1, by rw [hU]; exact ((C.2.2.2.2.2.2.2.2.2.2.2.2.2.moved hW.alike).kept h2.2.1).narrow hsub⟩)
  subst ho
  have hS' : va_S A s.heap t.heap (locs ++ Ls) := by
    refine ⟨Nat.le_trans h2.1 (by rw [← e1]; exact q2.1), fun q g1 g2 => ?_, fun q hq => ?_⟩
    · rw [q2.2 q (by rw [e1]; exact Nat.lt_of_lt_of_le g1 h2.1) (fun hz => g2 (hsub q hz)), e1]
      exact h2.2.1 q g1 g2
    · rcases List.mem_append.mp hq with h | h
      · exact h2.2.2 q h
      · exact hsub _ (e5 q h)
  have h3' : ∀ a x, σ'.2.2.1 a = some x → A a := fun a x hx => hsub a (q5 a x hx)
  have h4' : k + k1 + σ'.2.2.2.2.1 ≤ R.cells := by omega
  have h5' : n + n1 + σ'.2.2.2.2.2 ≤ R.slots := by omega
  cases o' with
  | returned v =>
    obtain ⟨t', a1, b1⟩ := kk t.heap _ _ _ ls q1 hS' h3' h4' h5' hl T' e3 X'
    exact ⟨t', hout _ a1, b1⟩
  | threw x =>
    obtain ⟨t', a1, b1⟩ := kk t.heap _ _ _ ls q1 hS' h3' h4' h5' hl T' e3 X'
    exact ⟨t', hout _ a1, b1⟩
theorem z_calli {v : Int32} (C : zCx p s m args meth c w L A nL cc own ret hh) (hp : zPay ws y bytes maxL rt wd) (hI : ∀ (H : Heap) (ls : Array Slot), zHold zcl w L σ H → (∃ locs, va_S A s.heap H locs) → zInv p l e R s m args below meth c H (F0 m pc ls st) rest len y av) (hM : zC l w L y ws fr lo av σ (.returned (some (.int v))) σ')
    (hfr : fr + 1 ≤ R.frames) (hlo : (rest.map fun v => v.category).sum + (maxL + 11) + lo ≤ R.locals) (kk : Z p l e R s m args below meth c Q w L A nL σ' (pc + len) lv (.int v :: rest)) : Z p l e R s m args below meth c Q w L A nL σ pc lv st := z_call0 C hp hI hM hfr hlo kk
theorem z_callr {v : Value} (C : zCx p s m args meth c w L A nL cc own ret hh) (hp : zPay ws y bytes maxL rt wd) (hI : ∀ (H : Heap) (ls : Array Slot), zHold zcl w L σ H → (∃ locs, va_S A s.heap H locs) → zInv p l e R s m args below meth c H (F0 m pc ls st) rest len y av) (hM : zC l w L y ws fr lo av σ (.returned (some v)) σ')
    (hfr : fr + 1 ≤ R.frames) (hlo : (rest.map fun v => v.category).sum + (maxL + 11) + lo ≤ R.locals) (kk : Z p l e R s m args below meth c Q w L A nL σ' (pc + len) lv (v :: rest)) : Z p l e R s m args below meth c Q w L A nL σ pc lv st := z_call0 C hp hI hM hfr hlo kk
theorem z_callv (C : zCx p s m args meth c w L A nL cc own ret hh) (hp : zPay ws y bytes maxL rt wd) (hI : ∀ (H : Heap) (ls : Array Slot), zHold zcl w L σ H → (∃ locs, va_S A s.heap H locs) → zInv p l e R s m args below meth c H (F0 m pc ls st) rest len y av) (hM : zC l w L y ws fr lo av σ (.returned none) σ')
    (hfr : fr + 1 ≤ R.frames) (hlo : (rest.map fun v => v.category).sum + (maxL + 11) + lo ≤ R.locals) (kk : Z p l e R s m args below meth c Q w L A nL σ' (pc + len) lv rest) : Z p l e R s m args below meth c Q w L A nL σ pc lv st := z_call0 C hp hI hM hfr hlo kk
theorem z_callt {x : Nat} (C : zCx p s m args meth c w L A nL cc own ret hh) (hp : zPay ws y bytes maxL rt wd) (hI : ∀ (H : Heap) (ls : Array Slot), zHold zcl w L σ H → (∃ locs, va_S A s.heap H locs) → zInv p l e R s m args below meth c H (F0 m pc ls st) rest len y av) (hM : zC l w L y ws fr lo av σ (.threw x) σ')
    (hfr : fr + 1 ≤ R.frames) (hlo : (rest.map fun v => v.category).sum + (maxL + 11) + lo ≤ R.locals) (kk : ZT p l e R s m args below meth c Q w L A nL σ' pc lv rest x) : Z p l e R s m args below meth c Q w L A nL σ pc lv st := z_call0 C hp hI hM hfr hlo kk
end ZCallRow
