/-! my own layer, 5: contracts over worlds; returns, throws, catches -/
section ZCatch
variable {E : CtlPost} {e : Env} {d : Bool} {acts : List Action} {s : State} {f : JFrame} {a : Addr} {Q : Handler → Pre}
/-- a catch type, resolved by the search itself -/
theorem zFindCold {x : ExceptionTableEntry} {t : List ExceptionTableEntry} {c : ClassId} {cell : Cell} {vm' : Vm} (hx : covers x f.pc = true) (h0 : x.catchType ≠ 0)
    (hg : (Jvm.resolveClass f.method.cls x.catchType).Gives e.toSetting s.vm (.ok c) vm') (hsz : vm'.classes.size ≤ s.vm.classes.size) (hcell : s.heap[a]? = some cell) (hobj : ∀ k, cell.vm ≠ .statics k)
    (hk : ∃ k, vm'.classes[cell.cls]? = some k) (hc : ∃ k, vm'.classes[c]? = some k) :
    wp (findHandler.go f a (x :: t)) Q E e d acts s ↔
      if vm'.assignable cell.cls c = true then Q (.found x.handlerPc) d acts (s.setVm vm') else wp (findHandler.go f a t) Q E e d acts (s.setVm vm') := by
  simp only [covers] at hx
  obtain ⟨ha, ht⟩ := hg.op (op := VmOp.resolveClass f.method.cls x.catchType) rfl
  have hcell' : (s.setVm vm').heap[a]? = some cell := hcell
  cases hfit : vm'.assignable cell.cls c <;>
    simp [findHandler.go, hx, h0, ha, ht, hsz, hcell, hcell', hobj, hk, hc, hfit, VmOp.dirties, VmOp.acts]
def zFinds (e : Env) (s : State) (f : JFrame) (a : Addr) (h : Handler) (s' : State) : Prop :=
  ∀ (Q : Handler → Pre) (E : CtlPost) (d : Bool) (acts : List Action), wp (findHandler f a) Q E e d acts s ↔ Q h d acts s'
theorem zThrowing_catch {e : Env} {s s' : State} {a : Addr} {f : JFrame} {r : List Frame} {pc : Nat} (hfind : zFinds e s f a (.found pc) s') :
    (stepThrowing e s a (.java f :: r)).Is (s'.setFrames (.java { f with pc := pc, stack := [.ref a] } :: r)) [] := by
  simp only [stepThrowing, searchFrame, vmDo]
  generalize hr : Sem.go _ e false [] s = res
  obtain ⟨as, rfl, ha⟩ := Sem.eq_ok_of hr (a := Handler.found pc) (s' := s') (acts' := []) (by simp [hfind _ _ _ _])
  exact ⟨rfl, ha⟩
end ZCatch
theorem zCaught {tb : Tables} {e : Env} {s target : State} {g : JFrame} {c : Code} {below : List Frame} {a : Addr} {vm' : Vm} (h : At s g.method c below) {pc : Nat} (hfind : zFinds e ((s.setTop g).pushFrame (.throwing a)) g a (.found pc) (((s.setVm vm').setTop g).pushFrame (.throwing a)))
    (hrest : Steps tb e below ((s.setVm vm').setTop { g with pc := pc, stack := [.ref a] }) target) :
    Steps tb e below ((s.setTop g).pushFrame (.throwing a)) target := by
  obtain ⟨hgo, hw⟩ := h.throwing a
  refine Steps.head hgo hw ?_
  rw [stepThread_throwing (frames_entered h.top _), (zThrowing_catch (s := (s.setTop g).pushFrame (.throwing a)) hfind).1]
  obtain ⟨g₀, hg⟩ := Option.isSome_iff_exists.mp h.top
  obtain ⟨r, hr⟩ := State.topJava?_eq_some.mp hg
  have hr' : (s.setVm vm').frames = .java g₀ :: r := hr
  rw [State.pushFrame, State.setFrames_setFrames, State.setTop_of_frames _ hr', State.setFrames_setFrames]
  rw [State.setTop_of_frames _ hr'] at hrest
  rw [hr]
  exact hrest
/-! contracts -/
def zPc (w : ZW) (L : ZL) (av : List Value) (σ : ZS) : Array Value → State → Prop := fun v U => v = av.toArray ∧ zHold zcl w L σ U.heap ∧ zK w U ∧ zInj w L ∧ zRo w (zA w L σ) U U.heap
def zQc (w : ZW) (L : ZL) (σ : ZS) (o : Outcome) (σ' : ZS) : Array Value → State → Outcome → State → Nat → Nat → Prop := fun _ st o' t k n =>
  o' = o ∧ zHold zcl w L σ' t.heap ∧ va_F (zA w L σ) st t ∧ k + σ'.2.2.2.2.1 ≤ σ.2.2.2.2.1 ∧ n + σ'.2.2.2.2.2 ≤ σ.2.2.2.2.2 ∧ ∀ a x, σ'.2.2.1 a = some x → zA w L σ a
abbrev zRm (fr lo : Nat) (σ : ZS) : Room := { frames := fr, cells := σ.2.2.2.2.1, slots := σ.2.2.2.2.2, locals := lo }
/-- THE CONTRACT: called with av in the world σ, y ends by o in the world σ' -/
def zC (l : Launch) (w : ZW) (L : ZL) (y : MethodName) (ws : List Cond) (fr lo : Nat) (av : List Value) (σ : ZS) (o : Outcome) (σ' : ZS) : Prop :=
  zMet l y ws (zRm fr lo σ) (zPc w L av σ) (zQc w L σ o σ') (zA w L σ)
def zQ (below : List Frame) (w : ZW) (L : ZL) (σ : ZS) (o : Outcome) (σ' : ZS) (args : Array Value) (s : State) : State → Prop := fun t =>
  ∃ o', t.status = .running ∧ Ended t below o' ∧ ∃ (Ls : List Loc) (k n : Nat), zQc w L σ o σ' args s o' t k n ∧ zEnd s t Ls k n ∧ ∀ q ∈ Ls, zA w L σ q.base
theorem zC_body {l : Launch} {w : ZW} {L : ZL} {y : MethodName} {ws ws' : List Cond} {fr lo : Nat} {av : List Value} {σ : ZS} {o : Outcome} {σ' : ZS} {wd : Cond} {cc : ByteArray} {nL : Nat} {ret : Option FieldType} {hh : List (Nat × Nat × Nat × Nat)}
    (hy : plainFor y = true) (hw : ws = wd :: ws') (hwd : zCode y cc nL ret wd) (hall : ∀ x ∈ lw_all, x ∈ ws) (hlen : (lg_sl av).length ≤ nL)
    (htab : ∀ (args : Array Value) (s : State) (m : MethodId) (meth : Method) (c : Code), wd.before args s = true → s.methodNamed? y = some m → s.vm.method? m = some meth → meth.code = some c → c.exceptionTable.toList = tableOf hh)
    (body : ∀ p e s m args below meth c, zCx p s m args meth c w L (zA w L σ) nL cc y.cls ret hh → meth.name = y.name →
      Z p l e (zRm fr lo σ) s m args below meth c (zQ below w L σ o σ' args s) w L (zA w L σ) nL σ 0 (lv_args 0 av) []) : zC l w L y ws fr lo av σ o σ' := by
  unfold zC zMet
  refine MetFree.of_bodySF (code := cc) (maxLocals := nL) (ret := ret) hy ?_ ?_
  · intro args s m h hn
    obtain ⟨meth, c, h1, h2, h3, h4, h5, h6, -⟩ := hwd.spec hn (atoms_spec (ws := ws) h _ (by rw [hw]; exact List.mem_cons_self))
    exact ⟨meth, c, h1, h2, h3, h4, h5, h6⟩
  · intro p e s m args below meth c s₁ B hml hP _
    obtain ⟨rfl, hH, hK, hj, hro⟩ := hP
    have hts := atoms_spec (ws := ws) B.pre
    have hst := Stand.of_body B
    have hnm := name_of_methodNamed B.named B.method
    have hh0 : s₁.heap = s.heap := by rw [B.state]; rfl
    have hsz : s.heap.size = σ.2.2.2.1 := hH.1
    have C : zCx p s m av.toArray meth c w L (zA w L σ) nL cc y.cls ret hh := by
      refine ⟨B.exec, B.bytes, hml, findClass_of_methodNamed B.named, fun x hx => hts x (hall x hx), hK, hj, fun q hq => Or.inr (Or.inr (by rw [← hsz]; exact hq)), fun i d hi => Or.inl ⟨i, d, hi, rfl⟩, B.returns, B.notSynchronized, htab _ s m meth c (hts wd (by rw [hw]; exact List.mem_cons_self)) B.named B.method hst.code, ?_, hro⟩
      rw [hnm.1, hnm.2]; exact B.named
    have hZ := body p e s m av.toArray below meth c C hnm.1
    have hl := lv_entry av (n := nL) hlen
    have hW := hZ s.heap [] 0 0 _ hH va_S.rf (fun a x hx => Or.inr (Or.inl ⟨x, hx⟩)) (Nat.le_of_eq (Nat.zero_add _)) (Nat.le_of_eq (Nat.zero_add _)) hl
    rw [← lg_entry_eq] at hW
    obtain ⟨t, a1, o', b1, b2, Ls, k, n, b3, b4, b5⟩ := hW s₁ hh0 hst
    exact ⟨t, o', a1, b1, b2, Ls, k, n, b3, b4, b5⟩
theorem zC.of {l : Launch} {w : ZW} {L : ZL} {y : MethodName} {fr lo : Nat} {av : List Value} {σ : ZS} {o : Outcome} {σ' : ZS} {cc : ByteArray} {nL : Nat} {ret : Option FieldType}
    (hy : plainFor y = true) (hlen : (lg_sl av).length ≤ nL)
    (body : ∀ p e s m args below meth c, zCx p s m args meth c w L (zA w L σ) nL cc y.cls ret [] → meth.name = y.name →
      Z p l e (zRm fr lo σ) s m args below meth c (zQ below w L σ o σ' args s) w L (zA w L σ) nL σ 0 (lv_args 0 av) []) : zC l w L y (ws_ y cc nL ret) fr lo av σ o σ' := by
  refine zC_body hy rfl (Or.inl rfl) (fun x hx => List.mem_cons_of_mem _ hx) hlen ?_ body
  intro args s m meth c hb hn hm hc
  obtain ⟨meth', c', h1, h2, -, -, -, -, h7, -⟩ := Cond.code_spec hn hb
  cases hm.symm.trans h1
  cases hc.symm.trans h2
  simpa [tableOf] using h7
theorem zC.ofW {l : Launch} {w : ZW} {L : ZL} {y : MethodName} {fr lo : Nat} {av : List Value} {σ : ZS} {o : Outcome} {σ' : ZS} {cc : ByteArray} {nL : Nat} {ret : Option FieldType} {hh : List (Nat × Nat × Nat × Nat)}
    (hy : plainFor y = true) (hlen : (lg_sl av).length ≤ nL)
    (body : ∀ p e s m args below meth c, zCx p s m args meth c w L (zA w L σ) nL cc y.cls ret hh → meth.name = y.name →
      Z p l e (zRm fr lo σ) s m args below meth c (zQ below w L σ o σ' args s) w L (zA w L σ) nL σ 0 (lv_args 0 av) []) : zC l w L y (wsW_ y cc nL ret hh) fr lo av σ o σ' := by
  refine zC_body hy rfl (Or.inr ⟨hh, rfl⟩) (fun x hx => List.mem_cons_of_mem _ hx) hlen ?_ body
  intro args s m meth c hb hn hm hc
  obtain ⟨m', meth', c', h0, h1, h2, -, -, h7, -, -, -⟩ := Cond.codeWith_spec hb
  cases hn.symm.trans h0
  cases hm.symm.trans h1
  cases hc.symm.trans h2
  rw [← h7, table_eq]
section ZEnds
variable {p : Program} {l : Launch} {e : Env} {R : Room} {s : State} {m : MethodId} {args : Array Value} {below : List Frame} {meth : Method} {c : Code} {w : ZW} {L : ZL} {nL : Nat} {cc : ByteArray} {own : String} {ret : Option FieldType} {hh : List (Nat × Nat × Nat × Nat)}
variable {σ0 σ : ZS} {pc : Nat} {lv lv' : List (Nat × Value)} {st : List Value}
/-- the end is as the contract says -/
theorem zQ_of {o : Outcome} {H : Heap} {locs : List Loc} {k n : Nat} (hR1 : R.cells = σ0.2.2.2.2.1) (hR2 : R.slots = σ0.2.2.2.2.2) (h1 : zHold zcl w L σ H) (h2 : va_S (zA w L σ0) s.heap H locs) (h3 : ∀ a x, σ.2.2.1 a = some x → zA w L σ0 a) (h4 : k + σ.2.2.2.2.1 ≤ R.cells) (h5 : n + σ.2.2.2.2.2 ≤ R.slots) {t : State} (ht : t.heap = H) (hr : t.status = .running) (he : Ended t below o) (hW : s.WarmedH t.vm) (hs : s.sameButNew ({ t with vm := s.vm } : State) locs k n) : zQ below w L σ0 o σ args s t :=
  ⟨o, hr, he, locs, k, n, ⟨rfl, by rw [ht]; exact h1, ⟨by rw [ht]; exact h2.1, fun q g1 g2 => by rw [ht]; exact h2.2.1 q g1 g2⟩, by rw [← hR1]; exact h4, by rw [← hR2]; exact h5, h3⟩, ⟨hW, hs⟩, fun q hq => h2.2.2 q hq⟩
theorem z_iret {fr lo : Nat} {ty : FieldType} {v : Int32} (C : zCx p s m args meth c w L (zA w L σ0) nL cc own (some ty) hh) (hn : narrow ty (.int v) = .int v) (hd : decode cc pc = .ok (.ireturn, 1)) :
    Z p l e (zRm fr lo σ0) s m args below meth c (zQ below w L σ0 (.returned (some (.int v))) σ args s) w L (zA w L σ0) nL σ pc lv [.int v] := by
  intro H locs k n ls h1 h2 h3 h4 h5 hl T hT X
  have hr : meth.sig.returnType = some ty := C.2.2.2.2.2.2.2.2.2.1
  have hlocks : meth.locks = false := C.2.2.2.2.2.2.2.2.2.2.1
  obtain ⟨fs, hret, hrun, hended, hW, hframe⟩ := X.leave (v := some (.int v)) (fun h => by rw [hr] at h; cases h)
  have hmeth' : T.vm.method? m = some meth := X.method'
  refine ⟨T.setFrames fs, ?_, zQ_of rfl rfl h1 h2 h3 h4 h5 hT hrun hended hW hframe⟩
  jvm_step X.here [X.here.top, C.1, C.2.1, hd, hmeth', hr, hn]
  (try refine ⟨rfl, ?_⟩); (try refine ⟨rfl, ?_⟩)
  first | (intro acts; rw [hret _ acts rfl rfl rfl]) | rw [hret _ _ rfl rfl rfl]
  exact Steps.refl _
theorem z_vret {fr lo : Nat} (C : zCx p s m args meth c w L (zA w L σ0) nL cc own none hh) (hd : decode cc pc = .ok (.return_, 1)) :
    Z p l e (zRm fr lo σ0) s m args below meth c (zQ below w L σ0 (.returned none) σ args s) w L (zA w L σ0) nL σ pc lv [] := by
  intro H locs k n ls h1 h2 h3 h4 h5 hl T hT X
  have hr : meth.sig.returnType = none := C.2.2.2.2.2.2.2.2.2.1
  have hlocks : meth.locks = false := C.2.2.2.2.2.2.2.2.2.2.1
  obtain ⟨fs, hret, hrun, hended, hW, hframe⟩ := X.leave (v := none) (fun _ => rfl)
  have hmeth' : T.vm.method? m = some meth := X.method'
  refine ⟨T.setFrames fs, ?_, zQ_of rfl rfl h1 h2 h3 h4 h5 hT hrun hended hW hframe⟩
  jvm_step X.here [X.here.top, C.1, C.2.1, hd, hmeth', hr]
  (try refine ⟨rfl, ?_⟩); (try refine ⟨rfl, ?_⟩)
  first | (intro acts; rw [hret _ acts rfl rfl rfl]) | rw [hret _ _ rfl rfl rfl]
  exact Steps.refl _
theorem z_aret {fr lo : Nat} {rt : FieldType} {v : Value} (C : zCx p s m args meth c w L (zA w L σ0) nL cc own (some rt) hh) (hrt : (∃ n, rt = .object n) ∨ ∃ t, rt = .array t) (hv : v = .null ∨ ∃ a, v = .ref a) (hd : decode cc pc = .ok (.areturn, 1)) :
    Z p l e (zRm fr lo σ0) s m args below meth c (zQ below w L σ0 (.returned (some v)) σ args s) w L (zA w L σ0) nL σ pc lv [v] := by
  intro H locs k n ls h1 h2 h3 h4 h5 hl T hT X
  have hr : meth.sig.returnType = some rt := C.2.2.2.2.2.2.2.2.2.1
  have hlocks : meth.locks = false := C.2.2.2.2.2.2.2.2.2.2.1
  obtain ⟨fs, hret, hrun, hended, hW, hframe⟩ := X.leave (v := some v) (fun h => by rw [hr] at h; cases h)
  have hmeth' : T.vm.method? m = some meth := X.method'
  refine ⟨T.setFrames fs, ?_, zQ_of rfl rfl h1 h2 h3 h4 h5 hT hrun hended hW hframe⟩
  rcases hrt with ⟨n, rfl⟩ | ⟨t, rfl⟩ <;> rcases hv with rfl | ⟨a, rfl⟩ <;>
    (jvm_step X.here [X.here.top, C.1, C.2.1, hd, hmeth', hr]
     (try refine ⟨rfl, ?_⟩); (try refine ⟨rfl, ?_⟩)
     first | (intro acts; rw [hret _ acts rfl rfl rfl]) | rw [hret _ _ rfl rfl rfl]
     exact Steps.refl _)
/-- athrow, out of the method -/
theorem z_athrow {fr lo : Nat} {a : Nat} (C : zCx p s m args meth c w L (zA w L σ0) nL cc own ret hh) (hout : (tableOf hh).all (fun x => !covers x pc) = true) (hd : decode cc pc = .ok (.athrow, 1)) :
    Z p l e (zRm fr lo σ0) s m args below meth c (zQ below w L σ0 (.threw a) σ args s) w L (zA w L σ0) nL σ pc lv (.ref a :: st) := by
  intro H locs k n ls h1 h2 h3 h4 h5 hl T hT X
  have hlocks : meth.locks = false := C.2.2.2.2.2.2.2.2.2.2.1
  have htab := C.2.2.2.2.2.2.2.2.2.2.2.1
  obtain ⟨hs, hrun, hend, hW, hsame⟩ := X.athrowLeaves C.1 (g := F0 m pc ls (.ref a :: st)) rfl rfl rfl (outside_of_table htab hout) rfl (by rw [C.2.1]; exact hd) hlocks
  exact ⟨_, hs, zQ_of rfl rfl h1 h2 h3 h4 h5 hT hrun hend hW hsame⟩
end ZEnds
/-- an exception is under way at pc -/
def ZT (p : Program) (l : Launch) (e : Env) (R : Room) (s : State) (m : MethodId) (args : Array Value) (below : List Frame) (meth : Method) (c : Code) (Q : State → Prop) (w : ZW) (L : ZL) (A : Nat → Prop) (nL : Nat) (σ : ZS) (pc : Nat) (lv : List (Nat × Value)) (st : List Value) (a : Nat) : Prop :=
  ∀ (H : Heap) (locs : List Loc) (k n : Nat) (ls : Array Slot), zHold zcl w L σ H → va_S A s.heap H locs → (∀ a x, σ.2.2.1 a = some x → A a) → k + σ.2.2.2.2.1 ≤ R.cells → n + σ.2.2.2.2.2 ≤ R.slots → lv_has ls nL lv →
    ∀ T : State, T.heap = H → Stand p l e R s m args below meth c T locs k n → ∃ t, Steps p.tables e below ((T.setTop (F0 m pc ls st)).pushFrame (.throwing a)) t ∧ Q t
section ZThrows
variable {p : Program} {l : Launch} {e : Env} {R : Room} {s : State} {m : MethodId} {args : Array Value} {below : List Frame} {meth : Method} {c : Code} {w : ZW} {L : ZL} {nL : Nat} {cc : ByteArray} {own : String} {ret : Option FieldType} {hh : List (Nat × Nat × Nat × Nat)}
variable {σ0 σ : ZS} {pc : Nat} {lv lv' : List (Nat × Value)} {st : List Value} {a : Nat} {A : Nat → Prop} {Q : State → Prop}
theorem z_tout {fr lo : Nat} (C : zCx p s m args meth c w L (zA w L σ0) nL cc own ret hh) (hout : (tableOf hh).all (fun x => !covers x pc) = true) :
    ZT p l e (zRm fr lo σ0) s m args below meth c (zQ below w L σ0 (.threw a) σ args s) w L (zA w L σ0) nL σ pc lv st a := by
  intro H locs k n ls h1 h2 h3 h4 h5 hl T hT X
  have hlocks : meth.locks = false := C.2.2.2.2.2.2.2.2.2.2.1
  have htab := C.2.2.2.2.2.2.2.2.2.2.2.1
  obtain ⟨hs, hrun, hend, hW, hsame⟩ := X.leaveThrown a (g := F0 m pc ls st) rfl rfl rfl (outside_of_table htab hout) hlocks
  exact ⟨_, hs, zQ_of rfl rfl h1 h2 h3 h4 h5 hT hrun hend hW hsame⟩
/-- caught: pre: the entries that don't cover; the entry's class is the object's own -/
theorem z_catch (C : zCx p s m args meth c w L A nL cc own ret hh) (pre : List (Nat × Nat × Nat × Nat)) (sp ep hp ct : Nat) (post : List (Nat × Nat × Nat × Nat)) (hsplit : hh = pre ++ (sp, ep, hp, ct) :: post) (hskip : (tableOf pre).all (fun x => !covers x pc) = true) (hcov : covers ⟨sp, ep, hp, ct⟩ pc = true) (h0 : ct ≠ 0)
    {Cn : String} {T0 : u_T} {N ci : Nat} (hc : zcl[ci]? = some (Cn, T0, N)) {fs : List Value} (hs : zSee w L σ a (.inr (ci, fs))) (hq : Cond.classLink own ct Cn ∈ lw_all)
    (kk : Z p l e R s m args below meth c Q w L A nL σ hp lv [.ref a]) : ZT p l e R s m args below meth c Q w L A nL σ pc lv st a := by
  intro H locs k n ls h1 h2 h3 h4 h5 hl T hT X
  have htab := C.2.2.2.2.2.2.2.2.2.2.2.1
  have hpl : e.platform.magicAccessors = ({} : Platform).magicAccessors := by rw [X.admits.platform]
  obtain ⟨cC, hfc, hcl⟩ := Cond.classLink_spec C.2.2.2.1 (C.2.2.2.2.1 _ hq) e.platform hpl
  obtain ⟨hg₁, hwarm₁, hready₁⟩ := State.classEntry (e := e) X.warmed hcl
  obtain ⟨r', hr', cell, g1, g2, g3, -⟩ := h1.at hs
  have hcls := (C.2.2.2.2.2.1.1.1 ci _ hc).2
  have hcc : cC = w.1.1 ci := Option.some.inj (hfc.symm.trans hcls.1)
  subst hcc
  obtain ⟨kC, hkC, hkind⟩ := hcls.2
  obtain ⟨k₁, hk₁, he₁⟩ := hwarm₁.alike.2.2 _ _ hkC
  have hsz : (T.vm.noted m.cls ct (.cls (w.1.1 ci))).classes.size ≤ T.vm.classes.size := by simp [Vm.size_noted]
  have hasg : (T.vm.noted m.cls ct (.cls (w.1.1 ci))).assignable (w.1.1 ci) (w.1.1 ci) = true := by
    have hk' : k₁.kind = .ordinary := by rw [he₁]; exact hkind
    simp [Vm.assignable, Vm.assignableAux, hk₁, hk', Vm.isSubclass, Vm.isSubclassAux]
  have X₁ := X.noted hwarm₁
  obtain ⟨t, a1, b1⟩ := kk H locs k n ls h1 h2 h3 h4 h5 hl (T.setVm (T.vm.noted m.cls ct (.cls (w.1.1 ci)))) hT X₁
  refine ⟨t, ?_, b1⟩
  have htabm : c.exceptionTable.toList = tableOf pre ++ (⟨sp, ep, hp, ct⟩ : ExceptionTableEntry) :: tableOf post := by rw [htab, hsplit]; simp [tableOf]
  refine zCaught (vm' := T.vm.noted m.cls ct (.cls (w.1.1 ci))) (pc := hp) (g := F0 m pc ls st) (c := c) X.here ?_ a1
  intro Q' E d acts
  have hvm : ((T.setTop (F0 m pc ls st)).pushFrame (.throwing a)).vm = T.vm := Stand.throwing_vm T _ a
  have hheap : ((T.setTop (F0 m pc ls st)).pushFrame (.throwing a)).heap = T.heap := Stand.throwing_heap T _ a
  rw [W.findHandler_eq (meth := meth) (by rw [hvm]; exact X.method') X.code, htabm]
  have hgo : ∀ (l1 : List ExceptionTableEntry), (∀ x ∈ l1, covers x pc = false) → (wp (findHandler.go (F0 m pc ls st) a (l1 ++ (⟨sp, ep, hp, ct⟩ : ExceptionTableEntry) :: tableOf post)) Q' E e d acts ((T.setTop (F0 m pc ls st)).pushFrame (.throwing a)) ↔ wp (findHandler.go (F0 m pc ls st) a ((⟨sp, ep, hp, ct⟩ : ExceptionTableEntry) :: tableOf post)) Q' E e d acts ((T.setTop (F0 m pc ls st)).pushFrame (.throwing a))) := by
    intro l1
    induction l1 with
    | nil => intro _; rfl
    | cons y t ih =>
      intro hy
      rw [List.cons_append, W.findHandler_go_skip (hy y List.mem_cons_self)]
      exact ih (fun z hz => hy z (List.mem_cons_of_mem _ hz))
  rw [hgo (tableOf pre) (fun x hx => by
    have h9 := List.all_eq_true.mp hskip x hx
    cases hq9 : covers x pc with
    | false => rfl
    | true =>
      rw [hq9] at h9
      exact absurd h9 (by decide))]
  have hg₂ : (Jvm.resolveClass (F0 m pc ls st).method.cls (⟨sp, ep, hp, ct⟩ : ExceptionTableEntry).catchType).Gives e.toSetting ((T.setTop (F0 m pc ls st)).pushFrame (.throwing a)).vm (.ok (w.1.1 ci)) (T.vm.noted m.cls ct (.cls (w.1.1 ci))) := by rw [hvm]; exact hg₁
  rw [zFindCold (cell := cell) hcov h0 hg₂ (by rw [hvm]; exact hsz) (by rw [hheap, hT]; exact g1) (fun q h => by rw [g3] at h; cases h) (by rw [g2]; exact ⟨k₁, hk₁⟩) ⟨k₁, hk₁⟩]
  rw [g2, if_pos hasg]
  rfl
end ZThrows
