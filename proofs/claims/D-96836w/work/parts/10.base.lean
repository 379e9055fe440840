/-! my own layer, 1: contracts that may end by a throw; one call row for every kind of call -/
/-- how an end differs from the start: tables warmer, L written, at most k cells of n slots new -/
def zEnd (first t : State) (L : List Loc) (k n : Nat) : Prop := first.WarmedH t.vm ∧ first.sameButNew ({ t with vm := first.vm } : State) L k n
/-- a contract: from Pc the method ends by an outcome with Qc; what it wrote is free -/
def zMet (l : Launch) (y : MethodName) (ws : List Cond) (rm : Room) (Pc : Array Value → State → Prop) (Qc : Array Value → State → Outcome → State → Nat → Nat → Prop) (free : Addr → Prop) : Prop :=
  MetFree l y (headSpec ws rm) Pc (fun _ _ _ _ _ => True) (fun a st o t => ∃ (L : List Loc) (k n : Nat), Qc a st o t k n ∧ zEnd st t L k n ∧ ∀ q ∈ L, free q.base)
/-- the method's own body, by a plain code word or one with handlers -/
def zCode (y : MethodName) (bytes : ByteArray) (maxL : Nat) (ret : Option FieldType) (w : Cond) : Prop := w = Cond.code y bytes maxL ret ∨ ∃ hh, w = Cond.codeWith y bytes maxL ret hh
theorem zCode.spec {y : MethodName} {bytes : ByteArray} {maxL : Nat} {ret : Option FieldType} {w : Cond} (h : zCode y bytes maxL ret w) {args : Array Value} {s : State} {m : MethodId} (hn : s.methodNamed? y = some m) (hw : w.before args s = true) :
    ∃ meth c, s.vm.method? m = some meth ∧ meth.code = some c ∧ c.code = bytes ∧ c.maxLocals = maxL ∧ meth.sig.returnType = ret ∧ meth.locks = false ∧ parseMethodDescriptor y.desc = some meth.sig := by
  rcases h with rfl | ⟨hh, rfl⟩
  · obtain ⟨meth, c, h1, h2, h3, h4, h5, h6, -, h8⟩ := Cond.code_spec hn hw
    exact ⟨meth, c, h1, h2, h3, h4, h5, h6, h8⟩
  · obtain ⟨m', meth, c, h0, h1, h2, h3, h4, -, h5, h6, h8⟩ := Cond.codeWith_spec hw
    cases hn.symm.trans h0
    exact ⟨meth, c, h1, h2, h3, h4, h5, h6, h8⟩
theorem zCode.named {y : MethodName} {bytes : ByteArray} {maxL : Nat} {ret : Option FieldType} {w : Cond} (h : zCode y bytes maxL ret w) {args : Array Value} {s : State} (hw : w.before args s = true) : ∃ m, s.methodNamed? y = some m := by
  rcases h with rfl | ⟨hh, rfl⟩
  · exact Cond.code_named hw
  · obtain ⟨m', meth, c, h0, -⟩ := Cond.codeWith_spec hw
    exact ⟨m', h0⟩
section ZCall
variable {p : Program} {l : Launch} {e : Env} {R : Room} {s : State} {m : MethodId} {args : Array Value} {below : List Frame} {meth : Method} {c : Code}
/-- the instruction at g calls y with av, the rest of the stack stays below -/
def zInv (p : Program) (l : Launch) (e : Env) (R : Room) (s : State) (m : MethodId) (args : Array Value) (below : List Frame) (meth : Method) (c : Code) (H : Heap) (g : JFrame) (rest : List Value) (len : Nat) (y : MethodName) (av : List Value) : Prop :=
  ∀ (T : State) (locs : List Loc) (cells slots : Nat), T.heap = H → Stand p l e R s m args below meth c T locs cells slots →
    ∃ (vm₁ : Vm) (mk : MethodId) (ig : Instr), Stand p l e R s m args below meth c (T.setVm vm₁) locs cells slots ∧ (T.setVm vm₁).methodNamed? y = some mk ∧ g.method = m ∧ decode c.code g.pc = .ok (ig, len) ∧
      ∀ target, Steps p.tables e below (doInvoke e ((T.setVm vm₁).setTop { g with stack := rest }) [] mk av.toArray).1 target → Steps p.tables e below (T.setTop g) target
/-- where a call has ended: the walk goes on behind it, or the exception is thrown at it -/
def zOut (p : Program) (e : Env) (below : List Frame) (T : State) (g : JFrame) (rest : List Value) (len : Nat) (o : Outcome) (T' : State) : Prop :=
  match o with
  | .returned v => ∀ target, Steps p.tables e below (T'.setTop { g with pc := g.pc + len, stack := v.toList ++ rest }) target → Steps p.tables e below (T.setTop g) target
  | .threw x => ∀ target, Steps p.tables e below ((T'.setTop { g with stack := rest }).pushFrame (.throwing x)) target → Steps p.tables e below (T.setTop g) target
set_option maxHeartbeats 1000000 in
/-- THE CALL ROW at the machine: whatever the outcome -/
theorem zCallT {H : Heap} {g : JFrame} {rest : List Value} {len : Nat} {y : MethodName} {av : List Value} (hI : zInv p l e R s m args below meth c H g rest len y av)
    {ws : List Cond} {rm : Room} {Pc : Array Value → State → Prop} {Qc : Array Value → State → Outcome → State → Nat → Nat → Prop} {free : Addr → Prop} (hM : zMet l y ws rm Pc Qc free)
    {bytes : ByteArray} {maxL : Nat} {ret : Option FieldType} {w : Cond} (hw : zCode y bytes maxL ret w) (hwi : w ∈ ws)
    (hws : ∀ w ∈ ws, ∀ (a' : Array Value) (U : State), s.WarmedH U.vm → w.before a' U = true) (hini : ∀ (a' : Array Value) (U : State), s.WarmedH U.vm → (Cond.initialized y.cls).before a' U = true)
    (hsize : g.locals.size = c.maxLocals) (hfr : rm.frames + 1 ≤ R.frames) (hlo : 2 * g.monitorRoom + (rest.map fun v => v.category).sum + (maxL + 11) + rm.locals ≤ R.locals)
    {T : State} {locs : List Loc} {cells slots : Nat} (hT : T.heap = H) (X : Stand p l e R s m args below meth c T locs cells slots) (hc : cells + rm.cells ≤ R.cells) (hs : slots + rm.slots ≤ R.slots)
    (hPc : ∀ U : State, U.heap = H → s.WarmedH U.vm → Pc av.toArray U) :
    ∃ (o : Outcome) (st t T' : State) (L : List Loc) (k n : Nat), st.heap = H ∧ s.WarmedH st.vm ∧ Qc av.toArray st o t k n ∧ T'.heap = t.heap ∧ T'.vm = t.vm ∧ (∀ q ∈ L, free q.base) ∧ Stand p l e R s m args below meth c T' (locs ++ L) (cells + k) (slots + n) ∧ zOut p e below T g rest len o T' := by
  obtain ⟨vm₁, mk, ig, X₁, hn, hg, hdg, hstep⟩ := hI T locs cells slots hT X
  obtain ⟨methY, cY, hmY, hcY, -, hlY, -, -, -⟩ := hw.spec hn (hws w hwi av.toArray (T.setVm vm₁) X₁.warmed)
  obtain ⟨kY, hkY, -⟩ := className_of_methodNamed hn
  have hinitY : kY.init = .initialized := Cond.initialized_spec (findClass_of_methodNamed hn) hkY (hini av.toArray _ X₁.warmed)
  have h : At (T.setVm vm₁) ({ g with stack := rest } : JFrame).method c below := by rw [show ({ g with stack := rest } : JFrame).method = m from hg]; exact X₁.here
  have happ : (headSpec ws rm).appliesLoose y e.platform ((T.setVm vm₁).calling { g with stack := rest } mk av.toArray) = true :=
    Spec.appliesLoose_calling (g := { g with stack := rest }) h hdg hn hkY hinitY
      (X₁.room_calling (g := { g with stack := rest }) (R' := (headSpec ws rm).room) hsize hmY hcY hfr (by rw [hlY]; exact hlo) hc hs) (atoms_intro fun w hw => hws w hw _ _ X₁.warmed)
  obtain ⟨mid, hmid⟩ := h.above
  have hfr' : ((T.setVm vm₁).setTop { g with stack := rest }).frames = (.java { g with stack := rest } :: mid) ++ below := by rw [State.frames_setTop' _ h.top, hmid]; rfl
  have hPc' : Pc av.toArray ((T.setVm vm₁).calling { g with stack := rest } mk av.toArray) := hPc _ hT X₁.warmed
  obtain ⟨o, s₂, hsteps, -, hend, L, k, n, hq, ⟨hW₂, hsame⟩, hL⟩ := Steps.callFree hM p X₁.admits X₁.cas X₁.clock (acts := []) hfr' happ hPc' trivial
  rw [State.frames_setTop' _ h.top] at hend
  have hst : ((T.setVm vm₁).calling { g with stack := rest } mk av.toArray).heap = H := hT
  cases o with
  | threw x =>
    obtain ⟨T', X', hW', hsm, ht⟩ := X₁.outOfThrown (g := { g with stack := rest }) hg (mk := mk) (a := av.toArray) (x := x) (by rw [X₁.tail] at hend; exact hend) hW₂ hsame
    refine ⟨.threw x, (T.setVm vm₁).calling { g with stack := rest } mk av.toArray, s₂, T', L, k, n, hst, X₁.warmed, hq, ?_, ?_, hL, X', ?_⟩
    · rw [ht, Stand.throwing_heap]
    · rw [ht, Stand.throwing_vm]
    · intro target hh
      refine hstep target (hsteps.trans ?_)
      rw [ht]
      exact hh
  | returned v =>
    have hsame : ((T.setVm vm₁).calling { g with stack := rest } mk av.toArray).sameButNew ({ s₂ with vm := ((T.setVm vm₁).calling { g with stack := rest } mk av.toArray).vm } : State) L k n := hsame
    obtain ⟨e2, q2, q3, q4, q5, q6⟩ := hsame
    have e3 : s₂ = ({ ((T.setVm vm₁).calling { g with stack := rest } mk av.toArray).setFrames s₂.frames with heap := s₂.heap, slotsUsed := s₂.slotsUsed } : State).setVm s₂.vm := by
      have : s₂ = ({ s₂ with vm := ((T.setVm vm₁).calling { g with stack := rest } mk av.toArray).vm } : State).setVm s₂.vm := rfl
      rw [e2] at this
      exact this
    obtain ⟨c₂, i₂, len₂, hc₂, hd₂, hf₂⟩ := hend
    have hW' : (T.setVm vm₁).WarmedH s₂.vm := hW₂
    have hcc : c₂ = c := by
      have h1 : s₂.code? g.method = (T.setVm vm₁).code? g.method := by
        rw [State.code?_eq, State.code?_eq, hW'.alike.method?]
      exact Option.some.inj (hc₂.symm.trans (h1.trans h.code))
    subst hcc
    have hlen : len₂ = len := by
      have : decode c₂.code g.pc = .ok (i₂, len₂) := hd₂
      rw [hdg] at this; cases this; rfl
    subst hlen
    obtain ⟨g₀, hr⟩ := X₁.frames_eq
    have hs₂ : s₂ = (({ (T.setVm vm₁) with heap := s₂.heap, slotsUsed := s₂.slotsUsed } : State).setVm s₂.vm).setTop { g with pc := g.pc + len₂, stack := v.toList ++ rest } := by
      have hr' : (({ (T.setVm vm₁) with heap := s₂.heap, slotsUsed := s₂.slotsUsed } : State).setVm s₂.vm).frames = .java g₀ :: below := hr
      refine e3.trans ?_
      rw [hf₂, State.calling_eq h.top, State.setFrames_setFrames, State.setTop_of_frames _ hr', hr]
      rfl
    have hsame : (T.setVm vm₁).sameButNew ({ (T.setVm vm₁) with heap := s₂.heap, slotsUsed := s₂.slotsUsed } : State) L k n := by
      refine ⟨?_, q2, q3, q4, q5, q6⟩
      obtain ⟨t, ht, -⟩ := State.frames_cons hr
      show ({ (T.setVm vm₁) with heap := s₂.heap, slotsUsed := s₂.slotsUsed } : State) = { (T.setVm vm₁).setFrames (T.setVm vm₁).frames with heap := s₂.heap, slotsUsed := s₂.slotsUsed }
      rw [State.setFrames_self ht]
    refine ⟨.returned v, (T.setVm vm₁).calling { g with stack := rest } mk av.toArray, s₂, ({ (T.setVm vm₁) with heap := s₂.heap, slotsUsed := s₂.slotsUsed } : State).setVm s₂.vm, L, k, n, hst, X₁.warmed, hq, rfl, rfl, hL,
      ⟨X₁.admits, X₁.cas, X₁.clock, X₁.frames, X₁.room, X₁.hears, X₁.method, X₁.code, (X₁.here.setHeapUsed s₂.heap s₂.slotsUsed).setVm hW'.alike, X₁.tail, State.WarmedH.trans X₁.warmed hW', X₁.limits, X₁.bytes, X₁.same.trans (hsame.setVm s.vm)⟩, ?_⟩
    intro target hh
    refine hstep target (hsteps.trans ?_)
    rw [hs₂]
    exact hh
end ZCall
