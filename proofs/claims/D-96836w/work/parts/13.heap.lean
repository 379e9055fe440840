/-! my own layer, 4: rows of the heap (written by gen/mk13.py) -/
def zSm (ref : String) (t : String × String × String × Bool) : Prop := ref = t.1 ∨ Cond.sameField ref t.1 t.2.1 t.2.2.1 ∈ lw_all
theorem zSm.use {ref : String} {t : String × String × String × Bool} (h : zSm ref t) {args : Array Value} {s : State} (hts : ∀ w ∈ lw_all, w.before args s = true) (x : ClassId × Class × Nat × Field) (hx : s.fieldFound? t.1 t.2.1 t.2.2.1 = some x) : s.fieldFound? ref t.2.1 t.2.2.1 = some x := by
  rcases h with rfl | h
  · exact hx
  · exact u_same (hts _ h) x hx
theorem zS_upd {A : Nat → Prop} {H0 H H' : Heap} {locs : List Loc} {a i : Nat} (hS : va_S A H0 H locs) (ha : A a) (hz : H'.size = H.size) (ho : ∀ q, q ≠ a → H'[q]? = H[q]?) : va_S A H0 H' (locs ++ [⟨a, i⟩]) := by
  refine ⟨by rw [hz]; exact hS.1, fun q h1 h2 => ?_, fun q hq => ?_⟩
  · rw [ho q (fun e => h2 (e ▸ ha))]; exact hS.2.1 q h1 h2
  · rcases List.mem_append.mp hq with h | h
    · exact hS.2.2 q h
    · simp at h; rw [h]; exact ha
section ZMem
variable {p : Program} {l : Launch} {e : Env} {R : Room} {s : State} {m : MethodId} {args : Array Value} {below : List Frame} {meth : Method} {c : Code} {Q : State → Prop} {w : ZW} {L : ZL} {A : Nat → Prop} {nL : Nat} {cc : ByteArray} {own : String} {ret : Option FieldType} {hh : List (Nat × Nat × Nat × Nat)}
variable {σ : ZS} {pc : Nat} {lv lv' : List (Nat × Value)} {st : List Value}

theorem z_get (C : zCx p s m args meth c w L A nL cc own ret hh) {a : Nat} {Cn : String} {T : u_T} {N ci : Nat} (hc : zcl[ci]? = some (Cn, T, N)) (hin : ∀ x ∈ u_ws Cn T N, x ∈ lw_all) {fs : List Value} (hs : zSee w L σ a (.inr (ci, fs))) {index : Nat} {ref : String} (k : Nat) (hk : k < N) (hq : Cond.fieldLink own index ref (T k).2.1 (T k).2.2.1 ∈ lw_all) (hm : zSm ref (T k)) {v : Value} (hv : fs[k]? = some v) (hd : decode cc pc = .ok (.getfield index, 3)) (kk : Z p l e R s m args below meth c Q w L A nL σ (pc + 3) lv (v :: st)) : Z p l e R s m args below meth c Q w L A nL σ pc lv (.ref a :: st) := by
  intro H locs k0 n ls h1 h2 h3 h4 h5 hl
  have hP : va_P w.1 zcl [(a, .inr (ci, fs))] H := fun j q hq => by
    have hz : j < 1 := (List.getElem?_eq_some_iff.mp hq).1
    rw [show j = 0 by omega] at hq
    cases hq
    exact h1.at hs
  exact va_get C.1 C.2.1 C.2.2.2.2.1 hin C.2.2.2.1 C.2.2.2.2.2.1.1 hP 0 rfl hc k hk (C.2.2.2.2.1 _ hq) (hm.use C.2.2.2.2.1) hv hd (kk H locs k0 n ls h1 h2 h3 h4 h5 hl)
theorem z_getN (C : zCx p s m args meth c w L A nL cc own ret hh) {a : Nat} {Cn : String} {T : u_T} {N ci : Nat} (hc : zcl[ci]? = some (Cn, T, N)) (hin : ∀ x ∈ u_ws Cn T N, x ∈ lw_all) {fs : List Value} (hs : zSee w L σ a (.inr (ci, fs))) {index : Nat} {ref : String} (k : Nat) (hk : k < N) {host : String} (hq : Cond.fieldLinkNest own index ref (T k).2.1 (T k).2.2.1 host ∈ lw_tbl) (hm : zSm ref (T k)) {v : Value} (hv : fs[k]? = some v) (hd : decode cc pc = .ok (.getfield index, 3)) (kk : Z p l e R s m args below meth c Q w L A nL σ (pc + 3) lv (v :: st)) : Z p l e R s m args below meth c Q w L A nL σ pc lv (.ref a :: st) := by
  intro H locs k0 n ls h1 h2 h3 h4 h5 hl
  have hP : va_P w.1 zcl [(a, .inr (ci, fs))] H := fun j q hq => by
    have hz : j < 1 := (List.getElem?_eq_some_iff.mp hq).1
    rw [show j = 0 by omega] at hq
    cases hq
    exact h1.at hs
  exact va_getN C.1 C.2.1 C.2.2.2.2.1 hin C.2.2.2.1 C.2.2.2.2.2.1.1 hP 0 rfl hc k hk (C.2.2.2.2.2.1.nw hq rfl) (hm.use C.2.2.2.2.1) hv hd (kk H locs k0 n ls h1 h2 h3 h4 h5 hl)
/-- a putfield at the machine: the one cell changes -/
def zPutW (p : Program) (l : Launch) (e : Env) (R : Room) (s : State) (m : MethodId) (args : Array Value) (below : List Frame) (meth : Method) (c : Code) (Q : State → Prop) (w : ZW) (a ci : Nat) (fs : List Value) (k : Nat) (v : Value) (pc : Nat) (st : List Value) : Prop :=
  ∀ (H : Heap) (locs : List Loc) (cells slots : Nat) (ls : Array Slot), va_at w.1 zcl (a, .inr (ci, fs)) H →
    (∀ (H' : Heap) (j : Nat), va_at w.1 zcl (a, .inr (ci, fs.set k v)) H' → H'.size = H.size → (∀ q, q ≠ a → H'[q]? = H[q]?) → W p l e R s m args below meth c H' (locs ++ [⟨a, j⟩]) cells slots Q (F0 m (pc + 3) ls st)) →
    W p l e R s m args below meth c H locs cells slots Q (F0 m pc ls (v :: .ref a :: st))
theorem zPut (C : zCx p s m args meth c w L A nL cc own ret hh) {a : Nat} {Cn : String} {T : u_T} {N ci : Nat} (hc : zcl[ci]? = some (Cn, T, N)) (hin : ∀ x ∈ u_ws Cn T N, x ∈ lw_all) (ty0 : Nat → FieldType) (hty : ∀ k, k < N → parseFieldDescriptor (T k).2.2.1 = some (ty0 k)) (hnm : ∀ a, a < N → ∀ b, b < N → a ≠ b → (T a).2.1 ≠ (T b).2.1) {fs : List Value} {index : Nat} {ref : String} (k : Nat) (hk : k < N) (hq : Cond.fieldLink own index ref (T k).2.1 (T k).2.2.1 ∈ lw_all) (hm : zSm ref (T k)) (hfin : (T k).2.2.2 = false) {v : Value} (hn : narrow (ty0 k) v = v) (hfit : fits (ty0 k) v = true) (hl : k < fs.length) (hd : decode cc pc = .ok (.putfield index, 3)) : zPutW p l e R s m args below meth c Q w a ci fs k v pc st := by
  intro H locs cells slots ls hat kk
  have hts := C.2.2.2.2.1
  have hK := C.2.2.2.2.2.1.1
  have hown := C.2.2.2.1
  have hap := va_apart (own := own) hts hin ty0 hty hnm hK hc
  obtain ⟨r, h1, cell, q1, q2, q3, q4⟩ := hat
  have hr : r = (Cn, T, N) := Option.some.inj (h1.symm.trans hc)
  subst hr
  obtain ⟨hS, hfc, kC, hkC, hkind⟩ := hK.1 ci _ hc
  obtain ⟨cf, kf, fi, f, hi, hsl⟩ := hS k hk
  have hlay := hts _ (hin _ (u_in_lay hk))
  unfold u_lay at hlay
  rw [if_neg (by rw [hfin]; decide)] at hlay
  have hst := (u_facts hfc hkC (u_lays hts hin hk) hi).1
  have h6 := u_store hfc hkC hkind hlay hi (hty k hk) hn hfit
  refine W.putK C.1 C.2.1 (f := f) ⟨hown, (C.2.2.2.2.1 _ hq), ⟨_, _, _, hm.use hts _ hi⟩, hst⟩ (by rw [q2]; exact h6) q1 q3 (by rw [hsl]; exact k2_hasslot (q4 k hk)) rfl rfl hd fun H' e1 e2 e3 => ?_
  rw [hsl] at e1 ⊢
  exact kk H' _ ⟨_, hc, t_OB.to (V := updV (vp_V fs) k v) ⟨_, e1, q2, q3, t_set q4 hap hk v⟩ (fun j _ => vp_updV_set hl v j)⟩ e2 e3
theorem zPutN (C : zCx p s m args meth c w L A nL cc own ret hh) {a : Nat} {Cn : String} {T : u_T} {N ci : Nat} (hc : zcl[ci]? = some (Cn, T, N)) (hin : ∀ x ∈ u_ws Cn T N, x ∈ lw_all) (ty0 : Nat → FieldType) (hty : ∀ k, k < N → parseFieldDescriptor (T k).2.2.1 = some (ty0 k)) (hnm : ∀ a, a < N → ∀ b, b < N → a ≠ b → (T a).2.1 ≠ (T b).2.1) {fs : List Value} {index : Nat} {ref : String} (k : Nat) (hk : k < N) {host : String} (hq : Cond.fieldLinkNest own index ref (T k).2.1 (T k).2.2.1 host ∈ lw_tbl) (hm : zSm ref (T k)) (hfin : (T k).2.2.2 = false) {v : Value} (hn : narrow (ty0 k) v = v) (hfit : fits (ty0 k) v = true) (hl : k < fs.length) (hd : decode cc pc = .ok (.putfield index, 3)) : zPutW p l e R s m args below meth c Q w a ci fs k v pc st := by
  intro H locs cells slots ls hat kk
  have hts := C.2.2.2.2.1
  have hK := C.2.2.2.2.2.1.1
  have hown := C.2.2.2.1
  have hap := va_apart (own := own) hts hin ty0 hty hnm hK hc
  obtain ⟨r, h1, cell, q1, q2, q3, q4⟩ := hat
  have hr : r = (Cn, T, N) := Option.some.inj (h1.symm.trans hc)
  subst hr
  obtain ⟨hS, hfc, kC, hkC, hkind⟩ := hK.1 ci _ hc
  obtain ⟨cf, kf, fi, f, hi, hsl⟩ := hS k hk
  have hlay := hts _ (hin _ (u_in_lay hk))
  unfold u_lay at hlay
  rw [if_neg (by rw [hfin]; decide)] at hlay
  have hst := (u_facts hfc hkC (u_lays hts hin hk) hi).1
  have h6 := u_store hfc hkC hkind hlay hi (hty k hk) hn hfit
  refine va_WputK C.1 C.2.1 (f := f) hown (C.2.2.2.2.2.1.nw hq rfl) (hm.use hts _ hi) hst (by rw [q2]; exact h6) q1 q3 (by rw [hsl]; exact k2_hasslot (q4 k hk)) rfl rfl hd fun H' e1 e2 e3 => ?_
  rw [hsl] at e1 ⊢
  exact kk H' _ ⟨_, hc, t_OB.to (V := updV (vp_V fs) k v) ⟨_, e1, q2, q3, t_set q4 hap hk v⟩ (fun j _ => vp_updV_set hl v j)⟩ e2 e3
theorem zPutF (C : zCx p s m args meth c w L A nL cc own ret hh) {a : Nat} {Cn : String} {T : u_T} {N ci : Nat} (hc : zcl[ci]? = some (Cn, T, N)) (hin : ∀ x ∈ u_ws Cn T N, x ∈ lw_all) (ty0 : Nat → FieldType) (hty : ∀ k, k < N → parseFieldDescriptor (T k).2.2.1 = some (ty0 k)) (hnm : ∀ a, a < N → ∀ b, b < N → a ≠ b → (T a).2.1 ≠ (T b).2.1) {fs : List Value} {index : Nat} {ref : String} (k : Nat) (hk : k < N) (hq : Cond.fieldLink own index ref (T k).2.1 (T k).2.2.1 ∈ lw_all) (hm : zSm ref (T k)) (hfin : (T k).2.2.2 = true) (hin2 : meth.name = "<init>") (hdecl : (T k).1 = own) {v : Value} (hn : narrow (ty0 k) v = v) (hfit : fits (ty0 k) v = true) (hl : k < fs.length) (hd : decode cc pc = .ok (.putfield index, 3)) : zPutW p l e R s m args below meth c Q w a ci fs k v pc st := by
  intro H locs cells slots ls hat kk
  have hts := C.2.2.2.2.1
  have hK := C.2.2.2.2.2.1.1
  have hown := C.2.2.2.1
  have hap := va_apart (own := own) hts hin ty0 hty hnm hK hc
  obtain ⟨r, h1, cell, q1, q2, q3, q4⟩ := hat
  have hr : r = (Cn, T, N) := Option.some.inj (h1.symm.trans hc)
  subst hr
  obtain ⟨hS, hfc, kC, hkC, hkind⟩ := hK.1 ci _ hc
  obtain ⟨cf, kf, fi, f, hi, hsl⟩ := hS k hk
  have hlay := hts _ (hin _ (u_in_lay hk))
  unfold u_lay at hlay
  rw [if_pos hfin] at hlay
  have hst := (u_facts hfc hkC (u_lays hts hin hk) hi).1
  have hcf : m.cls = cf := by
    obtain ⟨_, _, c', _, _, _, -, -, hf', -, -, -, hown2, -⟩ := Cond.laysFinal_spec hlay
    have e1 : c' = cf := by have := hi.symm.trans hf'; simp at this; exact this.1.symm
    rw [hdecl] at hown2
    rw [← e1]; exact Option.some.inj (hown.symm.trans hown2)
  have h6 := u_fits hfc hkC hkind (Or.inr hlay) hi (hty k hk) hn hfit
  refine W.putFinK C.1 C.2.1 hown (C.2.2.2.2.1 _ hq) (hm.use hts _ hi) hst hcf hin2 (by rw [q2]; exact h6) q1 q3 (by rw [hsl]; exact k2_hasslot (q4 k hk)) rfl rfl hd fun H' e1 e2 e3 => ?_
  rw [hsl] at e1 ⊢
  exact kk H' _ ⟨_, hc, t_OB.to (V := updV (vp_V fs) k v) ⟨_, e1, q2, q3, t_set q4 hap hk v⟩ (fun j _ => vp_updV_set hl v j)⟩ e2 e3
theorem zA_of (C : zCx p s m args meth c w L A nL cc own ret hh) {a : Nat} {x : va_E} (h3 : ∀ a x, σ.2.2.1 a = some x → A a) (hs : zSee w L σ a x) : A a := by
  rcases hs with ⟨i, d, hi, rfl, -⟩ | hp
  · exact C.2.2.2.2.2.2.2.2.1 i d hi
  · exact h3 a x hp
/-- a put, by what it does to the world -/
theorem z_put (C : zCx p s m args meth c w L A nL cc own ret hh) {σ' : ZS} {a ci k : Nat} {fs : List Value} {v : Value} (hW : zPutW p l e R s m args below meth c Q w a ci fs k v pc st) (hs : zSee w L σ a (.inr (ci, fs))) (hu : (∀ q z, σ.2.2.1 q = some z → ∀ i d, L i = some d → q ≠ w.2.2 i) → zUpd w L σ σ' a (.inr (ci, fs.set k v))) (kk : Z p l e R s m args below meth c Q w L A nL σ' (pc + 3) lv st) : Z p l e R s m args below meth c Q w L A nL σ pc lv (v :: .ref a :: st) := by
  intro H locs k0 n ls h1 h2 h3 h4 h5 hl
  refine hW H locs k0 n ls (h1.at hs) fun H' j e1 e2 e3 => ?_
  have hu := hu (fun q z hq => (h1.2.2.1 q z hq).2)
  refine kk H' _ k0 n ls (h1.upd hu e1 e2 e3) (zS_upd h2 (zA_of C h3 hs) e2 e3) (fun q x hq => ?_) (by rw [hu.1]; exact h4) (by rw [hu.1]; exact h5) hl
  obtain ⟨z, hz⟩ := (hu.2.1 q).mp ⟨x, hq⟩
  exact h3 q z hz
theorem z_putI (C : zCx p s m args meth c w L A nL cc own ret hh) {i ci k : Nat} {ds : List ZFd} {v : Int32} (hi : L i = some (.inr (ci, ds))) (hk : ds[k]? = some none) (hW : zPutW p l e R s m args below meth c Q w (w.2.2 i) ci (zFs w σ i 0 ds) k (.int v) pc st) (kk : Z p l e R s m args below meth c Q w L A nL (sI σ i k v) (pc + 3) lv st) : Z p l e R s m args below meth c Q w L A nL σ pc lv (.int v :: .ref (w.2.2 i) :: st) :=
  z_put C hW (zSee.fix hi) (fun hP => zUpd.fixI C.2.2.2.2.2.2.1 (fun q z hq => hP q z hq i _ hi) hi hk) kk
theorem z_putG (C : zCx p s m args meth c w L A nL cc own ret hh) {i ci k : Nat} {ds : List ZFd} (v : Option Nat) (hi : L i = some (.inr (ci, ds))) (hk : ds[k]? = some (some none)) (hW : zPutW p l e R s m args below meth c Q w (w.2.2 i) ci (zFs w σ i 0 ds) k (va_rf v) pc st) (kk : Z p l e R s m args below meth c Q w L A nL (sG σ i k v) (pc + 3) lv st) : Z p l e R s m args below meth c Q w L A nL σ pc lv (va_rf v :: .ref (w.2.2 i) :: st) :=
  z_put C hW (zSee.fix hi) (fun hP => zUpd.fixG C.2.2.2.2.2.2.1 (fun q z hq => hP q z hq i _ hi) hi hk) kk
theorem z_putP (C : zCx p s m args meth c w L A nL cc own ret hh) {a ci k : Nat} {fs : List Value} {v : Value} (hp : σ.2.2.1 a = some (.inr (ci, fs))) (hW : zPutW p l e R s m args below meth c Q w a ci fs k v pc st) (kk : Z p l e R s m args below meth c Q w L A nL (sP σ a (.inr (ci, fs.set k v))) (pc + 3) lv st) : Z p l e R s m args below meth c Q w L A nL σ pc lv (v :: .ref a :: st) :=
  z_put C hW (zSee.pool hp) (fun hP => zUpd.pool hp (fun i d hi => hP a _ hp i d hi)) kk
theorem z_iaload (C : zCx p s m args meth c w L A nL cc own ret hh) {a N : Nat} {f : Nat → Int32} (hs : zSee w L σ a (.inl (w.2.1 0, N, .inl f))) {i : Int32} (hin : ¬ (i < 0 ∨ N ≤ i.toNatClampNeg)) (hd : decode cc pc = .ok (.iaload, 1)) (kk : Z p l e R s m args below meth c Q w L A nL σ (pc + 1) lv (.int (f i.toNatClampNeg) :: st)) : Z p l e R s m args below meth c Q w L A nL σ pc lv (.int i :: .ref a :: st) := by
  intro H locs k0 n ls h1 h2 h3 h4 h5 hl
  have hP : va_P w.1 zcl [(a, .inl (w.2.1 0, N, .inl f))] H := fun j q hq => by
    have hz : j < 1 := (List.getElem?_eq_some_iff.mp hq).1
    rw [show j = 0 by omega] at hq
    cases hq
    exact h1.at hs
  exact va_iald C.1 C.2.1 C.2.2.2.2.2.1.1 hP 0 0 rfl rfl hin hd (kk H locs k0 n ls h1 h2 h3 h4 h5 hl)
theorem z_baload (C : zCx p s m args meth c w L A nL cc own ret hh) {a N : Nat} {f : Nat → Int32} (hs : zSee w L σ a (.inl (w.2.1 1, N, .inl f))) {i : Int32} (hin : ¬ (i < 0 ∨ N ≤ i.toNatClampNeg)) (hd : decode cc pc = .ok (.baload, 1)) (kk : Z p l e R s m args below meth c Q w L A nL σ (pc + 1) lv (.int (f i.toNatClampNeg) :: st)) : Z p l e R s m args below meth c Q w L A nL σ pc lv (.int i :: .ref a :: st) := by
  intro H locs k0 n ls h1 h2 h3 h4 h5 hl
  have hP : va_P w.1 zcl [(a, .inl (w.2.1 1, N, .inl f))] H := fun j q hq => by
    have hz : j < 1 := (List.getElem?_eq_some_iff.mp hq).1
    rw [show j = 0 by omega] at hq
    cases hq
    exact h1.at hs
  exact va_bald C.1 C.2.1 C.2.2.2.2.2.1.1 hP 0 1 rfl rfl hin hd (kk H locs k0 n ls h1 h2 h3 h4 h5 hl)
theorem z_saload (C : zCx p s m args meth c w L A nL cc own ret hh) {a N : Nat} {f : Nat → Int32} (hs : zSee w L σ a (.inl (w.2.1 2, N, .inl f))) {i : Int32} (hin : ¬ (i < 0 ∨ N ≤ i.toNatClampNeg)) (hd : decode cc pc = .ok (.saload, 1)) (kk : Z p l e R s m args below meth c Q w L A nL σ (pc + 1) lv (.int (f i.toNatClampNeg) :: st)) : Z p l e R s m args below meth c Q w L A nL σ pc lv (.int i :: .ref a :: st) := by
  intro H locs k0 n ls h1 h2 h3 h4 h5 hl
  have hP : va_P w.1 zcl [(a, .inl (w.2.1 2, N, .inl f))] H := fun j q hq => by
    have hz : j < 1 := (List.getElem?_eq_some_iff.mp hq).1
    rw [show j = 0 by omega] at hq
    cases hq
    exact h1.at hs
  exact va_sald C.1 C.2.1 C.2.2.2.2.2.1.1 hP 0 2 rfl rfl hin hd (kk H locs k0 n ls h1 h2 h3 h4 h5 hl)
theorem z_aaload (C : zCx p s m args meth c w L A nL cc own ret hh) {a N : Nat} {f : Nat → Option Nat} (t : Nat) {Cn : String} {cA : ClassId} (hs : zSee w L σ a (.inl (cA, N, .inr (.inr (.inr (.inr f)))))) (ht : (zTys w)[t]? = some (cA, .object Cn)) {i : Int32} (hin : ¬ (i < 0 ∨ N ≤ i.toNatClampNeg)) (hd : decode cc pc = .ok (.aaload, 1)) (kk : Z p l e R s m args below meth c Q w L A nL σ (pc + 1) lv (va_rf (f i.toNatClampNeg) :: st)) : Z p l e R s m args below meth c Q w L A nL σ pc lv (.int i :: .ref a :: st) := by
  intro H locs k0 n ls h1 h2 h3 h4 h5 hl
  have hP : va_P w.1 zcl [(a, .inl (cA, N, .inr (.inr (.inr (.inr f)))))] H := fun j q hq => by
    have hz : j < 1 := (List.getElem?_eq_some_iff.mp hq).1
    rw [show j = 0 by omega] at hq
    cases hq
    exact h1.at hs
  exact va_aldq C.1 C.2.1 C.2.2.2.2.2.1.1 hP 0 t rfl ht hin hd (kk H locs k0 n ls h1 h2 h3 h4 h5 hl)
theorem z_alen (C : zCx p s m args meth c w L A nL cc own ret hh) {a : Nat} {x : vp_A} {cA : ClassId} {ty : FieldType} (t : Nat) (hs : zSee w L σ a (.inl (cA, x))) (ht : (zTys w)[t]? = some (cA, ty)) (hd : decode cc pc = .ok (.arraylength, 1)) (kk : Z p l e R s m args below meth c Q w L A nL σ (pc + 1) lv (.int (Int32.ofNat x.1) :: st)) : Z p l e R s m args below meth c Q w L A nL σ pc lv (.ref a :: st) := by
  intro H locs k0 n ls h1 h2 h3 h4 h5 hl
  have hP : va_P w.1 zcl [(a, .inl (cA, x))] H := fun j q hq => by
    have hz : j < 1 := (List.getElem?_eq_some_iff.mp hq).1
    rw [show j = 0 by omega] at hq
    cases hq
    exact h1.at hs
  exact va_alen C.1 C.2.1 C.2.2.2.2.2.1.1 hP 0 t rfl ht rfl hd (kk H locs k0 n ls h1 h2 h3 h4 h5 hl)
theorem z_iastore_ (C : zCx p s m args meth c w L A nL cc own ret hh) {σ' : ZS} {a N : Nat} {f : Nat → Int32} (hs : zSee w L σ a (.inl (w.2.1 0, N, .inl f))) {i x : Int32} (hin : ¬ (i < 0 ∨ N ≤ i.toNatClampNeg)) (hd : decode cc pc = .ok (.iastore, 1)) (hu : (∀ q z, σ.2.2.1 q = some z → ∀ i d, L i = some d → q ≠ w.2.2 i) → zUpd w L σ σ' a (.inl (w.2.1 0, N, .inl (upd f i.toNatClampNeg x)))) (kk : Z p l e R s m args below meth c Q w L A nL σ' (pc + 1) lv st) : Z p l e R s m args below meth c Q w L A nL σ pc lv (.int x :: .int i :: .ref a :: st) := by
  intro H locs k0 n ls h1 h2 h3 h4 h5 hl
  have ht := C.2.2.2.2.2.1.1.2 0 _ rfl
  refine W.iast C.1 C.2.1 (h1.at hs) (ht.1 N (fun j => .int (f j))) (fun q => by cases q) (by show ¬ (i < 0 ∨ (arrV _ _ _).slots.size ≤ _); rw [arrV_size]; exact hin) rfl rfl hd fun H1 e1 e2 e3 => ?_
  have hu := hu (fun q z hq => (h1.2.2.1 q z hq).2)
  have e1' : va_at w.1 zcl (a, .inl (w.2.1 0, N, .inl (upd f i.toNatClampNeg x))) H1 := by
    show H1[a]? = some (vp_cell _ _)
    rw [e1]
    rw [vp_cell_i, vp_cell_i, arrV_store]
    congr 2
    funext q
    by_cases hq : q = i.toNatClampNeg
    · subst hq
      simp [updV, upd, vp_nar]
      try rfl
    · simp [updV, upd, hq]
  refine kk H1 _ k0 n ls (h1.upd hu e1' e2 e3) (zS_upd h2 (zA_of C h3 hs) e2 e3) (fun q x hq => ?_) (by rw [hu.1]; exact h4) (by rw [hu.1]; exact h5) hl
  obtain ⟨z, hz⟩ := (hu.2.1 q).mp ⟨x, hq⟩
  exact h3 q z hz
theorem z_iastore (C : zCx p s m args meth c w L A nL cc own ret hh) {j N : Nat} (hj : L j = some (.inl (0, N, false))) {i x : Int32} (hin : ¬ (i < 0 ∨ N ≤ i.toNatClampNeg)) (hd : decode cc pc = .ok (.iastore, 1)) (kk : Z p l e R s m args below meth c Q w L A nL (sI σ j i.toNatClampNeg x) (pc + 1) lv st) : Z p l e R s m args below meth c Q w L A nL σ pc lv (.int x :: .int i :: .ref (w.2.2 j) :: st) :=
  z_iastore_ C (zSee.fix hj) hin hd (fun hP => zUpd.arrI C.2.2.2.2.2.2.1 (fun q z hq => hP q z hq j _ hj) hj) kk
theorem z_iastoreP (C : zCx p s m args meth c w L A nL cc own ret hh) {a N : Nat} {f : Nat → Int32} (hp : σ.2.2.1 a = some (.inl (w.2.1 0, N, .inl f))) {i x : Int32} (hin : ¬ (i < 0 ∨ N ≤ i.toNatClampNeg)) (hd : decode cc pc = .ok (.iastore, 1)) (kk : Z p l e R s m args below meth c Q w L A nL (sP σ a (.inl (w.2.1 0, N, .inl (upd f i.toNatClampNeg x)))) (pc + 1) lv st) : Z p l e R s m args below meth c Q w L A nL σ pc lv (.int x :: .int i :: .ref a :: st) :=
  z_iastore_ C (zSee.pool hp) hin hd (fun hP => zUpd.pool hp (fun i d hi => hP a _ hp i d hi)) kk
theorem z_bastore_ (C : zCx p s m args meth c w L A nL cc own ret hh) {σ' : ZS} {a N : Nat} {f : Nat → Int32} (hs : zSee w L σ a (.inl (w.2.1 1, N, .inl f))) {i x : Int32} (hin : ¬ (i < 0 ∨ N ≤ i.toNatClampNeg)) (hd : decode cc pc = .ok (.bastore, 1)) (hu : (∀ q z, σ.2.2.1 q = some z → ∀ i d, L i = some d → q ≠ w.2.2 i) → zUpd w L σ σ' a (.inl (w.2.1 1, N, .inl (upd f i.toNatClampNeg (vp_nar .byte x))))) (kk : Z p l e R s m args below meth c Q w L A nL σ' (pc + 1) lv st) : Z p l e R s m args below meth c Q w L A nL σ pc lv (.int x :: .int i :: .ref a :: st) := by
  intro H locs k0 n ls h1 h2 h3 h4 h5 hl
  have ht := C.2.2.2.2.2.1.1.2 1 _ rfl
  refine W.bast C.1 C.2.1 (h1.at hs) (ht.1 N (fun j => .int (f j))) (fun q => by cases q) (by show ¬ (i < 0 ∨ (arrV _ _ _).slots.size ≤ _); rw [arrV_size]; exact hin) rfl rfl hd fun H1 e1 e2 e3 => ?_
  have hu := hu (fun q z hq => (h1.2.2.1 q z hq).2)
  have e1' : va_at w.1 zcl (a, .inl (w.2.1 1, N, .inl (upd f i.toNatClampNeg (vp_nar .byte x)))) H1 := by
    show H1[a]? = some (vp_cell _ _)
    rw [e1]
    rw [vp_cell_i, vp_cell_i, arrV_store]
    congr 2
    funext q
    by_cases hq : q = i.toNatClampNeg
    · subst hq
      simp [updV, upd, vp_nar]
      try rfl
    · simp [updV, upd, hq]
  refine kk H1 _ k0 n ls (h1.upd hu e1' e2 e3) (zS_upd h2 (zA_of C h3 hs) e2 e3) (fun q x hq => ?_) (by rw [hu.1]; exact h4) (by rw [hu.1]; exact h5) hl
  obtain ⟨z, hz⟩ := (hu.2.1 q).mp ⟨x, hq⟩
  exact h3 q z hz
theorem z_bastore (C : zCx p s m args meth c w L A nL cc own ret hh) {j N : Nat} (hj : L j = some (.inl (1, N, false))) {i x : Int32} (hin : ¬ (i < 0 ∨ N ≤ i.toNatClampNeg)) (hd : decode cc pc = .ok (.bastore, 1)) (kk : Z p l e R s m args below meth c Q w L A nL (sI σ j i.toNatClampNeg (vp_nar .byte x)) (pc + 1) lv st) : Z p l e R s m args below meth c Q w L A nL σ pc lv (.int x :: .int i :: .ref (w.2.2 j) :: st) :=
  z_bastore_ C (zSee.fix hj) hin hd (fun hP => zUpd.arrI C.2.2.2.2.2.2.1 (fun q z hq => hP q z hq j _ hj) hj) kk
theorem z_bastoreP (C : zCx p s m args meth c w L A nL cc own ret hh) {a N : Nat} {f : Nat → Int32} (hp : σ.2.2.1 a = some (.inl (w.2.1 1, N, .inl f))) {i x : Int32} (hin : ¬ (i < 0 ∨ N ≤ i.toNatClampNeg)) (hd : decode cc pc = .ok (.bastore, 1)) (kk : Z p l e R s m args below meth c Q w L A nL (sP σ a (.inl (w.2.1 1, N, .inl (upd f i.toNatClampNeg (vp_nar .byte x))))) (pc + 1) lv st) : Z p l e R s m args below meth c Q w L A nL σ pc lv (.int x :: .int i :: .ref a :: st) :=
  z_bastore_ C (zSee.pool hp) hin hd (fun hP => zUpd.pool hp (fun i d hi => hP a _ hp i d hi)) kk
theorem z_sastore_ (C : zCx p s m args meth c w L A nL cc own ret hh) {σ' : ZS} {a N : Nat} {f : Nat → Int32} (hs : zSee w L σ a (.inl (w.2.1 2, N, .inl f))) {i x : Int32} (hin : ¬ (i < 0 ∨ N ≤ i.toNatClampNeg)) (hd : decode cc pc = .ok (.sastore, 1)) (hu : (∀ q z, σ.2.2.1 q = some z → ∀ i d, L i = some d → q ≠ w.2.2 i) → zUpd w L σ σ' a (.inl (w.2.1 2, N, .inl (upd f i.toNatClampNeg (vp_nar .short x))))) (kk : Z p l e R s m args below meth c Q w L A nL σ' (pc + 1) lv st) : Z p l e R s m args below meth c Q w L A nL σ pc lv (.int x :: .int i :: .ref a :: st) := by
  intro H locs k0 n ls h1 h2 h3 h4 h5 hl
  have ht := C.2.2.2.2.2.1.1.2 2 _ rfl
  refine W.sast C.1 C.2.1 (h1.at hs) (ht.1 N (fun j => .int (f j))) (fun q => by cases q) (by show ¬ (i < 0 ∨ (arrV _ _ _).slots.size ≤ _); rw [arrV_size]; exact hin) rfl rfl hd fun H1 e1 e2 e3 => ?_
  have hu := hu (fun q z hq => (h1.2.2.1 q z hq).2)
  have e1' : va_at w.1 zcl (a, .inl (w.2.1 2, N, .inl (upd f i.toNatClampNeg (vp_nar .short x)))) H1 := by
    show H1[a]? = some (vp_cell _ _)
    rw [e1]
    rw [vp_cell_i, vp_cell_i, arrV_store]
    congr 2
    funext q
    by_cases hq : q = i.toNatClampNeg
    · subst hq
      simp [updV, upd, vp_nar]
      try rfl
    · simp [updV, upd, hq]
  refine kk H1 _ k0 n ls (h1.upd hu e1' e2 e3) (zS_upd h2 (zA_of C h3 hs) e2 e3) (fun q x hq => ?_) (by rw [hu.1]; exact h4) (by rw [hu.1]; exact h5) hl
  obtain ⟨z, hz⟩ := (hu.2.1 q).mp ⟨x, hq⟩
  exact h3 q z hz
theorem z_sastore (C : zCx p s m args meth c w L A nL cc own ret hh) {j N : Nat} (hj : L j = some (.inl (2, N, false))) {i x : Int32} (hin : ¬ (i < 0 ∨ N ≤ i.toNatClampNeg)) (hd : decode cc pc = .ok (.sastore, 1)) (kk : Z p l e R s m args below meth c Q w L A nL (sI σ j i.toNatClampNeg (vp_nar .short x)) (pc + 1) lv st) : Z p l e R s m args below meth c Q w L A nL σ pc lv (.int x :: .int i :: .ref (w.2.2 j) :: st) :=
  z_sastore_ C (zSee.fix hj) hin hd (fun hP => zUpd.arrI C.2.2.2.2.2.2.1 (fun q z hq => hP q z hq j _ hj) hj) kk
theorem z_sastoreP (C : zCx p s m args meth c w L A nL cc own ret hh) {a N : Nat} {f : Nat → Int32} (hp : σ.2.2.1 a = some (.inl (w.2.1 2, N, .inl f))) {i x : Int32} (hin : ¬ (i < 0 ∨ N ≤ i.toNatClampNeg)) (hd : decode cc pc = .ok (.sastore, 1)) (kk : Z p l e R s m args below meth c Q w L A nL (sP σ a (.inl (w.2.1 2, N, .inl (upd f i.toNatClampNeg (vp_nar .short x))))) (pc + 1) lv st) : Z p l e R s m args below meth c Q w L A nL σ pc lv (.int x :: .int i :: .ref a :: st) :=
  z_sastore_ C (zSee.pool hp) hin hd (fun hP => zUpd.pool hp (fun i d hi => hP a _ hp i d hi)) kk
theorem z_aastore_ (C : zCx p s m args meth c w L A nL cc own ret hh) {σ' : ZS} {a N b ci : Nat} {f : Nat → Option Nat} {vs : List Value} {r : vw_C} {Cn : String} {cA : ClassId} (t : Nat) (hs : zSee w L σ a (.inl (cA, N, .inr (.inr (.inr (.inr f)))))) (ht : (zTys w)[t]? = some (cA, .object Cn)) (hb : zSee w L σ b (.inr (ci, vs))) (hc : zcl[ci]? = some r) (hcast : r.1 = Cn ∨ Cond.castable r.1 Cn ∈ lw_tbl) {i : Int32} (hin : ¬ (i < 0 ∨ N ≤ i.toNatClampNeg)) (hd : decode cc pc = .ok (.aastore, 1)) (hu : (∀ q z, σ.2.2.1 q = some z → ∀ i d, L i = some d → q ≠ w.2.2 i) → zUpd w L σ σ' a (.inl (cA, N, .inr (.inr (.inr (.inr (va_up f i.toNatClampNeg (some b)))))))) (kk : Z p l e R s m args below meth c Q w L A nL σ' (pc + 1) lv st) : Z p l e R s m args below meth c Q w L A nL σ pc lv (.ref b :: .int i :: .ref a :: st) := by
  intro H locs k0 n ls h1 h2 h3 h4 h5 hl
  have hlt : i.toNatClampNeg < N := Nat.not_le.mp fun q => hin (Or.inr q)
  have h0 : ¬ i < 0 := fun q => hin (Or.inl q)
  have hK := C.2.2.2.2.2.1
  obtain ⟨r', hr', cellV, g1, g2, g3, -⟩ := h1.at hb
  have hcls := (hK.1.1 ci r hc).2
  obtain ⟨kA, comp, k1, k2, k3, -⟩ := (hK.1.2 t _ ht).2
  have hasg : s.vm.assignable (w.1.1 ci) comp = true := by
    rcases hcast with hz | hz
    · have hcomp : comp = w.1.1 ci := Option.some.inj (k3.symm.trans (hz ▸ hcls.1))
      rw [hcomp]; exact va_assign hcls
    · obtain ⟨c3, t3, w1, w2, w3⟩ := Cond.castable_spec (hK.nw hz rfl (a := args))
      cases hcls.1.symm.trans w1
      cases k3.symm.trans w2
      exact w3
  obtain ⟨kcomp, hkcomp⟩ : ∃ kc, s.vm.classes[comp]? = some kc := by
    have := Array.findIdx?_eq_some_iff_getElem.mp k3
    obtain ⟨hlt', -⟩ := this
    exact ⟨_, Array.getElem?_eq_getElem hlt'⟩
  obtain ⟨kC, hkC, -⟩ := hcls.2
  refine W.aast C.1 C.2.1 (h1.at hs) (fun q h => by cases h) (fun h => by cases h) k1 k2 rfl hkcomp ⟨h0, by show _ < (arrV _ _ _).slots.size; rw [arrV_size]; exact hlt⟩ g1 (fun q h => by rw [g3] at h; cases h) (by rw [g2]; exact hkC) (by rw [g2]; exact hasg) rfl rfl hd fun H1 e1 e2 e3 => ?_
  have hu := hu (fun q z hq => (h1.2.2.1 q z hq).2)
  have e1' : va_at w.1 zcl (a, .inl (cA, N, .inr (.inr (.inr (.inr (va_up f i.toNatClampNeg (some b))))))) H1 := by
    show H1[a]? = some (vp_cell _ _)
    rw [e1]
    rw [vp_cell_q, vp_cell_q, arrV_store]
    congr 2
    funext q
    by_cases hq : q = i.toNatClampNeg
    · subst hq
      simp [updV, va_up, va_rf]
    · simp [updV, va_up, hq]
  refine kk H1 _ k0 n ls (h1.upd hu e1' e2 e3) (zS_upd h2 (zA_of C h3 hs) e2 e3) (fun q x hq => ?_) (by rw [hu.1]; exact h4) (by rw [hu.1]; exact h5) hl
  obtain ⟨z, hz⟩ := (hu.2.1 q).mp ⟨x, hq⟩
  exact h3 q z hz
theorem z_aastore (C : zCx p s m args meth c w L A nL cc own ret hh) {j N t b ci : Nat} {vs : List Value} {r : vw_C} {Cn : String} (hj : L j = some (.inl (t, N, true))) (ht6 : t ≠ 6) (ht : (zTys w)[t]? = some (w.2.1 t, .object Cn)) (hb : zSee w L σ b (.inr (ci, vs))) (hc : zcl[ci]? = some r) (hcast : r.1 = Cn ∨ Cond.castable r.1 Cn ∈ lw_tbl) {i : Int32} (hin : ¬ (i < 0 ∨ N ≤ i.toNatClampNeg)) (hd : decode cc pc = .ok (.aastore, 1)) (kk : Z p l e R s m args below meth c Q w L A nL (sG σ j i.toNatClampNeg (some b)) (pc + 1) lv st) : Z p l e R s m args below meth c Q w L A nL σ pc lv (.ref b :: .int i :: .ref (w.2.2 j) :: st) :=
  z_aastore_ C t (zSee.fix hj) ht hb hc hcast hin hd (fun hP => zUpd.arrG C.2.2.2.2.2.2.1 ht6 (fun q z hq => hP q z hq j _ hj) hj) kk
theorem z_aastoreP (C : zCx p s m args meth c w L A nL cc own ret hh) {a N b ci : Nat} {f : Nat → Option Nat} {vs : List Value} {r : vw_C} {Cn : String} {cA : ClassId} (t : Nat) (hp : σ.2.2.1 a = some (.inl (cA, N, .inr (.inr (.inr (.inr f)))))) (ht : (zTys w)[t]? = some (cA, .object Cn)) (hb : zSee w L σ b (.inr (ci, vs))) (hc : zcl[ci]? = some r) (hcast : r.1 = Cn ∨ Cond.castable r.1 Cn ∈ lw_tbl) {i : Int32} (hin : ¬ (i < 0 ∨ N ≤ i.toNatClampNeg)) (hd : decode cc pc = .ok (.aastore, 1)) (kk : Z p l e R s m args below meth c Q w L A nL (sP σ a (.inl (cA, N, .inr (.inr (.inr (.inr (va_up f i.toNatClampNeg (some b)))))))) (pc + 1) lv st) : Z p l e R s m args below meth c Q w L A nL σ pc lv (.ref b :: .int i :: .ref a :: st) :=
  z_aastore_ C t (zSee.pool hp) ht hb hc hcast hin hd (fun hP => zUpd.pool hp (fun i d hi => hP a _ hp i d hi)) kk
theorem zS_new {A : Nat → Prop} {H0 H H' : Heap} {locs : List Loc} (hS : va_S A H0 H locs) (hz : H'.size = H.size + 1) (ho : ∀ q, q < H.size → H'[q]? = H[q]?) : va_S A H0 H' locs :=
  ⟨by rw [hz]; exact Nat.le_succ_of_le hS.1, fun q h1 h2 => (ho q (Nat.lt_of_lt_of_le h1 hS.1)).trans (hS.2.1 q h1 h2), hS.2.2⟩
theorem z_new (C : zCx p s m args meth c w L A nL cc own ret hh) {Cn : String} {T : u_T} {N ci : Nat} (hc : zcl[ci]? = some (Cn, T, N)) (hin : ∀ x ∈ u_ws Cn T N, x ∈ lw_all) (ty : Nat → FieldType) (hty : ∀ k, k < N → parseFieldDescriptor (T k).2.2.1 = some (ty k)) {index : Nat} (hq1 : Cond.classLink own index Cn ∈ lw_all) (hq2 : Cond.instantiable Cn N ∈ lw_all) (hq3 : Cond.initialized Cn ∈ lw_all) (fs : List Value) (hfs : ∀ j, j < N → defaultValue (ty j) = vp_V fs j) (hcb : 1 ≤ σ.2.2.2.2.1) (hsb : N ≤ σ.2.2.2.2.2) (hd : decode cc pc = .ok (.new index, 3)) (kk : Z p l e R s m args below meth c Q w L A nL (sN σ (.inr (ci, fs)) N) (pc + 3) lv (.ref σ.2.2.2.1 :: st)) : Z p l e R s m args below meth c Q w L A nL σ pc lv st := by
  intro H locs k0 n ls h1 h2 h3 h4 h5 hl
  have hts := C.2.2.2.2.1
  have hK := C.2.2.2.2.2.1.1
  have hKn := hK.1 ci _ hc
  refine W.newcK C.1 C.2.1 C.2.2.2.1 (hts _ hq1) (hts _ hq2) (hts _ hq3) rfl hd (by omega) (by omega) hKn.2.1 rfl fun H1 kC hkC e1 z1 o1 => ?_
  have hsz : H.size = σ.2.2.2.1 := h1.1
  rw [hsz]
  refine kk H1 locs (k0 + 1) (n + N) ls (h1.new (x := .inr (ci, fs)) (n := N) ⟨_, hc, (u_born ty hts hin hKn hkC e1 hty).to hfs⟩ z1 o1) (zS_new h2 z1 o1) (fun q x hq => ?_) (by show k0 + 1 + (σ.2.2.2.2.1 - 1) ≤ _; omega) (by show n + N + (σ.2.2.2.2.2 - N) ≤ _; omega) hl
  by_cases e : q = σ.2.2.2.1
  · rw [e, ← hsz]; exact C.2.2.2.2.2.2.2.1 _ h2.1
  · simp [sN, e] at hq; exact h3 q x hq
theorem z_newa (C : zCx p s m args meth c w L A nL cc own ret hh) {atype : ArrayType} (t : Nat) {ty : FieldType} (hty : newarray.typeOf atype = ty) (hq : Cond.arrayClass ty ∈ lw_all) (ht : (zTys w)[t]? = some (w.2.1 t, ty)) (hobj : (∀ n, ty ≠ .object n)) (hdv : defaultValue ty = .int 0) {n : Int32} (hn : ¬ n < 0) (hbytes : n.toNatClampNeg * componentBytes ty ≤ 536870912) (hcb : 1 ≤ σ.2.2.2.2.1) (hsb : n.toNatClampNeg ≤ σ.2.2.2.2.2) (hd : decode cc pc = .ok (.newarray atype, 2)) (kk : Z p l e R s m args below meth c Q w L A nL (sN σ (.inl (w.2.1 t, n.toNatClampNeg, .inl (fun _ => 0))) n.toNatClampNeg) (pc + 2) lv (.ref σ.2.2.2.1 :: st)) : Z p l e R s m args below meth c Q w L A nL σ pc lv (.int n :: st) := by
  subst hty
  intro H locs k0 n0 ls h1 h2 h3 h4 h5 hl
  have hts := C.2.2.2.2.1
  have hK := C.2.2.2.2.2.1.1
  refine va_newaK C.1 C.2.1 (hts _ hq) rfl hd rfl hn rfl hbytes (by omega) (by omega) rfl fun H1 cA e1 z1 o1 hAr hNm => ?_
  have hsz : H.size = σ.2.2.2.1 := h1.1
  have hcA : cA = w.2.1 t := by
    have h := (hK.2 t _ ht).2
    simp only at h
    revert h
    unfold va_RA
    split
    · rename_i e; exact absurd e (hobj _)
    · intro h; exact Option.some.inj (hNm.symm.trans h)
  subst hcA
  rw [hsz]
  refine kk H1 locs (k0 + 1) (n0 + n.toNatClampNeg) ls (h1.new (x := .inl (w.2.1 t, n.toNatClampNeg, .inl (fun _ => 0))) (n := n.toNatClampNeg) (by
    show H1[H.size]? = some (vp_cell _ _)
    rw [vp_cell_i, e1, hdv]) z1 o1) (zS_new h2 z1 o1) (fun q x hq => ?_) (by show k0 + 1 + (σ.2.2.2.2.1 - 1) ≤ _; omega) (by show n0 + n.toNatClampNeg + (σ.2.2.2.2.2 - n.toNatClampNeg) ≤ _; omega) hl
  by_cases e : q = σ.2.2.2.1
  · rw [e, ← hsz]; exact C.2.2.2.2.2.2.2.1 _ h2.1
  · simp [sN, e] at hq; exact h3 q x hq
end ZMem
