/-! the empty layout: all cells in the pool; a world within it; calls over such a world; new rows of references; strings stored -/
def zL0 : ZL := fun _ => none
/-- the world (w', L', σ') lies in the pool of σ -/
def zSub (w w' : ZW) (L' : ZL) (σ σ' : ZS) : Prop :=
  w'.1 = w.1 ∧ w'.2.1 = w.2.1 ∧ zInj w' L' ∧ σ'.2.2.2.1 = σ.2.2.2.1 ∧ (∀ i d, L' i = some d → σ.2.2.1 (w'.2.2 i) = some (zCellOf w' σ' i d)) ∧ (∀ a x, σ'.2.2.1 a = some x → σ.2.2.1 a = some x ∧ ∀ i d, L' i = some d → a ≠ w'.2.2 i) ∧ ∀ i n, L' i = some (.inl (6, n, true)) → ∀ j, j < n → σ'.2.1 i j = some (w'.1.2 1000 (9 + j))
theorem zSub.hold {w w' : ZW} {L' : ZL} {σ σ' : ZS} {H : Heap} (h : zSub w w' L' σ σ') (hH : zHold zcl w zL0 σ H) : zHold zcl w' L' σ' H := by
  obtain ⟨e1, e2, hj, hs, hf, hp, h4⟩ := h
  refine ⟨by rw [hH.1, hs], fun i d hi => ?_, fun a x hx => ⟨?_, (hp a x hx).2⟩, h4⟩
  · rw [e1]; exact (hH.2.2.1 _ _ (hf i d hi)).1
  · rw [e1]; exact (hH.2.2.1 _ _ (hp a x hx).1).1
/-- what is known behind a call over the inner world -/
def zBk (w' : ZW) (L' : ZL) (σ σ' σ'' σ3 : ZS) : Prop :=
  σ3.2.2.2.1 = σ''.2.2.2.1 ∧ ∀ a x, σ3.2.2.1 a = some x → (∃ i d, L' i = some d ∧ a = w'.2.2 i ∧ x = zCellOf w' σ'' i d) ∨ σ''.2.2.1 a = some x ∨ (σ.2.2.1 a = some x ∧ (∀ i d, L' i = some d → a ≠ w'.2.2 i) ∧ σ'.2.2.1 a = none)
theorem zBk.hold {w w' : ZW} {L' : ZL} {σ σ' σ'' σ3 : ZS} {H H' : Heap} (hB : zBk w' L' σ σ' σ'' σ3) (hS : zSub w w' L' σ σ') (hH : zHold zcl w zL0 σ H) (hH' : zHold zcl w' L' σ'' H') (hF : ∀ q, q < H.size → ¬ zA w' L' σ' q → H'[q]? = H[q]?) : zHold zcl w zL0 σ3 H' := by
  refine ⟨by rw [hH'.1, hB.1], fun i d hi => (by cases hi), fun a x hx => ⟨?_, fun i d hi => (by cases hi)⟩, fun i n hi => (by cases hi)⟩
  have e1 := hS.1
  rcases hB.2 a x hx with ⟨i, d, hi, rfl, rfl⟩ | hp | ⟨hp, hn1, hn2⟩
  · rw [← e1]; exact hH'.2.1 i d hi
  · rw [← e1]; exact (hH'.2.2.1 a x hp).1
  · have h0 := (hH.2.2.1 a x hp).1
    refine h0.kept (hF a h0.lt ?_)
    rintro (⟨i, d, hi, e⟩ | ⟨z, hz⟩ | hz)
    · exact hn1 i d hi e
    · rw [hn2] at hz; cases hz
    · rw [hS.2.2.2.1, ← hH.1] at hz
      exact absurd h0.lt (Nat.not_lt.mpr hz)
theorem zK.alter {w w' : ZW} {U : State} (e1 : w'.1 = w.1) (e2 : w'.2.1 = w.2.1) (h : zK w U) : zK w' U := by
  obtain ⟨w1, w2, w3⟩ := w
  obtain ⟨v1, v2, v3⟩ := w'
  simp only at e1 e2
  subst e1
  subst e2
  exact h
theorem zRo.alter {w w' : ZW} {A : Nat → Prop} {U : State} {H : Heap} (e1 : w'.1 = w.1) (h : zRo w A U H) : zRo w' A U H := by
  obtain ⟨w1, w2, w3⟩ := w
  obtain ⟨v1, v2, v3⟩ := w'
  simp only at e1
  subst e1
  exact h
section ZSubCall
variable {p : Program} {l : Launch} {e : Env} {R : Room} {s : State} {m : MethodId} {args : Array Value} {below : List Frame} {meth : Method} {c : Code} {Q : State → Prop} {w : ZW} {A : Nat → Prop} {nL : Nat} {cc : ByteArray} {own : String} {ret : Option FieldType} {hh : List (Nat × Nat × Nat × Nat)}
variable {σ σ' σ'' σ3 : ZS} {pc len : Nat} {lv lv' : List (Nat × Value)} {st rest av : List Value} {y : MethodName} {bytes : ByteArray} {maxL : Nat} {rt : Option FieldType} {wd : Cond} {ws : List Cond} {fr lo : Nat} {o : Outcome} {w' : ZW} {L' : ZL}
theorem z_callS0 (C : zCx p s m args meth c w zL0 A nL cc own ret hh) (hp : zPay ws y bytes maxL rt wd) (hI : ∀ (H : Heap) (ls : Array Slot), zHold zcl w zL0 σ H → (∃ locs, va_S A s.heap H locs) → zInv p l e R s m args below meth c H (F0 m pc ls st) rest len y av) (hS : zSub w w' L' σ σ') (hM : zC l w' L' y ws fr lo av σ' o σ'') (hB : zBk w' L' σ σ' σ'' σ3)
    (hc1 : σ'.2.2.2.2.1 ≤ σ.2.2.2.2.1) (hs1 : σ'.2.2.2.2.2 ≤ σ.2.2.2.2.2) (hc3 : σ3.2.2.2.2.1 + σ'.2.2.2.2.1 ≤ σ.2.2.2.2.1 + σ''.2.2.2.2.1) (hs3 : σ3.2.2.2.2.2 + σ'.2.2.2.2.2 ≤ σ.2.2.2.2.2 + σ''.2.2.2.2.2)
    (hfr : fr + 1 ≤ R.frames) (hlo : (rest.map fun v => v.category).sum + (maxL + 11) + lo ≤ R.locals)
    (kk : match o with | .returned v => Z p l e R s m args below meth c Q w zL0 A nL σ3 (pc + len) lv (v.toList ++ rest) | .threw x => ZT p l e R s m args below meth c Q w zL0 A nL σ3 pc lv rest x) : Z p l e R s m args below meth c Q w zL0 A nL σ pc lv st := by
  intro H locs k n ls h1 h2 h3 h4 h5 hl T hT X
  have hts := C.2.2.2.2.1
  have hK := C.2.2.2.2.2.1
  obtain ⟨hws, hwd, hwi, hini⟩ := hp
  have hH' := hS.hold h1
  have hsub : ∀ q, zA w' L' σ' q → A q := by
    rintro q (⟨i, d, hi, rfl⟩ | ⟨x, hx⟩ | hz)
    · exact h3 _ _ (hS.2.2.2.2.1 i d hi)
    · exact h3 q x (hS.2.2.2.2.2.1 q x hx).1
    · exact C.2.2.2.2.2.2.2.1 q (Nat.le_trans h2.1 (by rw [hH'.1]; exact hz))
  have hsteady : ∀ x ∈ lw_all, ∀ (a' : Array Value) (U : State), s.WarmedH U.vm → x.before a' U = true := fun x hx a' U hW => word_at hW (lw_self x hx).2 (hts x hx)
  obtain ⟨o', s0, t, T', Ls, k1, n1, e1, e2, ⟨ho, q1, q2, q3, q4, q5⟩, e3, e4, e5, X', hout⟩ := zCallT (hI H ls h1 ⟨locs, h2⟩) hM (bytes := bytes) (maxL := maxL) (ret := rt) (w := wd) hwd (by rw [hws]; exact List.mem_cons_self)
    (fun x hx a' U hW => by
      rw [hws] at hx
      rcases List.mem_cons.mp hx with rfl | hx
      · exact hsteady _ hwi a' U hW
      · exact hsteady _ hx a' U hW) (fun a' U hW => hsteady _ hini a' U hW) (by rw [C.2.2.1]; exact hl.1) hfr (by show 2 * 0 + _ + _ + _ ≤ _; rw [Nat.mul_zero, Nat.zero_add]; exact hlo) hT X (by show k + σ'.2.2.2.2.1 ≤ _; omega) (by show n + σ'.2.2.2.2.2 ≤ _; omega)
    (fun U hU hW => ⟨rfl, by rw [hU]; exact hH', (hK.moved hW).alter hS.1 hS.2.1, hS.2.2.1, by rw [hU]; exact (((C.2.2.2.2.2.2.2.2.2.2.2.2.2.moved hW.alike).kept h2.2.1).narrow hsub).alter hS.1⟩)
  subst ho
  have hS' : va_S A s.heap t.heap (locs ++ Ls) := by
    refine ⟨Nat.le_trans h2.1 (by rw [← e1]; exact q2.1), fun q g1 g2 => ?_, fun q hq => ?_⟩
    · rw [q2.2 q (by rw [e1]; exact Nat.lt_of_lt_of_le g1 h2.1) (fun hz => g2 (hsub q hz)), e1]
      exact h2.2.1 q g1 g2
    · rcases List.mem_append.mp hq with h | h
      · exact h2.2.2 q h
      · exact hsub _ (e5 q h)
  have hH3 : zHold zcl w zL0 σ3 t.heap := hB.hold hS h1 q1 (fun q g1 g2 => by rw [q2.2 q (by rw [e1]; exact g1) g2, e1])
  have h3' : ∀ a x, σ3.2.2.1 a = some x → A a := by
    intro a x hx
    rcases hB.2 a x hx with ⟨i, d, hi, rfl, rfl⟩ | hp | ⟨hp, -, -⟩
    · exact hsub _ (Or.inl ⟨i, d, hi, rfl⟩)
    · exact hsub a (q5 a x hp)
    · exact h3 a x hp
  have h4' : k + k1 + σ3.2.2.2.2.1 ≤ R.cells := by omega
  have h5' : n + n1 + σ3.2.2.2.2.2 ≤ R.slots := by omega
  cases o' with
  | returned v =>
    obtain ⟨t', a1, b1⟩ := kk t.heap _ _ _ ls hH3 hS' h3' h4' h5' hl T' e3 X'
    exact ⟨t', hout _ a1, b1⟩
  | threw x =>
    obtain ⟨t', a1, b1⟩ := kk t.heap _ _ _ ls hH3 hS' h3' h4' h5' hl T' e3 X'
    exact ⟨t', hout _ a1, b1⟩
/-- a call that answers a number, over an inner world -/
theorem z_callSi {v : Int32} (C : zCx p s m args meth c w zL0 A nL cc own ret hh) (hp : zPay ws y bytes maxL rt wd) (hI : ∀ (H : Heap) (ls : Array Slot), zHold zcl w zL0 σ H → (∃ locs, va_S A s.heap H locs) → zInv p l e R s m args below meth c H (F0 m pc ls st) rest len y av) (hS : zSub w w' L' σ σ') (hM : zC l w' L' y ws fr lo av σ' (.returned (some (.int v))) σ'') (hB : zBk w' L' σ σ' σ'' σ3)
    (hc1 : σ'.2.2.2.2.1 ≤ σ.2.2.2.2.1) (hs1 : σ'.2.2.2.2.2 ≤ σ.2.2.2.2.2) (hc3 : σ3.2.2.2.2.1 + σ'.2.2.2.2.1 ≤ σ.2.2.2.2.1 + σ''.2.2.2.2.1) (hs3 : σ3.2.2.2.2.2 + σ'.2.2.2.2.2 ≤ σ.2.2.2.2.2 + σ''.2.2.2.2.2)
    (hfr : fr + 1 ≤ R.frames) (hlo : (rest.map fun v => v.category).sum + (maxL + 11) + lo ≤ R.locals)
    (kk : Z p l e R s m args below meth c Q w zL0 A nL σ3 (pc + len) lv (.int v :: rest)) : Z p l e R s m args below meth c Q w zL0 A nL σ pc lv st := z_callS0 C hp hI hS hM hB hc1 hs1 hc3 hs3 hfr hlo kk
end ZSubCall
section ZNewq
variable {p : Program} {l : Launch} {e : Env} {R : Room} {s : State} {m : MethodId} {args : Array Value} {below : List Frame} {meth : Method} {c : Code} {Q : State → Prop} {w : ZW} {L : ZL} {A : Nat → Prop} {nL : Nat} {cc : ByteArray} {own : String} {ret : Option FieldType} {hh : List (Nat × Nat × Nat × Nat)}
variable {σ : ZS} {pc : Nat} {lv lv' : List (Nat × Value)} {st : List Value}
theorem z_newq (C : zCx p s m args meth c w L A nL cc own ret hh) {index : Nat} {Cn : String} (t : Nat) (hq : Cond.classLink own index Cn ∈ lw_all) (ht : (zTys w)[t]? = some (w.2.1 t, .object Cn)) (hao : Cn ∈ zAos) {n : Int32} (hn : ¬ n < 0) (hbytes : n.toNatClampNeg * 4 ≤ 536870912) (hcb : 1 ≤ σ.2.2.2.2.1) (hsb : n.toNatClampNeg ≤ σ.2.2.2.2.2) (hd : decode cc pc = .ok (.anewarray index, 3)) (kk : Z p l e R s m args below meth c Q w L A nL (sN σ (.inl (w.2.1 t, n.toNatClampNeg, .inr (.inr (.inr (.inr (fun _ => none)))))) n.toNatClampNeg) (pc + 3) lv (.ref σ.2.2.2.1 :: st)) : Z p l e R s m args below meth c Q w L A nL σ pc lv (.int n :: st) := by
  intro H locs k0 n0 ls h1 h2 h3 h4 h5 hl
  have hts := C.2.2.2.2.1
  have hK := C.2.2.2.2.2.1
  refine W.anew C.1 C.2.1 C.2.2.2.1 (hts _ hq) (va_AO.use (hK.2.2.2.1 Cn hao)) rfl hd rfl hn hbytes (by omega) (by omega) fun cA kA comp f1 f2 f3 f4 => ?_
  have hsz : H.size = σ.2.2.2.1 := h1.1
  have hcA : cA = w.2.1 t := by
    obtain ⟨kA', comp', a1, a2, a3, a4⟩ := (hK.1.2 t _ ht).2
    exact Option.some.inj (f1.symm.trans a4)
  subst hcA
  generalize hH1 : H.push ({ cls := w.2.1 t, slots := Array.replicate n.toNatClampNeg .null, vm := .none } : Cell) = H1
  have z1 : H1.size = H.size + 1 := by rw [← hH1, Array.size_push]
  have e1 : H1[H.size]? = some (arrV (w.2.1 t) n.toNatClampNeg (fun _ => .null)) := by rw [← hH1, Array.getElem?_push_size, ← arrV_new]
  have o1 : ∀ q : Nat, q < H.size → H1[q]? = H[q]? := fun q hq => by rw [← hH1, Array.getElem?_push, if_neg (Nat.ne_of_lt hq)]
  rw [hsz]
  refine kk H1 locs (k0 + 1) (n0 + n.toNatClampNeg) ls (h1.new (x := .inl (w.2.1 t, n.toNatClampNeg, .inr (.inr (.inr (.inr (fun _ => none)))))) (n := n.toNatClampNeg) (by
    show H1[H.size]? = some (vp_cell _ _)
    rw [vp_cell_q]
    exact e1) z1 o1) (zS_new h2 z1 o1) (fun q x hq => ?_) (by show k0 + 1 + (σ.2.2.2.2.1 - 1) ≤ _; omega) (by show n0 + n.toNatClampNeg + (σ.2.2.2.2.2 - n.toNatClampNeg) ≤ _; omega) hl
  by_cases e : q = σ.2.2.2.1
  · rw [e, ← hsz]; exact C.2.2.2.2.2.2.2.1 _ h2.1
  · simp [sN, e] at hq; exact h3 q x hq
/-- a string constant is put onto a row of strings in the pool -/
theorem z_aastoreK (C : zCx p s m args meth c w L A nL cc own ret hh) {a N j : Nat} {bs : List Int32} {f : Nat → Option Nat} (hb : zsB[j]? = some bs) (hp : σ.2.2.1 a = some (.inl (w.2.1 6, N, .inr (.inr (.inr (.inr f)))))) {i : Int32} (hin : ¬ (i < 0 ∨ N ≤ i.toNatClampNeg)) (hd : decode cc pc = .ok (.aastore, 1)) (kk : Z p l e R s m args below meth c Q w L A nL (sP σ a (.inl (w.2.1 6, N, .inr (.inr (.inr (.inr (va_up f i.toNatClampNeg (some (zsK w j)))))))) ) (pc + 1) lv st) : Z p l e R s m args below meth c Q w L A nL σ pc lv (.ref (zsK w j) :: .int i :: .ref a :: st) := by
  intro H locs k0 n ls h1 h2 h3 h4 h5 hl
  have hlt : i.toNatClampNeg < N := Nat.not_le.mp fun q => hin (Or.inr q)
  have h0 : ¬ i < 0 := fun q => hin (Or.inl q)
  have hK := C.2.2.2.2.2.1
  obtain ⟨cellV, g1, g2, g3, g4⟩ := ((C.2.2.2.2.2.2.2.2.2.2.2.2.2.kept h2.2.1).1 j bs hb).1
  obtain ⟨kA, comp, k1, k2, k3, -⟩ := (hK.1.2 6 _ rfl).2
  have hcomp : comp = cellV.cls := Option.some.inj (k3.symm.trans g3)
  obtain ⟨kcomp, hkcomp⟩ : ∃ kc, s.vm.classes[comp]? = some kc := by
    have := Array.findIdx?_eq_some_iff_getElem.mp k3
    obtain ⟨hlt', -⟩ := this
    exact ⟨_, Array.getElem?_eq_getElem hlt'⟩
  have hasg : s.vm.assignable cellV.cls comp = true := by
    rw [hcomp]
    unfold Vm.assignable Vm.assignableAux
    rw [beq_self_eq_true, Bool.true_or]
  refine W.aast C.1 C.2.1 (h1.at (zSee.pool hp)) (fun q h => by cases h) (fun h => by cases h) k1 k2 rfl hkcomp ⟨h0, by show _ < (arrV _ _ _).slots.size; rw [arrV_size]; exact hlt⟩ g1 (fun q h => by rw [h] at g2; cases g2) (by rw [← hcomp]; exact hkcomp) hasg rfl rfl hd fun H1 e1 e2 e3 => ?_
  have hu : zUpd w L σ (sP σ a (.inl (w.2.1 6, N, .inr (.inr (.inr (.inr (va_up f i.toNatClampNeg (some (zsK w j)))))))) ) a (.inl (w.2.1 6, N, .inr (.inr (.inr (.inr (va_up f i.toNatClampNeg (some (zsK w j)))))))) := zUpd.pool hp (fun i d hi => (h1.2.2.1 a _ hp).2 i d hi)
  have e1' : va_at w.1 zcl (a, .inl (w.2.1 6, N, .inr (.inr (.inr (.inr (va_up f i.toNatClampNeg (some (zsK w j)))))))) H1 := by
    show H1[a]? = some (vp_cell _ _)
    rw [e1]
    rw [vp_cell_q, vp_cell_q, arrV_store]
    congr 2
    funext q
    by_cases hq : q = i.toNatClampNeg
    · subst hq
      simp [updV, va_up, va_rf]
    · simp [updV, va_up, hq]
  refine kk H1 _ k0 n ls (h1.upd hu e1' e2 e3) (zS_upd h2 (h3 a _ hp) e2 e3) (fun q x hq => ?_) (by rw [hu.1]; exact h4) (by rw [hu.1]; exact h5) hl
  obtain ⟨z, hz⟩ := (hu.2.1 q).mp ⟨x, hq⟩
  exact h3 q z hz
/-- the law's script: its numbers, its length -/
theorem z_sld (C : zCx p s m args meth c w L A nL cc own ret hh) {b N : Nat} {xs : Nat → Int32} (hX : va_X b N xs s s.heap) (hbl : b < s.heap.size) (hbA : ¬ A b) {i : Int32} (hin : ¬ (i < 0 ∨ N ≤ i.toNatClampNeg)) (hd : decode cc pc = .ok (.iaload, 1)) (kk : Z p l e R s m args below meth c Q w L A nL σ (pc + 1) lv (.int (xs i.toNatClampNeg) :: st)) : Z p l e R s m args below meth c Q w L A nL σ pc lv (.int i :: .ref b :: st) :=
  fun H locs k n ls h1 h2 h3 h4 h5 hl => va_sld C.1 C.2.1 hX hbl hbA h2 hin hd (kk H locs k n ls h1 h2 h3 h4 h5 hl)
theorem z_slen (C : zCx p s m args meth c w L A nL cc own ret hh) {b N : Nat} {xs : Nat → Int32} (hX : va_X b N xs s s.heap) (hbl : b < s.heap.size) (hbA : ¬ A b) (hd : decode cc pc = .ok (.arraylength, 1)) (kk : Z p l e R s m args below meth c Q w L A nL σ (pc + 1) lv (.int (Int32.ofNat N) :: st)) : Z p l e R s m args below meth c Q w L A nL σ pc lv (.ref b :: st) :=
  fun H locs k n ls h1 h2 h3 h4 h5 hl => va_slen C.1 C.2.1 hX hbl hbA h2 hd (kk H locs k n ls h1 h2 h3 h4 h5 hl)
end ZNewq
