/-! whole rows copied (written by gen/mk35.py) -/
def sR (σ : ZS) (j : Nat) (f : Nat → Int32) : ZS := (fun a b => if a = j then f b else σ.1 a b, σ.2)
def sRG (σ : ZS) (j : Nat) (f : Nat → Option Nat) : ZS := (σ.1, fun a b => if a = j then f b else σ.2.1 a b, σ.2.2)
theorem zUpd.rowI {w : ZW} {L : ZL} (hj : zInj w L) {σ : ZS} {i t n : Nat} {f : Nat → Int32} (hP : ∀ q z, σ.2.2.1 q = some z → q ≠ w.2.2 i) (hi : L i = some (.inl (t, n, false))) : zUpd w L σ (sR σ i f) (w.2.2 i) (.inl (w.2.1 t, n, .inl f)) := by
  refine ⟨rfl, fun _ => Iff.rfl, fun j d hd => ⟨fun e => ?_, fun e => ?_⟩, fun q z hq => ⟨fun e => absurd e (hP q z hq), fun _ => hq⟩, fun _ _ _ => rfl⟩
  · have := hj j i d _ hd hi e
    subst this
    cases hd.symm.trans hi
    simp only [zCellOf, Sum.inl.injEq, Prod.mk.injEq, true_and]
    funext b
    simp [sR]
  · have hne : j ≠ i := fun q => e (by rw [q])
    refine zCell_agree (σ := σ) (σ' := sR σ i f) ?_ rfl d
    funext b
    simp [sR, hne]
theorem zUpd.rowG {w : ZW} {L : ZL} (hj : zInj w L) {σ : ZS} {i t n : Nat} {f : Nat → Option Nat} (ht6 : t ≠ 6) (hP : ∀ q z, σ.2.2.1 q = some z → q ≠ w.2.2 i) (hi : L i = some (.inl (t, n, true))) : zUpd w L σ (sRG σ i f) (w.2.2 i) (.inl (w.2.1 t, n, .inr (.inr (.inr (.inr f))))) := by
  refine ⟨rfl, fun _ => Iff.rfl, fun j d hd => ⟨fun e => ?_, fun e => ?_⟩, fun q z hq => ⟨fun e => absurd e (hP q z hq), fun _ => hq⟩, fun j n hj2 => ?_⟩
  · have := hj j i d _ hd hi e
    subst this
    cases hd.symm.trans hi
    simp only [zCellOf, Sum.inl.injEq, Sum.inr.injEq, Prod.mk.injEq, true_and]
    funext b
    simp [sRG]
  · have hne : j ≠ i := fun q => e (by rw [q])
    refine zCell_agree (σ := σ) (σ' := sRG σ i f) rfl ?_ d
    funext b
    simp [sRG, hne]
  · have hne : j ≠ i := fun q => by subst q; cases hi.symm.trans hj2; exact ht6 rfl
    funext b
    simp [sRG, hne]
theorem zS_updL {A : Nat → Prop} {H0 H H' : Heap} {locs L : List Loc} {a : Nat} (hS : va_S A H0 H locs) (ha : A a) (hL : ∀ q ∈ L, q.base = a) (hz : H'.size = H.size) (ho : ∀ q, q ≠ a → H'[q]? = H[q]?) : va_S A H0 H' (locs ++ L) := by
  refine ⟨by rw [hz]; exact hS.1, fun q h1 h2 => ?_, fun q hq => ?_⟩
  · rw [ho q (fun e => h2 (e ▸ ha))]; exact hS.2.1 q h1 h2
  · rcases List.mem_append.mp hq with h | h
    · exact hS.2.2 q h
    · rw [hL q h]; exact ha
section ZCopy
variable {p : Program} {l : Launch} {e : Env} {R : Room} {s : State} {m : MethodId} {args : Array Value} {below : List Frame} {meth : Method} {c : Code} {Q : State → Prop} {w : ZW} {L : ZL} {A : Nat → Prop} {nL : Nat} {cc : ByteArray} {own : String} {ret : Option FieldType} {hh : List (Nat × Nat × Nat × Nat)}
variable {σ : ZS} {pc : Nat} {lv lv' : List (Nat × Value)} {st : List Value}
theorem z_copyI (C : zCx p s m args meth c w L A nL cc own ret hh) {i j t N : Nat} {n : Int32} {index : Nat} {ty : FieldType} (hi : L i = some (.inl (t, N, false))) (hj : L j = some (.inl (t, N, false))) (ht : (zTys w)[t]? = some (w.2.1 t, ty)) (hprim : refKind ty = false) (hfit : ∀ q, q < N → fits ty (.int (σ.1 i q)) = true) (hn0 : ¬ n < 0) (hn : n.toNatClampNeg = N) (hq : Cond.methodLink own index arraycopyName ∈ lw_all) (hd : decode cc pc = .ok (.invokestatic index, 3)) (hfr : 1 ≤ R.frames) (hlo : (st.map fun v => v.category).sum + (nativeFrameWords "java/lang/System" "arraycopy" 5 + 11) ≤ R.locals) (kk : Z p l e R s m args below meth c Q w L A nL (sR σ j (va_cpy (σ.1 i) (σ.1 j) 0 0 N)) (pc + 3) lv st) : Z p l e R s m args below meth c Q w L A nL σ pc lv (.int n :: .int 0 :: .ref (w.2.2 j) :: .int 0 :: .ref (w.2.2 i) :: st) := by
  intro H locs k0 n0 ls h1 h2 h3 h4 h5 hl T hT X
  have hts := C.2.2.2.2.1
  have hK := C.2.2.2.2.2.1.1
  have hc0 : H[w.2.2 i]? = some (vp_cell (w.2.1 t) (N, .inl (σ.1 i))) := h1.2.1 i _ hi
  have hc1 : H[w.2.2 j]? = some (vp_cell (w.2.1 t) (N, .inl (σ.1 j))) := h1.2.1 j _ hj
  obtain ⟨-, kk0, hk0, cm0, hkk0⟩ := (hK.2 t _ ht).1 N (fun q => .int (σ.1 i q))
  have nn : n.toInt = (N : Int) := by
    have hz0 : (0 : Int) ≤ n.toInt := by simpa using Int32.le_iff_toInt_le.mp (Int32.not_lt.mp hn0)
    rw [← hn]
    show n.toInt = ((n.toInt.toNat : Nat) : Int)
    omega
  obtain ⟨vm', X', step⟩ := X.arraycopy C.1 C.2.2.2.1 (hts _ hq) (hts _ q975) (hts _ q974) (hts _ q104) (src := w.2.2 i) (dst := w.2.2 j) (cs := vp_cell (w.2.1 t) (N, .inl (σ.1 i))) (cd := vp_cell (w.2.1 t) (N, .inl (σ.1 j))) (srcPos := 0) (destPos := 0) (n := n) (by rw [hT]; exact hc0) (by rw [hT]; exact hc1)
    (fun _ h => by cases h) (fun _ h => by cases h) (fun h => by cases h) (fun h => by cases h) hk0 hk0 hkk0 hkk0 (by simp) (by decide) (by decide) hn0
    (by rw [nn]; show ¬ (0 : Int) + _ > ((arrV (w.2.1 t) N (fun q => .int (σ.1 i q))).slots.size : Int); rw [arrV_size]; omega)
    (by rw [nn]; show ¬ (0 : Int) + _ > ((arrV (w.2.1 t) N (fun q => .int (σ.1 j q))).slots.size : Int); rw [arrV_size]; omega)
    (fun vm₁ hal q hq2 => by
      have e : (vp_cell (w.2.1 t) (N, .inl (σ.1 i))).slots.getD ((0 : Int32).toNatClampNeg + q) .null = .int (σ.1 i q) := by
        show (arrV (w.2.1 t) N (fun q => .int (σ.1 i q))).slots.getD _ _ = _
        rw [Array.getD_eq_getD_getElem?, arrV_read _ _ (by rw [hn] at hq2; show 0 + q < N; omega)]
        show Value.int (σ.1 i ((0 : Int32).toNatClampNeg + q)) = _
        rw [show (0 : Int32).toNatClampNeg + q = q from Nat.zero_add q]
      rw [e]
      exact ⟨hfit q (by rw [hn] at hq2; exact hq2), trivial⟩)
    (g := F0 m pc ls (.int n :: .int 0 :: .ref (w.2.2 j) :: .int 0 :: .ref (w.2.2 i) :: st)) rfl (by rw [C.2.2.1]; exact hl.1) (rest := st) rfl (by rw [C.2.1]; exact hd) hfr (by show 2 * 0 + _ + _ ≤ _; rw [Nat.mul_zero, Nat.zero_add]; exact hlo)
  have e1 : copied (vp_cell (w.2.1 t) (N, .inl (σ.1 i))) (vp_cell (w.2.1 t) (N, .inl (σ.1 j))) 0 0 n = vp_cell (w.2.1 t) (N, .inl (va_cpy (σ.1 i) (σ.1 j) 0 0 N)) := by
    have h9 := va_copied (fun z => Value.int z) (w.2.1 t) (w.2.1 t) (n0 := N) (n1 := N) (sp := 0) (dp := 0) (n := N) (σ.1 i) (σ.1 j) (by omega)
    unfold copied
    rw [hn]
    exact h9
  rw [e1] at X' step
  have hl2 : w.2.2 j < H.size := (Array.getElem?_eq_some_iff.mp hc1).1
  have hheap : ((T.setVm vm').setCell (w.2.2 j) (vp_cell (w.2.1 t) (N, .inl (va_cpy (σ.1 i) (σ.1 j) 0 0 N)))).heap = H.setIfInBounds (w.2.2 j) (vp_cell (w.2.1 t) (N, .inl (va_cpy (σ.1 i) (σ.1 j) 0 0 N))) := by rw [← hT]; rfl
  have oq : ∀ q : Nat, q ≠ w.2.2 j → (H.setIfInBounds (w.2.2 j) (vp_cell (w.2.1 t) (N, .inl (va_cpy (σ.1 i) (σ.1 j) 0 0 N))))[q]? = H[q]? := fun q hq => by simp [Array.getElem?_setIfInBounds, Ne.symm hq]
  have hu : zUpd w L σ (sR σ j (va_cpy (σ.1 i) (σ.1 j) 0 0 N)) (w.2.2 j) (.inl (w.2.1 t, N, .inl (va_cpy (σ.1 i) (σ.1 j) 0 0 N))) := zUpd.rowI C.2.2.2.2.2.2.1 (fun q z hq => (h1.2.2.1 q z hq).2 j _ hj) hj
  obtain ⟨t2, a1, b1⟩ := kk _ _ k0 n0 ls (h1.upd hu (show (H.setIfInBounds (w.2.2 j) _)[w.2.2 j]? = some _ by simp [Array.getElem?_setIfInBounds, hl2]) (by simp) oq)
    (zS_updL h2 (C.2.2.2.2.2.2.2.2.1 j _ hj) (fun q hq => by obtain ⟨z, -, hz⟩ := List.mem_map.mp hq; rw [← hz]) (by simp) oq) h3 h4 h5 hl _ hheap X'
  exact ⟨t2, step t2 a1, b1⟩
/-- the references of a row: null, or to cells of classes that may be stored there -/
def zElOk (σ : ZS) (i N : Nat) (cs : List Nat) : Prop := ∀ q, q < N → ∀ y, σ.2.1 i q = some y → ∃ ci vs, ci ∈ cs ∧ σ.2.2.1 y = some (.inr (ci, vs))
theorem z_copyG (C : zCx p s m args meth c w L A nL cc own ret hh) {i j t N : Nat} {n : Int32} {index : Nat} {Cn : String} (cs : List Nat) (hi : L i = some (.inl (t, N, true))) (hj : L j = some (.inl (t, N, true))) (ht6 : t ≠ 6) (ht : (zTys w)[t]? = some (w.2.1 t, .object Cn)) (hok : zElOk σ i N cs) (hcs : ∀ ci ∈ cs, ∃ r : vw_C, zcl[ci]? = some r ∧ (r.1 = Cn ∨ Cond.castable r.1 Cn ∈ lw_tbl)) (hn0 : ¬ n < 0) (hn : n.toNatClampNeg = N) (hq : Cond.methodLink own index arraycopyName ∈ lw_all) (hd : decode cc pc = .ok (.invokestatic index, 3)) (hfr : 1 ≤ R.frames) (hlo : (st.map fun v => v.category).sum + (nativeFrameWords "java/lang/System" "arraycopy" 5 + 11) ≤ R.locals) (kk : Z p l e R s m args below meth c Q w L A nL (sRG σ j (va_cpy (σ.2.1 i) (σ.2.1 j) 0 0 N)) (pc + 3) lv st) : Z p l e R s m args below meth c Q w L A nL σ pc lv (.int n :: .int 0 :: .ref (w.2.2 j) :: .int 0 :: .ref (w.2.2 i) :: st) := by
  intro H locs k0 n0 ls h1 h2 h3 h4 h5 hl T hT X
  have hts := C.2.2.2.2.1
  have hK := C.2.2.2.2.2.1.1
  have hc0 : H[w.2.2 i]? = some (vp_cell (w.2.1 t) (N, .inr (.inr (.inr (.inr (σ.2.1 i)))))) := h1.2.1 i _ hi
  have hc1 : H[w.2.2 j]? = some (vp_cell (w.2.1 t) (N, .inr (.inr (.inr (.inr (σ.2.1 j)))))) := h1.2.1 j _ hj
  obtain ⟨-, kk0, hk0, cm0, hkk0⟩ := (hK.2 t _ ht).1 N (fun q => va_rf (σ.2.1 i q))
  have nn : n.toInt = (N : Int) := by
    have hz0 : (0 : Int) ≤ n.toInt := by simpa using Int32.le_iff_toInt_le.mp (Int32.not_lt.mp hn0)
    rw [← hn]
    show n.toInt = ((n.toInt.toNat : Nat) : Int)
    omega
  obtain ⟨vm', X', step⟩ := X.arraycopy C.1 C.2.2.2.1 (hts _ hq) (hts _ q975) (hts _ q974) (hts _ q104) (src := w.2.2 i) (dst := w.2.2 j) (cs := vp_cell (w.2.1 t) (N, .inr (.inr (.inr (.inr (σ.2.1 i)))))) (cd := vp_cell (w.2.1 t) (N, .inr (.inr (.inr (.inr (σ.2.1 j)))))) (srcPos := 0) (destPos := 0) (n := n) (by rw [hT]; exact hc0) (by rw [hT]; exact hc1)
    (fun _ h => by cases h) (fun _ h => by cases h) (fun h => by cases h) (fun h => by cases h) hk0 hk0 hkk0 hkk0 (by simp) (by decide) (by decide) hn0
    (by rw [nn]; show ¬ (0 : Int) + _ > ((arrV (w.2.1 t) N (fun q => va_rf (σ.2.1 i q))).slots.size : Int); rw [arrV_size]; omega)
    (by rw [nn]; show ¬ (0 : Int) + _ > ((arrV (w.2.1 t) N (fun q => va_rf (σ.2.1 j q))).slots.size : Int); rw [arrV_size]; omega)
    (fun vm₁ hal q hq2 => by
      have e : (vp_cell (w.2.1 t) (N, .inr (.inr (.inr (.inr (σ.2.1 i)))))).slots.getD ((0 : Int32).toNatClampNeg + q) .null = va_rf (σ.2.1 i q) := by
        show (arrV (w.2.1 t) N (fun q => va_rf (σ.2.1 i q))).slots.getD _ _ = _
        rw [Array.getD_eq_getD_getElem?, arrV_read _ _ (by rw [hn] at hq2; show 0 + q < N; omega)]
        show va_rf (σ.2.1 i ((0 : Int32).toNatClampNeg + q)) = _
        rw [show (0 : Int32).toNatClampNeg + q = q from Nat.zero_add q]
      rw [e]
      cases hy : σ.2.1 i q with
      | none => exact ⟨rfl, trivial⟩
      | some y =>
        obtain ⟨ci, vs, hci, hPy⟩ := hok q (by rw [hn] at hq2; exact hq2) y hy
        obtain ⟨r, hr, hcast⟩ := hcs ci hci
        obtain ⟨r', hr', cellV, g1, g2, g3, -⟩ := h1.at (zSee.pool (L := L) (w := w) hPy)
        have hcls := (hK.1 ci r hr).2
        obtain ⟨kA, comp, r1, r2, r3, -⟩ := (hK.2 t _ ht).2
        cases hk0.symm.trans r1
        cases hkk0.symm.trans r2
        have hasg : s.vm.assignable (w.1.1 ci) cm0 = true := by
          rcases hcast with hz | hz
          · have hcomp : cm0 = w.1.1 ci := Option.some.inj (r3.symm.trans (hz ▸ hcls.1))
            rw [hcomp]; exact va_assign hcls
          · obtain ⟨c3, t3, w1, w2, w3⟩ := Cond.castable_spec (C.2.2.2.2.2.1.nw hz rfl (a := args))
            cases hcls.1.symm.trans w1
            cases r3.symm.trans w2
            exact w3
        obtain ⟨kC, hkC, -⟩ := Vm.findClass_spec hcls.1
        obtain ⟨kE, hkE, -⟩ := Vm.findClass_spec r3
        obtain ⟨kC', hkC', -⟩ := hal.2.2 _ _ hkC
        obtain ⟨kE', hkE', -⟩ := hal.2.2 _ _ hkE
        refine ⟨rfl, cellV, (show T.heap[y]? = some cellV by rw [hT]; exact g1), (fun q h => by rw [g3] at h; cases h), ⟨kC', by rw [g2]; exact hkC'⟩, ?_, ?_⟩
        · exact ⟨kE', hkE'⟩
        · show vm₁.assignable _ _ = true
          rw [hal.assignable, g2]
          exact hasg)
    (g := F0 m pc ls (.int n :: .int 0 :: .ref (w.2.2 j) :: .int 0 :: .ref (w.2.2 i) :: st)) rfl (by rw [C.2.2.1]; exact hl.1) (rest := st) rfl (by rw [C.2.1]; exact hd) hfr (by show 2 * 0 + _ + _ ≤ _; rw [Nat.mul_zero, Nat.zero_add]; exact hlo)
  have e1 : copied (vp_cell (w.2.1 t) (N, .inr (.inr (.inr (.inr (σ.2.1 i)))))) (vp_cell (w.2.1 t) (N, .inr (.inr (.inr (.inr (σ.2.1 j)))))) 0 0 n = vp_cell (w.2.1 t) (N, .inr (.inr (.inr (.inr (va_cpy (σ.2.1 i) (σ.2.1 j) 0 0 N))))) := by
    have h9 := va_copied (fun z => va_rf z) (w.2.1 t) (w.2.1 t) (n0 := N) (n1 := N) (sp := 0) (dp := 0) (n := N) (σ.2.1 i) (σ.2.1 j) (by omega)
    rw [vp_cell_q, vp_cell_q, vp_cell_q]
    unfold copied
    rw [hn]
    exact h9
  rw [e1] at X' step
  have hl2 : w.2.2 j < H.size := (Array.getElem?_eq_some_iff.mp hc1).1
  have hheap : ((T.setVm vm').setCell (w.2.2 j) (vp_cell (w.2.1 t) (N, .inr (.inr (.inr (.inr (va_cpy (σ.2.1 i) (σ.2.1 j) 0 0 N))))))).heap = H.setIfInBounds (w.2.2 j) (vp_cell (w.2.1 t) (N, .inr (.inr (.inr (.inr (va_cpy (σ.2.1 i) (σ.2.1 j) 0 0 N)))))) := by rw [← hT]; rfl
  have oq : ∀ q : Nat, q ≠ w.2.2 j → (H.setIfInBounds (w.2.2 j) (vp_cell (w.2.1 t) (N, .inr (.inr (.inr (.inr (va_cpy (σ.2.1 i) (σ.2.1 j) 0 0 N)))))))[q]? = H[q]? := fun q hq => by simp [Array.getElem?_setIfInBounds, Ne.symm hq]
  have hu : zUpd w L σ (sRG σ j (va_cpy (σ.2.1 i) (σ.2.1 j) 0 0 N)) (w.2.2 j) (.inl (w.2.1 t, N, .inr (.inr (.inr (.inr (va_cpy (σ.2.1 i) (σ.2.1 j) 0 0 N)))))) := zUpd.rowG C.2.2.2.2.2.2.1 ht6 (fun q z hq => (h1.2.2.1 q z hq).2 j _ hj) hj
  obtain ⟨t2, a1, b1⟩ := kk _ _ k0 n0 ls (h1.upd hu (show (H.setIfInBounds (w.2.2 j) _)[w.2.2 j]? = some _ by simp [Array.getElem?_setIfInBounds, hl2]) (by simp) oq)
    (zS_updL h2 (C.2.2.2.2.2.2.2.2.1 j _ hj) (fun q hq => by obtain ⟨z, -, hz⟩ := List.mem_map.mp hq; rw [← hz]) (by simp) oq) h3 h4 h5 hl _ hheap X'
  exact ⟨t2, step t2 a1, b1⟩
end ZCopy
def zElB (σ : ZS) (i N : Nat) (cs : List Nat) : Bool := (List.range N).all fun q => match σ.2.1 i q with
  | none => true
  | some y => match σ.2.2.1 y with
    | some (.inr (ci, _)) => cs.contains ci
    | _ => false
theorem zElB_ok {σ : ZS} {i N : Nat} {cs : List Nat} (h : zElB σ i N cs = true) : zElOk σ i N cs := by
  intro q hq y hy
  have h1 := List.all_eq_true.mp h q (List.mem_range.mpr hq)
  rw [hy] at h1
  simp only at h1
  split at h1
  · rename_i ci vs hP
    exact ⟨ci, vs, by simpa using h1, hP⟩
  · cases h1
theorem zCs_ship : ∀ ci ∈ [8, 9, 10, 11, 12, 13, 14], ∃ r : vw_C, zcl[ci]? = some r ∧ (r.1 = "OldLight$Ship" ∨ Cond.castable r.1 "OldLight$Ship" ∈ lw_tbl) := by
  intro ci h
  simp only [List.mem_cons, List.not_mem_nil, or_false] at h
  rcases h with rfl | rfl | rfl | rfl | rfl | rfl | rfl
  · exact ⟨_, rfl, Or.inl rfl⟩
  · exact ⟨_, rfl, Or.inr q1910⟩
  · exact ⟨_, rfl, Or.inr q1911⟩
  · exact ⟨_, rfl, Or.inr q1912⟩
  · exact ⟨_, rfl, Or.inr q1913⟩
  · exact ⟨_, rfl, Or.inr q1914⟩
  · exact ⟨_, rfl, Or.inr q1915⟩
theorem zCs_term : ∀ ci ∈ [7, 16, 18, 19], ∃ r : vw_C, zcl[ci]? = some r ∧ (r.1 = "OldLight$Term" ∨ Cond.castable r.1 "OldLight$Term" ∈ lw_tbl) := by
  intro ci h
  simp only [List.mem_cons, List.not_mem_nil, or_false] at h
  rcases h with rfl | rfl | rfl | rfl
  · exact ⟨_, rfl, Or.inr q1919⟩
  · exact ⟨_, rfl, Or.inr q1916⟩
  · exact ⟨_, rfl, Or.inr q1917⟩
  · exact ⟨_, rfl, Or.inr q1918⟩
