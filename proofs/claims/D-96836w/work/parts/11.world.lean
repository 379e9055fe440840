/-! my own layer, 2: a world = fixed cells, numbered, with contents out of rows of numbers, and a pool of made cells by their addresses -/
/-- numbers by row and place; references by row and place; the pool; the heap's size; cells and slots that may still be made -/
abbrev ZS : Type := (Nat → Nat → Int32) × (Nat → Nat → Option Nat) × (Nat → Option va_E) × Nat × Nat × Nat
def sI (σ : ZS) (r j : Nat) (v : Int32) : ZS := (fun a b => if a = r then (if b = j then v else σ.1 a b) else σ.1 a b, σ.2)
def sG (σ : ZS) (r j : Nat) (v : Option Nat) : ZS := (σ.1, fun a b => if a = r then (if b = j then v else σ.2.1 a b) else σ.2.1 a b, σ.2.2)
def sP (σ : ZS) (q : Nat) (x : va_E) : ZS := (σ.1, σ.2.1, fun a => if a = q then some x else σ.2.2.1 a, σ.2.2.2)
def sN (σ : ZS) (x : va_E) (n : Nat) : ZS := (σ.1, σ.2.1, fun a => if a = σ.2.2.2.1 then some x else σ.2.2.1 a, σ.2.2.2.1 + 1, σ.2.2.2.2.1 - 1, σ.2.2.2.2.2 - n)
abbrev ZFd : Type := Option (Option Nat)
abbrev ZL : Type := Nat → Option ((Nat × Nat × Bool) ⊕ (Nat × List ZFd))
abbrev ZW : Type := va_G × (Nat → ClassId) × (Nat → Nat)
def zV (w : ZW) (σ : ZS) (i k : Nat) (d : ZFd) : Value := match d with
  | none => .int (σ.1 i k)
  | some none => va_rf (σ.2.1 i k)
  | some (some j) => .ref (w.2.2 j)
def zFs (w : ZW) (σ : ZS) (i : Nat) : Nat → List ZFd → List Value
  | _, [] => []
  | k, d :: ds => zV w σ i k d :: zFs w σ i (k + 1) ds
def zCellOf (w : ZW) (σ : ZS) (i : Nat) (d : (Nat × Nat × Bool) ⊕ (Nat × List ZFd)) : va_E := match d with
  | .inl (t, n, false) => .inl (w.2.1 t, n, .inl (σ.1 i))
  | .inl (t, n, true) => .inl (w.2.1 t, n, .inr (.inr (.inr (.inr (σ.2.1 i)))))
  | .inr (ci, ds) => .inr (ci, zFs w σ i 0 ds)
theorem zFs_get {w : ZW} {σ : ZS} {i : Nat} : ∀ {ds : List ZFd} {k0 k : Nat} {d : ZFd}, ds[k]? = some d → (zFs w σ i k0 ds)[k]? = some (zV w σ i (k0 + k) d)
  | [], _, _, _, h => by simp at h
  | d0 :: ds, k0, 0, d, h => by simp at h; subst h; simp [zFs]
  | d0 :: ds, k0, k + 1, d, h => by
    simp at h
    have := zFs_get (w := w) (σ := σ) (i := i) (k0 := k0 + 1) h
    simp [zFs, this]
    congr 1
    omega
theorem zFs_len {w : ZW} {σ : ZS} {i : Nat} : ∀ (ds : List ZFd) (k0 : Nat), (zFs w σ i k0 ds).length = ds.length
  | [], _ => rfl
  | d0 :: ds, k0 => by simp [zFs, zFs_len ds]
theorem zFs_agree {w : ZW} {σ σ' : ZS} {i : Nat} (h1 : σ'.1 i = σ.1 i) (h2 : σ'.2.1 i = σ.2.1 i) : ∀ (ds : List ZFd) (k0 : Nat), zFs w σ' i k0 ds = zFs w σ i k0 ds
  | [], _ => rfl
  | d0 :: ds, k0 => by
    have e : zV w σ' i k0 d0 = zV w σ i k0 d0 := by
      rcases d0 with _ | _ | j <;> simp [zV, h1, h2]
    simp [zFs, e, zFs_agree h1 h2 ds]
theorem zCell_agree {w : ZW} {σ σ' : ZS} {i : Nat} (h1 : σ'.1 i = σ.1 i) (h2 : σ'.2.1 i = σ.2.1 i) (d : (Nat × Nat × Bool) ⊕ (Nat × List ZFd)) : zCellOf w σ' i d = zCellOf w σ i d := by
  rcases d with ⟨t, n, b⟩ | ⟨ci, ds⟩
  · cases b <;> simp [zCellOf, h1, h2]
  · simp [zCellOf, zFs_agree h1 h2]
/-- a field is set: the list of values -/
theorem zFs_setI {w : ZW} {σ : ZS} {i k : Nat} {v : Int32} : ∀ (ds : List ZFd) (k0 : Nat), ds[k]? = some none → zFs w (sI σ i (k0 + k) v) i k0 ds = (zFs w σ i k0 ds).set k (.int v) := by
  intro ds k0 h
  apply List.ext_getElem?
  intro j
  by_cases hj : j < ds.length
  · obtain ⟨d, hd⟩ : ∃ d, ds[j]? = some d := ⟨ds[j], by simp [hj]⟩
    rw [zFs_get hd]
    by_cases hk : j = k
    · subst hk
      cases h.symm.trans hd
      rw [List.getElem?_set_self (by rw [zFs_len]; exact hj)]
      simp [zV, sI]
    · rw [List.getElem?_set_ne (fun e => hk e.symm), zFs_get hd]
      rcases d with _ | _ | q
      · simp [zV, sI]; intro e; exact absurd (by omega) hk
      · simp [zV, sI]
      · simp [zV]
  · rw [List.getElem?_eq_none (by rw [zFs_len]; omega), List.getElem?_eq_none (by simp [zFs_len]; omega)]
theorem zFs_setG {w : ZW} {σ : ZS} {i k : Nat} {v : Option Nat} : ∀ (ds : List ZFd) (k0 : Nat), ds[k]? = some (some none) → zFs w (sG σ i (k0 + k) v) i k0 ds = (zFs w σ i k0 ds).set k (va_rf v) := by
  intro ds k0 h
  apply List.ext_getElem?
  intro j
  by_cases hj : j < ds.length
  · obtain ⟨d, hd⟩ : ∃ d, ds[j]? = some d := ⟨ds[j], by simp [hj]⟩
    rw [zFs_get hd]
    by_cases hk : j = k
    · subst hk
      cases h.symm.trans hd
      rw [List.getElem?_set_self (by rw [zFs_len]; exact hj)]
      simp [zV, sG]
    · rw [List.getElem?_set_ne (fun e => hk e.symm), zFs_get hd]
      rcases d with _ | _ | q
      · simp [zV, sG]
      · simp only [zV, sG]
        rw [if_pos trivial, if_neg (by omega)]
      · simp [zV]
  · rw [List.getElem?_eq_none (by rw [zFs_len]; omega), List.getElem?_eq_none (by simp [zFs_len]; omega)]
/-- the heap holds the world -/
def zHold (cl : List vw_C) (w : ZW) (L : ZL) (σ : ZS) (H : Heap) : Prop :=
  H.size = σ.2.2.2.1 ∧ (∀ i d, L i = some d → va_at w.1 cl (w.2.2 i, zCellOf w σ i d) H) ∧ (∀ a x, σ.2.2.1 a = some x → va_at w.1 cl (a, x) H ∧ ∀ i d, L i = some d → a ≠ w.2.2 i) ∧ ∀ i n, L i = some (.inl (6, n, true)) → ∀ j, j < n → σ.2.1 i j = some (w.1.2 1000 (9 + j))
/-- the fixed cells are apart -/
def zInj (w : ZW) (L : ZL) : Prop := ∀ i j d d', L i = some d → L j = some d' → w.2.2 i = w.2.2 j → i = j
/-- the addresses that a world may write to: its own, and what is new -/
def zA (w : ZW) (L : ZL) (σ : ZS) : Nat → Prop := fun q => (∃ i d, L i = some d ∧ q = w.2.2 i) ∨ (∃ x, σ.2.2.1 q = some x) ∨ σ.2.2.2.1 ≤ q
/-- the cell at the address a is x -/
def zSee (w : ZW) (L : ZL) (σ : ZS) (a : Nat) (x : va_E) : Prop := (∃ i d, L i = some d ∧ a = w.2.2 i ∧ zCellOf w σ i d = x) ∨ σ.2.2.1 a = some x
theorem zSee.fix {w : ZW} {L : ZL} {σ : ZS} {i : Nat} {d : (Nat × Nat × Bool) ⊕ (Nat × List ZFd)} (h : L i = some d) : zSee w L σ (w.2.2 i) (zCellOf w σ i d) := Or.inl ⟨i, d, h, rfl, rfl⟩
theorem zSee.pool {w : ZW} {L : ZL} {σ : ZS} {a : Nat} {x : va_E} (h : σ.2.2.1 a = some x) : zSee w L σ a x := Or.inr h
theorem zHold.at {cl : List vw_C} {w : ZW} {L : ZL} {σ : ZS} {H : Heap} (h : zHold cl w L σ H) {a : Nat} {x : va_E} (hs : zSee w L σ a x) : va_at w.1 cl (a, x) H := by
  rcases hs with ⟨i, d, hi, rfl, rfl⟩ | hp
  · exact h.2.1 i d hi
  · exact (h.2.2.1 a x hp).1
theorem zHold.lt {cl : List vw_C} {w : ZW} {L : ZL} {σ : ZS} {H : Heap} (h : zHold cl w L σ H) {a : Nat} {x : va_E} (hs : zSee w L σ a x) : a < σ.2.2.2.1 := by
  rw [← h.1]; exact (h.at hs).lt
/-- one cell of a world has changed: what it asks of the new rows -/
def zUpd (w : ZW) (L : ZL) (σ σ' : ZS) (a : Nat) (x : va_E) : Prop :=
  σ'.2.2.2 = σ.2.2.2 ∧ (∀ q, (∃ z, σ'.2.2.1 q = some z) ↔ ∃ z, σ.2.2.1 q = some z) ∧ (∀ i d, L i = some d → (w.2.2 i = a → zCellOf w σ' i d = x) ∧ (w.2.2 i ≠ a → zCellOf w σ' i d = zCellOf w σ i d)) ∧ (∀ q z, σ'.2.2.1 q = some z → (q = a → z = x) ∧ (q ≠ a → σ.2.2.1 q = some z)) ∧ ∀ i n, L i = some (.inl (6, n, true)) → σ'.2.1 i = σ.2.1 i
theorem zHold.upd {cl : List vw_C} {w : ZW} {L : ZL} {σ σ' : ZS} {H H' : Heap} {a : Nat} {x : va_E} (h : zHold cl w L σ H) (hu : zUpd w L σ σ' a x) (ha : va_at w.1 cl (a, x) H') (hz : H'.size = H.size) (ho : ∀ q, q ≠ a → H'[q]? = H[q]?) : zHold cl w L σ' H' := by
  obtain ⟨u1, u2, u3, u4, u5⟩ := hu
  refine ⟨by rw [hz, h.1, u1], fun i d hi => ?_, fun q z hq => ?_, fun i n hi j hj => by rw [u5 i n hi]; exact h.2.2.2 i n hi j hj⟩
  · by_cases e : w.2.2 i = a
    · rw [(u3 i d hi).1 e, e]; exact ha
    · rw [(u3 i d hi).2 e]
      exact (h.2.1 i d hi).kept (ho _ e)
  · obtain ⟨z0, hz0⟩ := (u2 q).mp ⟨z, hq⟩
    refine ⟨?_, (h.2.2.1 q z0 hz0).2⟩
    by_cases e : q = a
    · rw [(u4 q z hq).1 e, e]; exact ha
    · exact ((h.2.2.1 q z ((u4 q z hq).2 e)).1).kept (ho _ e)
theorem zUpd.fixI {w : ZW} {L : ZL} (hj : zInj w L) {σ : ZS} {i k ci : Nat} {ds : List ZFd} {v : Int32} (hP : ∀ q z, σ.2.2.1 q = some z → q ≠ w.2.2 i) (hi : L i = some (.inr (ci, ds))) (hk : ds[k]? = some none) : zUpd w L σ (sI σ i k v) (w.2.2 i) (.inr (ci, (zFs w σ i 0 ds).set k (.int v))) := by
  refine ⟨rfl, fun _ => Iff.rfl, fun j d hd => ⟨fun e => ?_, fun e => ?_⟩, fun q z hq => ⟨fun e => absurd e (hP q z hq), fun _ => hq⟩, fun _ _ _ => rfl⟩
  · have := hj j i d _ hd hi e
    subst this
    cases hd.symm.trans hi
    have := zFs_setI (w := w) (σ := σ) (i := j) (k := k) (v := v) ds 0 hk
    rw [Nat.zero_add] at this
    simp only [zCellOf, this]
  · have hne : j ≠ i := fun q => e (by rw [q])
    refine zCell_agree (σ := σ) (σ' := sI σ i k v) ?_ rfl d
    funext b
    simp [sI, hne]
theorem zUpd.fixG {w : ZW} {L : ZL} (hj : zInj w L) {σ : ZS} {i k ci : Nat} {ds : List ZFd} {v : Option Nat} (hP : ∀ q z, σ.2.2.1 q = some z → q ≠ w.2.2 i) (hi : L i = some (.inr (ci, ds))) (hk : ds[k]? = some (some none)) : zUpd w L σ (sG σ i k v) (w.2.2 i) (.inr (ci, (zFs w σ i 0 ds).set k (va_rf v))) := by
  refine ⟨rfl, fun _ => Iff.rfl, fun j d hd => ⟨fun e => ?_, fun e => ?_⟩, fun q z hq => ⟨fun e => absurd e (hP q z hq), fun _ => hq⟩, fun j n hj2 => ?_⟩
  · have := hj j i d _ hd hi e
    subst this
    cases hd.symm.trans hi
    have := zFs_setG (w := w) (σ := σ) (i := j) (k := k) (v := v) ds 0 hk
    rw [Nat.zero_add] at this
    simp only [zCellOf, this]
  · have hne : j ≠ i := fun q => e (by rw [q])
    refine zCell_agree (σ := σ) (σ' := sG σ i k v) rfl ?_ d
    funext b
    simp [sG, hne]
  · have hne : j ≠ i := fun q => by subst q; cases hi.symm.trans hj2
    funext b
    simp [sG, hne]
theorem zUpd.arrI {w : ZW} {L : ZL} (hj : zInj w L) {σ : ZS} {i k t n : Nat} {v : Int32} (hP : ∀ q z, σ.2.2.1 q = some z → q ≠ w.2.2 i) (hi : L i = some (.inl (t, n, false))) : zUpd w L σ (sI σ i k v) (w.2.2 i) (.inl (w.2.1 t, n, .inl (upd (σ.1 i) k v))) := by
  refine ⟨rfl, fun _ => Iff.rfl, fun j d hd => ⟨fun e => ?_, fun e => ?_⟩, fun q z hq => ⟨fun e => absurd e (hP q z hq), fun _ => hq⟩, fun _ _ _ => rfl⟩
  · have := hj j i d _ hd hi e
    subst this
    cases hd.symm.trans hi
    simp only [zCellOf, Sum.inl.injEq, Prod.mk.injEq, true_and]
    funext b
    simp [sI, upd]
  · have hne : j ≠ i := fun q => e (by rw [q])
    refine zCell_agree (σ := σ) (σ' := sI σ i k v) ?_ rfl d
    funext b
    simp [sI, hne]
theorem zUpd.arrG {w : ZW} {L : ZL} (hj : zInj w L) {σ : ZS} {i k t n : Nat} {v : Option Nat} (ht6 : t ≠ 6) (hP : ∀ q z, σ.2.2.1 q = some z → q ≠ w.2.2 i) (hi : L i = some (.inl (t, n, true))) : zUpd w L σ (sG σ i k v) (w.2.2 i) (.inl (w.2.1 t, n, .inr (.inr (.inr (.inr (va_up (σ.2.1 i) k v)))))) := by
  refine ⟨rfl, fun _ => Iff.rfl, fun j d hd => ⟨fun e => ?_, fun e => ?_⟩, fun q z hq => ⟨fun e => absurd e (hP q z hq), fun _ => hq⟩, fun j n hj2 => ?_⟩
  · have := hj j i d _ hd hi e
    subst this
    cases hd.symm.trans hi
    simp only [zCellOf, Sum.inl.injEq, Sum.inr.injEq, Prod.mk.injEq, true_and]
    funext b
    simp [sG, va_up]
  · have hne : j ≠ i := fun q => e (by rw [q])
    refine zCell_agree (σ := σ) (σ' := sG σ i k v) rfl ?_ d
    funext b
    simp [sG, hne]
  · have hne : j ≠ i := fun q => by subst q; cases hi.symm.trans hj2; exact ht6 rfl
    funext b
    simp [sG, hne]
theorem zUpd.pool {w : ZW} {L : ZL} {σ : ZS} {a : Nat} {x x' : va_E} (hx : σ.2.2.1 a = some x) (hP : ∀ i d, L i = some d → a ≠ w.2.2 i) : zUpd w L σ (sP σ a x') a x' := by
  refine ⟨rfl, fun q => ?_, fun j d hd => ⟨fun e => absurd e.symm (hP j d hd), fun _ => zCell_agree (σ := σ) (σ' := sP σ a x') rfl rfl d⟩, fun q z hq => ?_, fun _ _ _ => rfl⟩
  · by_cases e : q = a
    · subst e; simp [sP, hx]
    · simp [sP, e]
  · by_cases e : q = a
    · subst e
      simp [sP] at hq
      exact ⟨fun _ => hq.symm, fun h => absurd rfl h⟩
    · simp [sP, e] at hq
      exact ⟨fun h => absurd h e, fun _ => hq⟩
/-- a new cell -/
theorem zHold.new {cl : List vw_C} {w : ZW} {L : ZL} {σ : ZS} {H H' : Heap} {x : va_E} {n : Nat} (h : zHold cl w L σ H) (ha : va_at w.1 cl (H.size, x) H') (hz : H'.size = H.size + 1) (ho : ∀ q, q < H.size → H'[q]? = H[q]?) : zHold cl w L (sN σ x n) H' := by
  refine ⟨by rw [hz, h.1]; rfl, fun i d hi => ?_, fun q z hq => ?_, fun i n hi j hj => h.2.2.2 i n hi j hj⟩
  · rw [zCell_agree (σ := σ) (σ' := sN σ x n) rfl rfl d]
    exact (h.2.1 i d hi).kept (ho _ (h.2.1 i d hi).lt)
  · by_cases e : q = σ.2.2.2.1
    · simp [sN, e] at hq
      subst hq
      rw [e, ← h.1]
      refine ⟨ha, fun i d hi e2 => ?_⟩
      have := (h.2.1 i d hi).lt
      simp only at this
      omega
    · simp [sN, e] at hq
      obtain ⟨h1, h2⟩ := h.2.2.1 q z hq
      exact ⟨h1.kept (ho _ h1.lt), h2⟩
