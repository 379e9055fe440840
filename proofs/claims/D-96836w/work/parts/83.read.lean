/-! the plain law, 34: the two readers, words -/
def s00 : ZS := (fun _ _ => 0, fun _ _ => none, fun _ => none, 0, 0, 0)
def sets : List (List Int32) := [[99, 121, 98], [100, 109, 104], [33], [40], [42, 47, 37], [43, 45], [60, 61, 62], [38], [124]]
theorem idx_all : ∀ v, v < 256 → ∀ i, i < 9 → (match fxJ4_indexOf s00 (sets.getD i []) (on v) with | some r => decide (r < 0) == !((sets.getD i []).contains (on v)) | none => false) = true := by decide +kernel
theorem idx_ok {σ : ZS} {v i : Nat} (hv : v < 256) (hi : i < 9) : ∃ r, fxJ4_indexOf σ (sets.getD i []) (on v) = some r ∧ (r < 0 ↔ ¬ (on v) ∈ sets.getD i []) := by
  have h := idx_all v hv i hi
  have e : fxJ4_indexOf σ (sets.getD i []) (on v) = fxJ4_indexOf s00 (sets.getD i []) (on v) := rfl
  rw [e]
  cases q : fxJ4_indexOf s00 (sets.getD i []) (on v) with
  | none => rw [q] at h; exact absurd h Bool.false_ne_true
  | some r =>
    rw [q] at h
    refine ⟨r, rfl, ?_⟩
    simp only [beq_iff_eq] at h
    constructor
    · intro hr hm
      rw [decide_eq_true hr, List.contains_iff_mem.mpr hm] at h
      exact absurd h (by decide)
    · intro hm
      by_cases hr : r < 0
      · exact hr
      · rw [decide_eq_false hr] at h
        have : (sets.getD i []).contains (on v) = true := by
          cases hc : (sets.getD i []).contains (on v)
          · rw [hc] at h; exact absurd h (by decide)
          · rfl
        exact absurd (List.contains_iff_mem.mp this) hm
/-- the byte at pos, -1 past the end -/
def ch (σ : ZS) (n pos : Nat) : Int32 := if pos < n then σ.1 116 pos &&& 255 else -1
theorem and255 (x : Int32) : ∃ v, v < 256 ∧ x &&& 255 = on v := by
  have e : (x &&& 255).toBitVec = x.toBitVec &&& 255#32 := rfl
  have h : (x.toBitVec &&& 255#32).toNat < 256 := by
    rw [BitVec.toNat_and]
    exact Nat.lt_of_le_of_lt Nat.and_le_right (by decide)
  refine ⟨(x.toBitVec &&& 255#32).toNat, h, ?_⟩
  apply Int32.toBitVec_inj.mp
  rw [e]
  apply BitVec.eq_of_toNat_eq
  show _ = (BitVec.ofNat 32 (x.toBitVec &&& 255#32).toNat).toNat
  rw [BitVec.toNat_ofNat, Nat.mod_eq_of_lt (by omega)]
theorem ch_rng {σ : ZS} {n pos : Nat} : (pos < n ∧ ∃ v, v < 256 ∧ ch σ n pos = on v) ∨ (¬ pos < n ∧ ch σ n pos = -1) := by
  unfold ch
  by_cases h : pos < n
  · rw [if_pos h]
    exact Or.inl ⟨h, and255 _⟩
  · rw [if_neg h]
    exact Or.inr ⟨h, rfl⟩
/-- the two readers stand alike -/
def PS (w : ZW) (a u n : Nat) (σ τ : ZS) (pos o c : Nat) : Prop :=
  σ.2.2.1 a = some (.inr (15, [.ref (zsK w u), .ref (w.2.2 (100 + 16)), .int (on n), .int (on pos), .int (on o)])) ∧ τ.1 0 7 = on pos ∧ τ.1 0 8 = on o ∧ τ.1 0 10 = 0 ∧ τ.1 0 12 = on c ∧ τ.1 0 9 = on u ∧ τ.1 1 7 = on n ∧ (pos ≤ n ∧ n ≤ 50 ∧ o ≤ 5 ∧ c ≤ pos ∧ u < 2) ∧ wfP σ ∧ 60 + o ≤ σ.2.2.2.2.1 + pos ∧ 300 + 3 * o ≤ σ.2.2.2.2.2 + 3 * pos ∧ ∀ k, k < 50 → τ.1 1 (68 + k) = σ.1 116 k &&& 255 ∧ fits .byte (.int (σ.1 116 k)) = true
def KP (a : Nat) (σ σ' : ZS) : Prop := σ'.1 = σ.1 ∧ σ'.2.1 = σ.2.1 ∧ σ.2.2.2.1 ≤ σ'.2.2.2.1 ∧ ∀ b x, b ≠ a → σ.2.2.1 b = some x → σ'.2.2.1 b = some x
theorem KP.rf {a : Nat} {σ : ZS} : KP a σ σ := ⟨rfl, rfl, Nat.le_refl _, fun _ _ _ h => h⟩
theorem KP.tr {a : Nat} {σ σ1 σ2 : ZS} (h1 : KP a σ σ1) (h2 : KP a σ1 σ2) : KP a σ σ2 := ⟨h2.1.trans h1.1, h2.2.1.trans h1.2.1, Nat.le_trans h1.2.2.1 h2.2.2.1, fun b x hb h => h2.2.2.2 b x hb (h1.2.2.2 b x hb h)⟩
def KM (τ τ' : ZS) : Prop := τ'.2 = τ.2 ∧ (∀ r, r ≠ 0 → r ≠ 12 → τ'.1 r = τ.1 r) ∧ ∀ j, j ≠ 7 → j ≠ 8 → j ≠ 10 → j ≠ 12 → τ'.1 0 j = τ.1 0 j
theorem KM.rf {τ : ZS} : KM τ τ := ⟨rfl, fun _ _ _ => rfl, fun _ _ _ _ _ => rfl⟩
theorem KM.tr {τ τ1 τ2 : ZS} (h1 : KM τ τ1) (h2 : KM τ1 τ2) : KM τ τ2 := ⟨h2.1.trans h1.1, fun r a b => (h2.2.1 r a b).trans (h1.2.1 r a b), fun j a b c d => (h2.2.2 j a b c d).trans (h1.2.2 j a b c d)⟩
theorem KM.st {τ τ' : ZS} (h : KM τ τ') {j : Nat} {v : Int32} (hj : j = 7 ∨ j = 8 ∨ j = 10 ∨ j = 12) : KM τ (sI τ' 0 j v) := ⟨h.1, fun r a b => by rw [sI_r a]; exact h.2.1 r a b, fun i a b c d => by rw [sI_n (by omega)]; exact h.2.2 i a b c d⟩
theorem KM.st12 {τ τ' : ZS} (h : KM τ τ') {j : Nat} {v : Int32} : KM τ (sI τ' 12 j v) := ⟨h.1, fun r a b => by rw [sI_r b]; exact h.2.1 r a b, fun i a b c d => by rw [sI_r (by decide)]; exact h.2.2 i a b c d⟩
theorem oRd_of {w : ZW} {u : Nat} {s t o : Int32} : oRd w u (some (.inr (15, [.ref (zsK w u), .ref (w.2.2 (100 + 16)), .int s, .int t, .int o]))) = some (s, t, o) := by
  show (if zsK w u = zsK w u ∧ w.2.2 (100 + 16) = w.2.2 (100 + 16) then some (s, t, o) else none) = _
  rw [if_pos ⟨rfl, rfl⟩]
theorem PS.rd {w : ZW} {a u n pos o c : Nat} {σ τ : ZS} (h : PS w a u n σ τ pos o c) : oRd w u (σ.2.2.1 a) = some (on n, on pos, on o) := by
  rw [h.1, oRd_of]
theorem PS.look {w : ZW} {a u n pos o c : Nat} {σ τ : ZS} {bn : List Int32} (h : PS w a u n σ τ pos o c) : fX16_look w σ a u bn = some (ch σ n pos) := by
  have hb := h.2.2.2.2.2.2.2.1
  unfold fX16_look ch
  rw [h.rd, bo_some]
  by_cases q : pos < n
  · rw [if_pos q, if_neg (show ¬ on n ≤ on pos by rw [on_le (by omega) (by omega)]; omega), gd_pos (on_in (n := 50) (by omega) (by omega)), tn_ofNat (show pos < 2147483648 by omega), bo_some]
  · rw [if_neg q, if_pos (show on n ≤ on pos by rw [on_le (by omega) (by omega)]; omega), bo_some]
theorem PS.here {w : ZW} {a u n pos o c : Nat} {σ τ : ZS} (h : PS w a u n σ τ pos o c) : fX6_here τ = some (ch σ n pos) := by
  have hb := h.2.2.2.2.2.2.2.1
  obtain ⟨-, h7, h8, h10, h12, h9, h17, -, -, -, -, hk⟩ := h
  unfold fX6_here ch
  rw [h10, if_pos rfl, show τ.1 1 (7 : Int32).toNatClampNeg = on n from h17, h7]
  by_cases q : pos < n
  · rw [if_pos q, if_neg (show ¬ on n ≤ on pos by rw [on_le (by omega) (by omega)]; omega), show (68 : Int32) + on pos = on (68 + pos) from on_add 68 pos, gd_pos (on_in (n := 242) (by omega) (by omega)), tn_ofNat (show 68 + pos < 2147483648 by omega), (hk pos (by omega)).1, bo_some]
  · rw [if_neg q, if_pos (show on n ≤ on pos by rw [on_le (by omega) (by omega)]; omega), bo_some]
theorem PS.isOne {w : ZW} {a u n pos o c i : Nat} {σ τ : ZS} {bn : List Int32} (h : PS w a u n σ τ pos o c) (hi : i < 9) : (ch σ n pos ∈ sets.getD i [] ∧ fX16_isOne w σ a u bn (sets.getD i []) = some 1) ∨ (¬ ch σ n pos ∈ sets.getD i [] ∧ fX16_isOne w σ a u bn (sets.getD i []) = some 0) := by
  unfold fX16_isOne
  rw [h.rd, bo_some, h.look, bo_some]
  rcases ch_rng (σ := σ) (n := n) (pos := pos) with ⟨-, v, hv, e⟩ | ⟨-, e⟩
  · rw [e, if_neg (on_nn (by omega)), bo_some]
    obtain ⟨r, r1, r2⟩ := idx_ok (σ := σ) hv hi
    rw [r1, bo_some]
    by_cases q : r < 0
    · rw [if_pos q]
      exact Or.inr ⟨r2.mp q, rfl⟩
    · rw [if_neg q]
      exact Or.inl ⟨Decidable.byContradiction (fun x => q (r2.mpr x)), rfl⟩
  · rw [e, if_pos (by decide)]
    refine Or.inr ⟨?_, rfl⟩
    have : ∀ i, i < 9 → ¬ (-1 : Int32) ∈ sets.getD i [] := by decide
    exact this i hi
theorem PS.takes {w : ZW} {a u n pos o c : Nat} {σ τ : ZS} (h : PS w a u n σ τ pos o c) (p : Int32) : fX6_takes τ p = if ch σ n pos = p then some (1, sI τ 0 7 (on (pos + 1))) else some (0, τ) := by
  unfold fX6_takes
  rw [h.here, bo_some, h.2.1]
  by_cases q : ch σ n pos = p
  · rw [if_pos q, if_pos q, nm_eq, nm_eq, nm_eq, if_neg (show ¬ (1 : Int32) = 0 by decide), on_a1]
  · rw [if_neg q, if_neg q, nm_eq, nm_eq, nm_eq, if_pos rfl, Int32.add_zero, sI_id h.2.1.symm]
theorem wrong_takes {τ : ZS} (h : τ.1 0 10 = 1) {p : Int32} (hp : ¬ (-1 : Int32) = p) : fX6_takes τ p = some (0, τ) := by
  unfold fX6_takes fX6_here
  rw [h, if_neg (show ¬ (1 : Int32) = 0 by decide), bo_some, bo_some, if_neg hp, nm_eq, nm_eq, nm_eq, if_pos rfl, Int32.add_zero, sI_id rfl]
theorem wrong_codes {τ : ZS} (h : τ.1 0 10 = 1) {p : Int32} : fX6_codes τ p = some ((), τ) := by
  unfold fX6_codes
  rw [h, if_neg (show ¬ (1 : Int32) = 0 by decide), bd_some]
theorem PS.codes {w : ZW} {a u n pos o c : Nat} {σ τ : ZS} (h : PS w a u n σ τ pos o c) (p : Int32) : fX6_codes τ p = some ((), sI (sI τ 12 c p) 0 12 (on (c + 1))) := by
  have hb := h.2.2.2.2.2.2.2.1
  obtain ⟨-, h7, h8, h10, h12, -⟩ := h
  unfold fX6_codes
  rw [h10, if_pos rfl, h12, gd_pos (on_in (n := 60) (by omega) (by omega)), tn_ofNat (show c < 2147483648 by omega), nm_eq, sI_r (by decide), h12, on_a1, bd_some]
/-- read so far: the tree r, its codes cs -/
def PG (w : ZW) (a u n : Nat) (σ τ : ZS) (pos o c : Nat) (σ' τ' : ZS) (r pos' : Nat) (cs : List Int32) : Prop := PS w a u n σ' τ' pos' o (c + cs.length) ∧ pos < pos' ∧ cs.length + pos ≤ pos' ∧ 1 ≤ cs.length ∧ TA σ'.2.2.1 u cs.length r cs ∧ (∀ j, j < c → τ'.1 12 j = τ.1 12 j) ∧ ∀ j, j < cs.length → τ'.1 12 (c + j) = cs.getD j 0
def PB (σ' τ' : ZS) (t : Nat) : Prop := (∃ pos' : Nat, oFt (σ'.2.2.1 t) = some (on pos') ∧ τ'.1 0 7 = on pos') ∧ τ'.1 0 10 = 1 ∧ wfP σ'
def PO (w : ZW) (a u n : Nat) (σ τ : ZS) (pos o c : Nat) (x : Option ((Nat ⊕ Nat) × ZS)) (m : Option (Unit × ZS)) : Prop := ∃ σ' τ', KP a σ σ' ∧ KM τ τ' ∧ m = some ((), τ') ∧ ((∃ r pos' cs, x = some (.inl r, σ') ∧ PG w a u n σ τ pos o c σ' τ' r pos' cs) ∨ ∃ t, x = some (.inr t, σ') ∧ PB σ' τ' t)
theorem TA.mono2 {P P' : Nat → Option va_E} {u q : Nat} (hq : P q = some (.inr (7, [.int 0, .null, .null]))) (hp : ∀ a ci vs, a ≠ q → P a = some (.inr (ci, vs)) → (ci = 7 ∨ ci = 16 ∨ ci = 18 ∨ ci = 19) → P' a = some (.inr (ci, vs))) : ∀ {d a : Nat} {cs : List Int32}, TA P u d a cs → TA P' u d a cs
  | 0, _, _, h => h
  | d + 1, a, cs, h => by
    have ne : ∀ b ci vs, P b = some (.inr (ci, vs)) → ¬ (ci = 7 ∧ vs = [.int 0, .null, .null]) → b ≠ q := by
      intro b ci vs hb hn e
      rw [e, hq] at hb
      cases hb
      exact hn ⟨rfl, rfl⟩
    rcases h with ⟨v, h1, h2⟩ | ⟨k, h1, h2, h3⟩ | ⟨a1, c1, h1, h2, h3⟩ | ⟨sg, a1, a2, c1, c2, op, h1, h2, h3, h4, h5⟩
    · exact Or.inl ⟨v, hp _ _ _ (ne _ _ _ h1 (by simp)) h1 (by omega), h2⟩
    · exact Or.inr (Or.inl ⟨k, h1, hp _ _ _ (ne _ _ _ h2 (by simp)) h2 (by omega), h3⟩)
    · exact Or.inr (Or.inr (Or.inl ⟨a1, c1, hp _ _ _ (ne _ _ _ h1 (by simp)) h1 (by omega), TA.mono2 hq hp h2, h3⟩))
    · exact Or.inr (Or.inr (Or.inr ⟨sg, a1, a2, c1, c2, op, hp _ _ _ (ne _ _ _ h1 (by simp)) h1 (by omega), h2, TA.mono2 hq hp h3, TA.mono2 hq hp h4, h5⟩))
