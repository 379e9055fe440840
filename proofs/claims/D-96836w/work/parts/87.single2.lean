/-! the plain law, 38: the two readers, a single thing read -/
theorem bd_u {x : Option (Unit × ZS)} : bd x (fun (_ : Unit) s => some ((), s)) = x := by
  cases x with
  | none => rfl
  | some v => rfl
theorem sPP {σ : ZS} {a : Nat} {x y : va_E} : sP (sP σ a x) a y = sP σ a y := by
  have : (fun b => if b = a then some y else (if b = a then some x else σ.2.2.1 b)) = fun b => if b = a then some y else σ.2.2.1 b := by
    funext b
    by_cases e : b = a
    · rw [if_pos e, if_pos e]
    · rw [if_neg e, if_neg e, if_neg e]
  show (σ.1, σ.2.1, (fun b => if b = a then some y else (if b = a then some x else σ.2.2.1 b)), σ.2.2.2) = _
  rw [this]
  rfl
theorem dig {V v : Nat} (h : 48 ≤ v) : (10 : Int32) * on V + on v - 48 = on (10 * V + v - 48) := by
  rw [show (10 : Int32) = on 10 from rfl, show on 10 * on V = on (10 * V) from (Int32.ofNat_mul 10 V).symm, on_add, show 10 * V + v = (10 * V + v - 48) + 48 by omega, ← on_add, show (48 : Int32) = on 48 from rfl, Int32.add_sub_cancel]
  congr 1
theorem fig_L {w : ZW} {a u n : Nat} {bn : List Int32} {rx : Nat → ZS → Option ((Nat ⊕ Nat) × ZS)} {rm : Nat → ZS → Option (Unit × ZS)} {o c : Nat} {y : Int32} : ∀ (d k m m' V : Nat) (σ τ : ZS) (pos : Nat), k + d = 4 → d < m → d < m' → V < 10 ^ k → PS w a u n σ τ pos o c → ∃ σ' τ' pos' V' z z', fX16_single_L154 rx w a u bn m (on V) (on k) σ = some ((on V', z), σ') ∧ fX6_one_L131 rm y m' (on V) (on k) τ = some ((on V', z'), τ') ∧ KP a σ σ' ∧ KM τ τ' ∧ PS w a u n σ' τ' pos' o c ∧ pos ≤ pos' ∧ V' < 10000 ∧ τ'.1 12 = τ.1 12 ∧ σ'.2.2.2 = σ.2.2.2 ∧ (48 ≤ ch σ n pos ∧ ch σ n pos ≤ 57 → k < 4 → pos < pos')
  | d, k, 0, m', V, σ, τ, pos, hk, hm, hm', hV, h => by omega
  | d, k, m + 1, 0, V, σ, τ, pos, hk, hm, hm', hV, h => by omega
  | 0, k, m + 1, m' + 1, V, σ, τ, pos, hk, hm, hm', hV, h => by
    obtain rfl : k = 4 := by omega
    rw [fX16_single_L154, fX6_one_L131, if_pos (show (4 : Int32) ≤ on 4 by decide), if_pos (show (4 : Int32) ≤ on 4 by decide)]
    exact ⟨σ, τ, pos, V, on 4, on 4, rfl, rfl, KP.rf, KM.rf, h, Nat.le_refl _, hV, rfl, rfl, fun _ x => by omega⟩
  | d + 1, k, m + 1, m' + 1, V, σ, τ, pos, hk, hm, hm', hV, h => by
    have h4 : ¬ (4 : Int32) ≤ on k := by rw [show (4 : Int32) = on 4 from rfl, on_le (by omega) (by omega)]; omega
    have hV4 : V < 1000 := Nat.lt_of_lt_of_le hV (Nat.le_trans (Nat.pow_le_pow_right (by decide) (show k ≤ 3 by omega)) (by decide))
    rw [fX16_single_L154, fX6_one_L131, if_neg h4, if_neg h4, h.rd, bo_some, h.look, h.here]
    simp only [bo_some, xi, wi]
    by_cases q : 48 ≤ ch σ n pos ∧ ch σ n pos ≤ 57
    · rw [if_pos q, if_neg (show ¬ (1 : Int32) = 0 by decide), if_neg (show ¬ (1 : Int32) = 0 by decide)]
      rcases ch_rng (σ := σ) (n := n) (pos := pos) with ⟨hp, v, hv, e⟩ | ⟨-, e⟩
      · rw [e] at q ⊢
        have q1 : 48 ≤ v := (on_le (by omega) (by omega)).mp q.1
        have q2 : v ≤ 57 := (on_le (by omega) (by omega)).mp q.2
        simp only [nm_eq, dig q1, on_a1, h.2.1]
        have hb := h.2.2.2.2.2.2.2.1
        obtain ⟨s1, s2⟩ := h.rdr (pos' := pos + 1) (o' := o) (c' := c) (τ' := sI τ 0 7 (on (pos + 1))) (sI_r (by decide)) (sI_n (by decide)) sI_s (by rw [sI_n (by decide)]; exact h.2.2.1) (by rw [sI_n (by decide)]; exact h.2.2.2.1) (by rw [sI_n (by decide)]; exact h.2.2.2.2.1) ⟨by omega, by omega, by omega, by omega⟩
        obtain ⟨σ', τ', pos', V', z, z', a1, a2, a3, a4, a5, a6, a7, a8, a9, -⟩ := fig_L (rx := rx) (rm := rm) (bn := bn) (y := y) d (k + 1) m m' (10 * V + v - 48) _ _ (pos + 1) (by omega) (by omega) (by omega) (by rw [Nat.pow_succ]; omega) s1
        exact ⟨σ', τ', pos', V', z, z', a1, a2, s2.tr a3, (KM.rf.st (by omega)).tr a4, a5, by omega, a7, by rw [a8, sI_r (by decide)], a9, fun _ _ => by omega⟩
      · rw [e] at q
        exact absurd q (by decide)
    · rw [if_neg q, if_pos rfl, if_pos rfl]
      exact ⟨σ, τ, pos, V, on k, on k, rfl, rfl, KP.rf, KM.rf, h, Nat.le_refl _, by omega, rfl, rfl, fun x _ => absurd x q⟩
/-- one code behind nothing -/
theorem PG.one {w : ZW} {a u n pos o c r pos' : Nat} {σ τ σ' τ' : ZS} {p : Int32} (h : PS w a u n σ' τ' pos' o (c + 1)) (h1 : pos < pos') (h2 : TA σ'.2.2.1 u 1 r [p]) (h3 : ∀ j, j < c → τ'.1 12 j = τ.1 12 j) (h4 : τ'.1 12 c = p) : PG w a u n σ τ pos o c σ' τ' r pos' [p] := by
  refine ⟨h, h1, by show 1 + pos ≤ pos'; omega, Nat.le_refl _, h2, h3, fun j hj => ?_⟩
  have e : j = 0 := by
    have : j < 1 := hj
    omega
  subst e
  exact h4
theorem opens_ok {w : ZW} {a u n pos o c : Nat} {σ τ : ZS} {bn : List Int32} (h : PS w a u n σ τ pos o c) (ho : o < 5) : fX16_opens w σ a u bn = some (.inl (), sP σ a (.inr (15, [.ref (zsK w u), .ref (w.2.2 (100 + 16)), .int (on n), .int (on (pos + 1)), .int (on (o + 1))]))) := by
  unfold fX16_opens
  rw [h.rd, bo_some, if_neg (show ¬ (5 : Int32) ≤ on o by rw [show (5 : Int32) = on 5 from rfl, on_le (by omega) (by omega)]; omega), nm_eq, fault_1, bd_some, sc_inl, h.rd, bo_some]
  simp only [nm_eq, sPP, on_a1]
theorem opens_5 {w : ZW} {a u n pos c : Nat} {σ τ : ZS} {bn : List Int32} (h : PS w a u n σ τ pos 5 c) : ∃ σ' t, fX16_opens w σ a u bn = some (.inr t, σ') ∧ KP a σ σ' ∧ oFt (σ'.2.2.1 t) = some (on pos) ∧ wfP σ' := by
  obtain ⟨σ', t, f1, f2, f3, f4⟩ := fault_ok (bn := bn) h
  refine ⟨σ', t, ?_, f2, f3, f4⟩
  unfold fX16_opens
  rw [h.rd, bo_some, if_pos (show (5 : Int32) ≤ on 5 by decide), nm_eq, f1, bd_some, sc_inr]
theorem PS.mk1 {w : ZW} {a u n pos o c p : Nat} {σ τ : ZS} {x0 x : va_E} (h : PS w a u n σ τ pos o c) (hp : p < pos) (hb1 : 60 + o ≤ σ.2.2.2.2.1 + p) (hb2 : 300 + 3 * o ≤ σ.2.2.2.2.2 + 3 * p) : PS w a u n (sP (sN σ x0 1) σ.2.2.2.1 x) τ pos o c ∧ KP a σ (sP (sN σ x0 1) σ.2.2.2.1 x) ∧ (sP (sN σ x0 1) σ.2.2.2.1 x).2.2.1 σ.2.2.2.1 = some x ∧ (sN σ x0 1).2.2.1 σ.2.2.2.1 = some x0 ∧ (sN σ x0 1).2.2.1 a = σ.2.2.1 a ∧ ∀ b, b ≠ σ.2.2.2.1 → (sP (sN σ x0 1) σ.2.2.2.1 x).2.2.1 b = σ.2.2.1 b := by
  have la := h.2.2.2.2.2.2.2.2.1 _ _ h.1
  have h5 : ∀ b, b ≠ σ.2.2.2.1 → (sP (sN σ x0 1) σ.2.2.2.1 x).2.2.1 b = σ.2.2.1 b := fun b hb => by rw [sP_n hb, sN_n hb]
  obtain ⟨k1, k2⟩ := h.one (x := x) hp hb1 hb2 (σ' := sP (sN σ x0 1) σ.2.2.2.1 x) rfl rfl rfl sP_s h5
  exact ⟨k1, k2, sP_s, sN_s, sN_n (by omega), h5⟩
theorem not_bn : ∀ i, i < 9 → ¬ (-1 : Int32) ∈ sets.getD i [] := by decide
theorem name_lv {w : ZW} {a u n : Nat} {rx : Nat → ZS → Option ((Nat ⊕ Nat) × ZS)} {rm : Nat → ZS → Option (Unit × ZS)} {o : Nat} {σ τ : ZS} {pos c : Nat} (h : PS w a u n σ τ pos o c) (m1 : ch σ n pos ∈ sets.getD u []) (m2 : fX16_isOne w σ a u (sets.getD u []) (sets.getD u []) = some 1) : PO w a u n σ τ pos o c (fX16_single rx w σ a u (sets.getD u [])) (fX6_one rm τ) := by
  have hb := h.2.2.2.2.2.2.2.1
  have hb1 := h.2.2.2.2.2.2.2.2.2.1
  have hb2 := h.2.2.2.2.2.2.2.2.2.2.1
  have e10 : sI τ 0 10 0 = τ := sI_id h.2.2.2.1.symm
  rcases ch_rng (σ := σ) (n := n) (pos := pos) with ⟨hp, v, hv, e⟩ | ⟨-, e⟩
  · rw [e] at m1
    obtain ⟨k, k1, k2, k3, k4, k5, k6, k7⟩ := (bn_mem u (by omega) v hv).1 m1
    have hx0 : σ.1 116 pos = on v := byte_eq (h.2.2.2.2.2.2.2.2.2.2.2 pos (by omega)).2 k4 (by have := e; unfold ch at this; rw [if_pos hp] at this; exact this)
    obtain ⟨s1, s2⟩ := h.rdr (pos' := pos + 1) (o' := o) (c' := c + 1) (τ' := sI (sI (sI τ 12 c (10000 + on k)) 0 12 (on (c + 1))) 0 7 (on (pos + 1))) (by rw [sI_r (by decide), sI_r (by decide), sI_r (by decide)]) (by rw [sI_n (by decide), sI_n (by decide), sI_r (by decide)]) sI_s (by rw [sI_n (by decide), sI_n (by decide), sI_r (by decide)]; exact h.2.2.1) (by rw [sI_n (by decide), sI_n (by decide), sI_r (by decide)]; exact h.2.2.2.1) (by rw [sI_n (by decide), sI_s]) ⟨by omega, by omega, by omega, by omega⟩
    obtain ⟨t1, t2, t3, t4, t5, t6⟩ := s1.mk1 (p := pos) (x0 := .inr (16, [.int 0])) (x := .inr (16, [.int (on v)])) (by omega) hb1 hb2
    have hm : fX6_one rm τ = some ((), sI (sI (sI τ 12 c (10000 + on k)) 0 12 (on (c + 1))) 0 7 (on (pos + 1))) := by
      unfold fX6_one
      rw [h.here, bo_some, bd_u, e, if_neg k5, if_neg k6, wi, if_neg k7, if_pos rfl, if_pos (on_ge (by omega)), nameOf_ok h.2.2.2.2.2.1 (by omega) hv, bo_some, bo_some, h.2.2.2.1, if_pos rfl, k3, if_pos (on_ge (by omega)), nm_eq, e10, h.2.2.2.1, if_pos rfl, h.codes, bd_some, nm_eq, sI_n (by decide), sI_r (by decide), h.2.1, on_a1]
    refine ⟨_, _, s2.tr t2, ((KM.rf.st12).st (by omega)).st (by omega), hm, Or.inl ⟨σ.2.2.2.1, pos + 1, [10000 + on k], ?_, PG.one t1 (by omega) ?_ ?_ ?_⟩⟩
    · unfold fX16_single
      rw [h.rd, bo_some, m2, bo_some, if_neg (show ¬ (1 : Int32) = 0 by decide)]
      simp only [nm_eq, on_a1]
      rw [gd_pos, gd_pos, t5, sP_s, oRd_of, bo_some]
      · simp only [on_s1]
        rw [gd_pos (on_in (n := 50) (by omega) (by omega)), tn_ofNat (show pos < 2147483648 by omega), show (sN (sP σ a (.inr (15, [.ref (zsK w u), .ref (w.2.2 (100 + 16)), .int (on n), .int (on (pos + 1)), .int (on o)]))) (.inr (16, [.int 0])) 1).1 (100 + 16) pos = on v from hx0, (init1_ok (r := 0)).1 t4, bd_some]
        rfl
      · show 1 ≤ σ.2.2.2.2.2
        omega
      · show 1 ≤ σ.2.2.2.2.1
        omega
    · exact Or.inr (Or.inl ⟨k, k1, by rw [← k2]; exact t3, rfl⟩)
    · intro j hj
      rw [sI_r (by decide), sI_r (by decide), sI_n (by omega)]
    · rw [sI_r (by decide), sI_r (by decide), sI_s]
  · rw [e] at m1
    exact absurd m1 (not_bn u (by omega))
