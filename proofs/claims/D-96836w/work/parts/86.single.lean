/-! the plain law, 37: the two readers, a single thing -/
theorem fault_ok {w : ZW} {a u n pos o c : Nat} {σ τ : ZS} {bn : List Int32} (h : PS w a u n σ τ pos o c) : ∃ σ' t, fX16_fault w σ a u bn 0 = some (.inr t, σ') ∧ KP a σ σ' ∧ oFt (σ'.2.2.1 t) = some (on pos) ∧ wfP σ' := by
  obtain ⟨ha, -, -, -, -, -, -, hh, hw, hb1, hb2, -⟩ := h
  have la := hw _ _ ha
  unfold fX16_fault fX18_init fJ2_init fJ1_init fJ0_init_2
  rw [if_pos rfl, gd_pos (show 1 ≤ σ.2.2.2.2.1 by omega), gd_pos (show 7 ≤ σ.2.2.2.2.2 by omega), nm_eq, nm_eq, sN_n (show a ≠ σ.2.2.2.1 by omega), ha, oRd_of, bo_some, sN_s, show oC7 17 (some (.inr (17, [.null, .null, .null, .null, .null, .int 0, .int 0]))) = some (.null, .null, .null, .null, .null, .int 0, .int 0) from rfl, bo_some]
  simp only [nm_eq, bd_some]
  rw [sP_s, show oC7 17 (some (.inr (17, [.null, .null, .null, .null, .null, .int 0, .int 0]))) = some (.null, .null, .null, .null, .null, .int 0, .int 0) from rfl, bo_some, bd_some]
  refine ⟨_, σ.2.2.2.1, rfl, ?_, ?_, ?_⟩
  · refine ⟨rfl, rfl, Nat.le_succ _, fun b x hb hx => ?_⟩
    have := hw b x hx
    rw [sP_n (by omega), sP_n (by omega), sP_n (by omega), sP_n (by omega), sP_n (by omega), sP_n (by omega), sP_n (by omega), sP_n (by omega), sN_n (by omega)]
    exact hx
  · rw [sP_s]
    rfl
  · intro b x hx
    show b < σ.2.2.2.1 + 1
    by_cases e : b = σ.2.2.2.1
    · omega
    · rw [sP_n e, sP_n e, sP_n e, sP_n e, sP_n e, sP_n e, sP_n e, sP_n e, sN_n e] at hx
      have := hw b x hx
      omega
theorem fault_1 {w : ZW} {a u : Nat} {σ : ZS} {bn : List Int32} : fX16_fault w σ a u bn 1 = some (.inl (), σ) := rfl
/-- the reader's cell changes -/
theorem PS.rdr {w : ZW} {a u n pos o c pos' o' c' : Nat} {σ τ τ' : ZS} (h : PS w a u n σ τ pos o c) (t1 : τ'.1 1 = τ.1 1) (t9 : τ'.1 0 9 = τ.1 0 9) (t7 : τ'.1 0 7 = on pos') (t8 : τ'.1 0 8 = on o') (t10 : τ'.1 0 10 = 0) (t12 : τ'.1 0 12 = on c') (hb : o' + pos ≤ o + pos' ∧ pos' ≤ n ∧ o' ≤ 5 ∧ c' ≤ pos') : PS w a u n (sP σ a (.inr (15, [.ref (zsK w u), .ref (w.2.2 (100 + 16)), .int (on n), .int (on pos'), .int (on o')]))) τ' pos' o' c' ∧ KP a σ (sP σ a (.inr (15, [.ref (zsK w u), .ref (w.2.2 (100 + 16)), .int (on n), .int (on pos'), .int (on o')]))) := by
  have hb1 := h.2.2.2.2.2.2.2.2.2.1
  have hb2 := h.2.2.2.2.2.2.2.2.2.2.1
  refine ⟨h.mk rfl sP_s t1 t9 t7 t8 t10 t12 ⟨hb.2.1, hb.2.2.1, hb.2.2.2⟩ (sP_wf h.1 h.2.2.2.2.2.2.2.2.1) ?_ ?_, rfl, rfl, Nat.le_refl _, fun b x hb hx => by rw [sP_n hb]; exact hx⟩
  · show 60 + o' ≤ σ.2.2.2.2.1 + pos'
    omega
  · show 300 + 3 * o' ≤ σ.2.2.2.2.2 + 3 * pos'
    omega
/-- a term of one field is made -/
theorem PS.one {w : ZW} {a u n pos o c p : Nat} {σ τ : ZS} {x : va_E} (h : PS w a u n σ τ pos o c) (hp : p < pos) (hb1 : 60 + o ≤ σ.2.2.2.2.1 + p) (hb2 : 300 + 3 * o ≤ σ.2.2.2.2.2 + 3 * p) {σ' : ZS} (h1 : σ'.1 = σ.1) (h2 : σ'.2.1 = σ.2.1) (h3 : σ'.2.2.2 = (sN σ x 1).2.2.2) (h4 : σ'.2.2.1 σ.2.2.2.1 = some x) (h5 : ∀ b, b ≠ σ.2.2.2.1 → σ'.2.2.1 b = σ.2.2.1 b) : PS w a u n σ' τ pos o c ∧ KP a σ σ' := by
  have hw := h.2.2.2.2.2.2.2.2.1
  have la := hw _ _ h.1
  have hh := h.2.2.2.2.2.2.2.1
  refine ⟨h.mk h1 (by rw [h5 a (by omega)]; exact h.1) rfl rfl h.2.1 h.2.2.1 h.2.2.2.1 h.2.2.2.2.1 ⟨by omega, by omega, by omega⟩ (fun b y hb => ?_) ?_ ?_, h1, h2, by rw [h3]; exact Nat.le_succ _, fun b y hb hy => ?_⟩
  · rw [h3]
    show b < σ.2.2.2.1 + 1
    by_cases e : b = σ.2.2.2.1
    · omega
    · rw [h5 b e] at hb
      have := hw b y hb
      omega
  · rw [h3]
    show 60 + o ≤ σ.2.2.2.2.1 - 1 + pos
    omega
  · rw [h3]
    show 300 + 3 * o ≤ σ.2.2.2.2.2 - 1 + 3 * pos
    omega
  · have := hw b y hy
    rw [h5 b (by omega)]
    exact hy
theorem init1_ok {σ : ZS} {q : Nat} {v : Int32} {r : Nat} : (σ.2.2.1 q = some (.inr (16, [.int 0])) → fX17_init σ q v = some ((), sP σ q (.inr (16, [.int v])))) ∧ (σ.2.2.1 q = some (.inr (18, [.null])) → fX19_init σ q r = some ((), sP σ q (.inr (18, [.ref r])))) ∧ (σ.2.2.1 q = some (.inr (19, [.int 0])) → fX20_init σ q v = some ((), sP σ q (.inr (19, [.int v])))) := by
  refine ⟨fun h => ?_, fun h => ?_, fun h => ?_⟩
  · unfold fX17_init fX7_init
    rw [bo_some, h]
    rfl
  · unfold fX19_init fX7_init
    rw [bo_some, h]
    rfl
  · unfold fX20_init fX7_init
    rw [bo_some, h]
    rfl
theorem byte_id : ∀ v, v < 128 → on v &&& 255 = on v := by decide +kernel
theorem byte_ng : ∀ v, v < 129 → v ≠ 0 → (-(on v)) &&& 255 = on (256 - v) := by decide +kernel
theorem byte_eq {x : Int32} {v : Nat} (hx : fits .byte (.int x) = true) (hv : v < 128) (h : x &&& 255 = on v) : x = on v := by
  have hx' : -128 ≤ x ∧ x ≤ 127 := by
    have : (decide (-128 ≤ x) && decide (x ≤ 127)) = true := hx
    simpa using this
  have h1 := i_le.mp hx'.1
  have h2 := i_le.mp hx'.2
  have e1 : (-128 : Int32).toInt = -128 := rfl
  have e2 : (127 : Int32).toInt = 127 := rfl
  by_cases q : 0 ≤ x
  · obtain ⟨k, k1, rfl⟩ := on_ex (n := 128) q (by omega)
    rw [byte_id k k1] at h
    exact h
  · have q' : x.toInt < 0 := by
      rw [i_le] at q
      have e0 : (0 : Int32).toInt = 0 := rfl
      omega
    obtain ⟨j, hj⟩ : ∃ j : Nat, x.toInt = -(j : Int) := ⟨(-x.toInt).toNat, by omega⟩
    have e : x = -(on j) := by
      apply i_eq
      rw [Int32.toInt_neg, i_ofNat (by omega), hj]
      exact (Int.bmod_eq_of_le (by omega) (by omega)).symm
    rw [e, byte_ng j (by omega) (by omega), on_eq (by omega) (by omega)] at h
    omega
theorem nameOf_c {σ σ' : ZS} {y : Int32} (h : σ.1 0 9 = σ'.1 0 9) : ∀ (n : Nat) (y2 y3 : Int32), fX6_nameOf_L4 σ y n y2 y3 = fX6_nameOf_L4 σ' y n y2 y3
  | 0, _, _ => rfl
  | n + 1, y2, y3 => by
    rw [fX6_nameOf_L4, fX6_nameOf_L4, h]
    simp only [nameOf_c h n]
def s0u (u : Nat) : ZS := (fun _ _ => on u, fun _ _ => none, fun _ => none, 0, 0, 0)
/-- which name a letter is -/
def nmi (u v : Nat) : Int32 := if on v = ltr u 0 then 0 else if on v = ltr u 1 then 1 else if on v = ltr u 2 then 2 else -1
theorem name_all : ∀ u, u < 2 → ∀ v, v < 256 → fX6_nameOf (s0u u) (on v) = some (nmi u v) := by decide +kernel
theorem nameOf_ok {τ : ZS} {u v : Nat} (h : τ.1 0 9 = on u) (hu : u < 2) (hv : v < 256) : fX6_nameOf τ (on v) = some (nmi u v) := by
  rw [← name_all u hu v hv]
  unfold fX6_nameOf
  rw [nameOf_c (σ' := s0u u) h]
theorem bn_mem : ∀ u, u < 2 → ∀ v, v < 256 → (on v ∈ sets.getD u [] → ∃ k, k < 3 ∧ on v = ltr u k ∧ nmi u v = on k ∧ v < 128 ∧ ¬ on v = 33 ∧ ¬ on v = 40 ∧ ¬ ((48 : Int32) ≤ on v ∧ on v ≤ 57)) ∧ (¬ on v ∈ sets.getD u [] → nmi u v = -1) := by
  intro u hu v hv
  rcases (show u = 0 ∨ u = 1 by omega) with rfl | rfl
  · refine ⟨fun h => ?_, fun h => ?_⟩
    · have h' : on v = 99 ∨ on v = 121 ∨ on v = 98 := by simpa [sets] using h
      rcases h' with h | h | h
      · have e : v = 99 := (on_eq (by omega) (by omega)).mp (h.trans (show (99 : Int32) = on 99 from rfl))
        subst e
        exact ⟨0, by decide⟩
      · have e : v = 121 := (on_eq (by omega) (by omega)).mp (h.trans (show (121 : Int32) = on 121 from rfl))
        subst e
        exact ⟨1, by decide⟩
      · have e : v = 98 := (on_eq (by omega) (by omega)).mp (h.trans (show (98 : Int32) = on 98 from rfl))
        subst e
        exact ⟨2, by decide⟩
    · have h' : ¬ (on v = 99 ∨ on v = 121 ∨ on v = 98) := by simpa [sets] using h
      unfold nmi
      rw [if_neg (show ¬ on v = ltr 0 0 from fun x => h' (Or.inl x)), if_neg (show ¬ on v = ltr 0 1 from fun x => h' (Or.inr (Or.inl x))), if_neg (show ¬ on v = ltr 0 2 from fun x => h' (Or.inr (Or.inr x)))]
  · refine ⟨fun h => ?_, fun h => ?_⟩
    · have h' : on v = 100 ∨ on v = 109 ∨ on v = 104 := by simpa [sets] using h
      rcases h' with h | h | h
      · have e : v = 100 := (on_eq (by omega) (by omega)).mp (h.trans (show (100 : Int32) = on 100 from rfl))
        subst e
        exact ⟨0, by decide⟩
      · have e : v = 109 := (on_eq (by omega) (by omega)).mp (h.trans (show (109 : Int32) = on 109 from rfl))
        subst e
        exact ⟨1, by decide⟩
      · have e : v = 104 := (on_eq (by omega) (by omega)).mp (h.trans (show (104 : Int32) = on 104 from rfl))
        subst e
        exact ⟨2, by decide⟩
    · have h' : ¬ (on v = 100 ∨ on v = 109 ∨ on v = 104) := by simpa [sets] using h
      unfold nmi
      rw [if_neg (show ¬ on v = ltr 1 0 from fun x => h' (Or.inl x)), if_neg (show ¬ on v = ltr 1 1 from fun x => h' (Or.inr (Or.inl x))), if_neg (show ¬ on v = ltr 1 2 from fun x => h' (Or.inr (Or.inr x)))]
