/-! the plain law, 30: beds, judge -/
theorem in_lt {i n : Nat} (hi : i < 1000) (hn : n < 1000) : (0 ≤ on i ∧ on i ≤ on n - 1) ↔ i < n := by
  cases n with
  | zero =>
    refine ⟨fun h => ?_, fun h => by omega⟩
    exact absurd (show (0 : Int32) ≤ 0 - 1 from Int32.le_trans h.1 h.2) (by decide)
  | succ n =>
    rw [on_s1, on_le (by omega) (by omega)]
    exact ⟨fun h => by omega, fun h => ⟨on_ge (by omega), by omega⟩⟩
theorem FI.bed0 {f : Nat → Int32} (h : FI f) {c : Nat} {v : Int32} (hc : c < 8) : FI (upd f (9 + 3 * c) v) :=
  h.up (by omega) (by omega) (by omega) (fun e => by omega) (fun e => by omega) (fun e => by omega) (fun e => by omega) (fun e => by omega) (fun s _ e => by omega) (fun s _ e => by omega) (fun s _ e => by omega)
theorem beds_L {w : ZW} {k nc o t r n0 : Nat} {y1 : Int32} {h : Nat → Int32} (hk : k < 4) (h8 : nc ≤ 8) (ht : t < 3) (hn0 : n0 ≤ 40) : ∀ (d i n n' : Nat) (f : Nat → Int32) (σ τ : ZS), i + d = nc → d < n → d < n' → f 1 = on nc → BR w σ 100 f → isRow τ 1 f → FI f → σ.2.2.1 o = some (.inr (20 + t, [.ref r])) → σ.2.2.1 r = some (.inl (w.2.1 (aty t), n0, .inl h)) → τ.1 22 k = on n0 → (∀ i, i < n0 → τ.1 23 (40 * k + i) = h i) → ∃ j g σ' τ', j ≤ 40 ∧ fX0_beds_L17 w o y1 n (on i) σ = some (on j, σ') ∧ fX6_beds_L33 (on k) n' (on i) τ = some (on j, τ') ∧ BR w σ' 100 g ∧ isRow τ' 1 g ∧ FI g ∧ (∀ r, r ≠ 102 → σ'.1 r = σ.1 r) ∧ σ'.2 = σ.2 ∧ (∀ r, r ≠ 1 → τ'.1 r = τ.1 r) ∧ τ'.2 = τ.2
  | d, i, 0, n', f, σ, τ, hi, hd, hd', hn, hr, hm, hI, s3, s4, s7, s8 => by omega
  | d, i, n + 1, 0, f, σ, τ, hi, hd, hd', hn, hr, hm, hI, s3, s4, s7, s8 => by omega
  | d, i, n + 1, n' + 1, f, σ, τ, hi, hd, hd', hn, hr, hm, hI, s3, s4, s7, s8 => by
    have tk : (on k).toNatClampNeg = k := tn_ofNat (by omega)
    rw [fX0_beds_L17, fX6_beds_L33, s3, oSheet_of ht, bo_some, size_ok ht s4, bo_some, gd_pos (on_in (n := 4) (by omega) (by omega)), tk, s7]
    have stop : ∃ j g σ' τ', j ≤ 40 ∧ (some (on i, σ) : Option (Int32 × ZS)) = some (on j, σ') ∧ (some (on i, τ) : Option (Int32 × ZS)) = some (on j, τ') ∧ BR w σ' 100 g ∧ isRow τ' 1 g ∧ FI g ∧ (∀ r, r ≠ 102 → σ'.1 r = σ.1 r) ∧ σ'.2 = σ.2 ∧ (∀ r, r ≠ 1 → τ'.1 r = τ.1 r) ∧ τ'.2 = τ.2 := ⟨i, f, σ, τ, by omega, rfl, rfl, hr, hm, hI, fun _ _ => rfl, rfl, fun _ _ => rfl, rfl⟩
    by_cases q1 : on n0 ≤ on i
    · rw [if_pos q1, if_pos q1]
      exact stop
    · rw [if_neg q1, if_neg q1]
      have l1 : i < n0 := by rw [on_le (by omega) (by omega)] at q1; omega
      unfold fX0_isCell fX6_isCell
      rw [xi, wi, ← hr.1.2.1, show τ.1 1 (1 : Int32).toNatClampNeg = f 1 from hm 1 (by omega), hn]
      by_cases q2 : i < nc
      · rw [if_pos ((in_lt (by omega) (by omega)).mpr q2), if_neg (show ¬ (1 : Int32) = 0 by decide), if_neg (show ¬ (1 : Int32) = 0 by decide), get_ok ht s4 l1 hn0, bo_some, i40 hk (by omega), gd_pos (on_in (n := 160) (by omega) (by omega)), tn_ofNat (show 40 * k + i < 2147483648 by omega), s8 i l1]
        unfold fX6_isDigit
        rw [xi, wi]
        by_cases q3 : 0 ≤ h i ∧ h i ≤ 9
        · obtain ⟨d, rfl⟩ : ∃ m, d = m + 1 := ⟨d - 1, by omega⟩
          rw [if_pos q3, if_neg (show ¬ (1 : Int32) = 0 by decide), if_neg (show ¬ (1 : Int32) = 0 by decide), bo_some, gd_pos (on_in (n := 8) (by omega) (by omega)), nm_eq, nm_eq, nm_eq, (cellAt_on i (by omega)).1, gd_pos (on_in (n := 242) (by omega) (by omega)), tn_ofNat (show i < 2147483648 by omega), tn_ofNat (show 9 + 3 * i < 2147483648 by omega), on_a1]
          obtain ⟨j, g, σ', τ', a0, a1, a2, a3, a4, a5, a6, a7, a8, a9⟩ := beds_L (w := w) (y1 := y1) hk h8 ht hn0 d (i + 1) n n' (upd f (9 + 3 * i) (h i)) (sI σ (100 + 2) i (h i)) (sI τ 1 (9 + 3 * i) (h i)) (by omega) (by omega) (by omega) (by rw [upd_n (by omega)]; exact hn) (hr.bed (k := 0) (by omega) (by omega)) hm.st (hI.bed0 (by omega)) s3 s4 (by rw [sI_r (by decide)]; exact s7) (fun i' hi' => by rw [sI_r (by decide)]; exact s8 i' hi')
          exact ⟨j, g, σ', τ', a0, a1, a2, a3, a4, a5, fun r hr => by rw [a6 r hr, sI_r hr], a7, fun r hr => by rw [a8 r hr, sI_r hr], a9⟩
        · rw [if_neg q3, if_pos rfl, if_pos rfl]
          exact stop
      · rw [if_neg (fun x => q2 ((in_lt (by omega) (by omega)).mp x)), if_pos rfl, if_pos rfl]
        exact stop
theorem beds_act {w : ZW} {N : Nat} {σx σm : ZS} {p1 : Int32} (h : RR w N σx σm) : act w N σm (fX0_beds w σx p1) (fX6_beds σm p1) := by
  have h0 := h
  obtain ⟨⟨f, hf⟩, hT⟩ := h
  obtain ⟨A, hA, hi, hd⟩ := hT.2.2.2.2.1
  unfold fX0_beds fX6_beds fX0_isSheet fX6_isSheet
  simp only [xi, wi]
  by_cases q1 : 0 ≤ p1 ∧ p1 ≤ 3
  · simp only [if_pos q1, i10, eq_self, ↓reduceIte, nm_eq, nd1', bd_some, sc_inl]
    obtain ⟨k, -, k2, rfl⟩ := on_rng (lo := 0) (hi := 3) (by omega) q1
    obtain ⟨hA1, hA2⟩ := hA k (by omega)
    rw [gd_pos (on_in (n := 4) (by omega) (by omega)), tn_ofNat (show k < 2147483648 by omega)]
    rcases hA2 with ⟨s1, s2⟩ | ⟨o, r, t, n, g, s1, s2, s3, s4, s5, s6, s7, s8⟩
    · rw [sheetAt_n (by omega) hA1 s1, bd_some, sc_inr, s2, if_pos rfl]
      exact err2 h0 bd_id bd_id
    · rw [sheetAt_s (by omega) hA1 s1 s2 s3, bd_some, sc_inl, s6, if_neg (wid0 s2)]
      obtain ⟨nc, n1, n2, n3, -⟩ := hf.2.2.1.1
      obtain ⟨j, g', σ', τ', a0, a1, a2, a3, a4, a5, a6, a7, a8, a9⟩ := beds_L (w := w) (y1 := on k) (show k < 4 by omega) n3 s2 s5 nc 0 10000 10000 f σx σm (by omega) (by omega) (by omega) n1 hf.1 hf.2.1 hf.2.2.1 s3 s4 s7 (fun i hi => (s8 i hi).1)
      obtain ⟨τ2, c1, c2, c3, c4⟩ := forget_ok (σ := τ')
      rw [show fX0_beds_L17 w o (on k) 10000 0 σx = _ from a1, bd_some, show fX6_beds_L33 (on k) 10000 0 σm = _ from a2, bd_some, c1, bd_some]
      refine act_mk rfl rfl ⟨⟨g', a3, fun j hj => by rw [c3 1 (by decide)]; exact a4 j hj, a5, c4 g'⟩, ?_⟩ (c2.trans a9)
      exact hT.congr (by omega) (fun r hr => a6 r (by omega)) (fun r hr => by rw [a7]) (by rw [a7]) (fun r hr => by rw [c3 r (by omega), a8 r (by omega)])
  · simp only [if_neg q1, eq_self, ↓reduceIte, nm_eq, nd0, bd_some, sc_inr, bd_id]
    exact err1 h0 rfl rfl
theorem judge_L {w : ZW} {k ns o t r n0 : Nat} {y1 : Int32} {h f : Nat → Int32} {σ τ : ZS} (hk : k < 4) (h7 : ns ≤ 7) (ht : t < 3) (hn0 : n0 ≤ 40) (hn : f 2 = on ns) (hr : BR w σ 100 f) (hm : isRow τ 1 f) (s3 : σ.2.2.1 o = some (.inr (20 + t, [.ref r]))) (s4 : σ.2.2.1 r = some (.inl (w.2.1 (aty t), n0, .inl h))) (s7 : τ.1 22 k = on n0) (s8 : ∀ i, i < n0 → τ.1 23 (40 * k + i) = h i) : ∀ (d i n n' : Nat), i + d = ns → d < n → d < n' → ∃ j, j ≤ 40 ∧ fX0_judge_L17 σ w o y1 n (on i) = some (on j) ∧ fX6_judge_L33 τ (on k) n' (on i) = some (on j)
  | d, i, 0, n', hi, hd, hd' => by omega
  | d, i, n + 1, 0, hi, hd, hd' => by omega
  | d, i, n + 1, n' + 1, hi, hd, hd' => by
    have tk : (on k).toNatClampNeg = k := tn_ofNat (by omega)
    rw [fX0_judge_L17, fX6_judge_L33, s3, oSheet_of ht, bo_some, size_ok ht s4, bo_some, gd_pos (on_in (n := 4) (by omega) (by omega)), tk, s7]
    have stop : ∃ j, j ≤ 40 ∧ (some (on i) : Option Int32) = some (on j) ∧ (some (on i) : Option Int32) = some (on j) := ⟨i, by omega, rfl, rfl⟩
    by_cases q1 : on n0 ≤ on i
    · rw [if_pos q1, if_pos q1]
      exact stop
    · rw [if_neg q1, if_neg q1]
      have l1 : i < n0 := by rw [on_le (by omega) (by omega)] at q1; omega
      unfold fX0_isShip fX6_isShip
      rw [xi, wi, ← hr.1.2.2.1, show τ.1 1 (2 : Int32).toNatClampNeg = f 2 from hm 2 (by omega), hn]
      by_cases q2 : i < ns
      · obtain ⟨d, rfl⟩ : ∃ m, d = m + 1 := ⟨d - 1, by omega⟩
        rw [if_pos ((in_lt (by omega) (by omega)).mpr q2), if_neg (show ¬ (1 : Int32) = 0 by decide), if_neg (show ¬ (1 : Int32) = 0 by decide), get_ok ht s4 l1 hn0, bo_some, i40 hk (by omega), gd_pos (on_in (n := 160) (by omega) (by omega)), tn_ofNat (show 40 * k + i < 2147483648 by omega), s8 i l1, gd_pos (on_in (n := 7) (by omega) (by omega)), tn_ofNat (show i < 2147483648 by omega), show fX6_shipIs τ (on i) 3 = _ from shipIs_ok (k := 3) hm (show i < 7 by omega) (by omega), bo_some, ← (hr.2.2.1 i (by omega)).2.1, show 33 + 5 * i + 3 = 36 + 5 * i by omega]
        by_cases q3 : h i = f (36 + 5 * i)
        · rw [if_pos q3, if_pos q3, nm_eq, nm_eq, on_a1]
          exact judge_L hk h7 ht hn0 hn hr hm s3 s4 s7 s8 d (i + 1) n n' (by omega) (by omega) (by omega)
        · rw [if_neg q3, if_neg q3]
          exact stop
      · rw [if_neg (fun x => q2 ((in_lt (by omega) (by omega)).mp x)), if_pos rfl, if_pos rfl]
        exact stop
theorem judge_act {w : ZW} {N : Nat} {σx σm : ZS} {p1 : Int32} (h : RR w N σx σm) : act w N σm (fX0_judge w σx p1) (fX6_judge σm p1) := by
  have h0 := h
  obtain ⟨⟨f, hf⟩, hT⟩ := h
  obtain ⟨A, hA, hi, hd⟩ := hT.2.2.2.2.1
  unfold fX0_judge fX6_judge fX0_isSheet fX6_isSheet
  simp only [xi, wi]
  by_cases q1 : 0 ≤ p1 ∧ p1 ≤ 3
  · simp only [if_pos q1, i10, eq_self, ↓reduceIte, nm_eq, nd1', bd_some, sc_inl]
    obtain ⟨k, -, k2, rfl⟩ := on_rng (lo := 0) (hi := 3) (by omega) q1
    obtain ⟨hA1, hA2⟩ := hA k (by omega)
    rw [gd_pos (on_in (n := 4) (by omega) (by omega)), tn_ofNat (show k < 2147483648 by omega)]
    rcases hA2 with ⟨s1, s2⟩ | ⟨o, r, t, n, g, s1, s2, s3, s4, s5, s6, s7, s8⟩
    · rw [sheetAt_n (by omega) hA1 s1, bd_some, sc_inr, s2, if_pos rfl]
      exact err2 h0 bd_id bd_id
    · rw [sheetAt_s (by omega) hA1 s1 s2 s3, bd_some, sc_inl, s6, if_neg (wid0 s2)]
      obtain ⟨ns, n1, n2⟩ := hf.2.2.1.2.1
      obtain ⟨j, a0, a1, a2⟩ := judge_L (w := w) (y1 := on k) (show k < 4 by omega) n2 s2 s5 n1 hf.1 hf.2.1 s3 s4 s7 (fun i hi => (s8 i hi).1) ns 0 10000 10000 (by omega) (by omega) (by omega)
      rw [show fX0_judge_L17 σx w o (on k) 10000 0 = _ from a1, bo_some, show fX6_judge_L33 σm (on k) 10000 0 = _ from a2, bo_some, s3, oSheet_of s2, bo_some, size_ok s2 s4, bo_some, s7, ← hf.1.1.2.2.1, show σm.1 1 (2 : Int32).toNatClampNeg = f 2 from hf.2.1 2 (by omega)]
      exact act_mk rfl rfl h0.st0 rfl
  · simp only [if_neg q1, eq_self, ↓reduceIte, nm_eq, nd0, bd_some, sc_inr, bd_id]
    exact err1 h0 rfl rfl
