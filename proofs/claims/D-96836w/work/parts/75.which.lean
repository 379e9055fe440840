/-! the plain law, 26: the sheets; which -/
theorem sheetAt_n {σ : ZS} {k a : Nat} (hk : k < 4) (hA : σ.2.1 7 k = some a) (hx : σ.2.2.1 a = some (.inr (5, [.null]))) : fX0_sheetAt σ (on k) = some (.inr (), sI σ 1 6 2) := by
  unfold fX0_sheetAt
  rw [gd_pos (on_in (n := 4) (by omega) (by omega)), tn_ofNat (by omega), hA, bo_some, hx]
  rfl
theorem oSheet_of {t r : Nat} (ht : t < 3) : oSheet (some (.inr (20 + t, [.ref r]))) = some (20 + t, r) := by
  rcases (show t = 0 ∨ t = 1 ∨ t = 2 by omega) with rfl | rfl | rfl <;> rfl
theorem sheetAt_s {σ : ZS} {k a o t r : Nat} (hk : k < 4) (hA : σ.2.1 7 k = some a) (hx : σ.2.2.1 a = some (.inr (5, [.ref o]))) (ht : t < 3) (ho : σ.2.2.1 o = some (.inr (20 + t, [.ref r]))) : fX0_sheetAt σ (on k) = some (.inl o, σ) := by
  unfold fX0_sheetAt
  rw [gd_pos (on_in (n := 4) (by omega) (by omega)), tn_ofNat (by omega), hA, bo_some, hx]
  show bo (σ.2.1 7 k) _ = _
  rw [hA, bo_some, hx]
  show bo (oSheet (σ.2.2.1 o)) _ = _
  rw [ho, oSheet_of ht, bo_some]
theorem oRow_of {w : ZW} {t n : Nat} {h : Nat → Int32} : oRow w t (some (.inl (w.2.1 t, n, .inl h))) = some (n, h) := by
  show (if w.2.1 t = w.2.1 t then some (n, h) else none) = some (n, h)
  rw [if_pos rfl]
theorem size_ok {w : ZW} {σ : ZS} {a t r n : Nat} {h : Nat → Int32} (ht : t < 3) (hr : σ.2.2.1 r = some (.inl (w.2.1 (aty t), n, .inl h))) : fS_Sheet_size w σ a (20 + t) r = some (on n) := by
  rcases (show t = 0 ∨ t = 1 ∨ t = 2 by omega) with rfl | rfl | rfl
  · show fX22_size w σ r = _
    unfold fX22_size
    rw [hr, show aty 0 = 1 from rfl, oRow_of, bo_some]
  · show fX23_size w σ r = _
    unfold fX23_size
    rw [hr, show aty 1 = 2 from rfl, oRow_of, bo_some]
  · show fX24_size w σ r = _
    unfold fX24_size
    rw [hr, show aty 2 = 0 from rfl, oRow_of, bo_some]
theorem get_ok {w : ZW} {σ : ZS} {a t r n i : Nat} {h : Nat → Int32} (ht : t < 3) (hr : σ.2.2.1 r = some (.inl (w.2.1 (aty t), n, .inl h))) (hi : i < n) (hn : n ≤ 40) : fS_Sheet_get w σ a (20 + t) r (on i) = some (h i) := by
  have ti : (on i).toNatClampNeg = i := tn_ofNat (by omega)
  rcases (show t = 0 ∨ t = 1 ∨ t = 2 by omega) with rfl | rfl | rfl
  · show fX22_get w σ r (on i) = _
    unfold fX22_get
    rw [hr, show aty 0 = 1 from rfl, oRow_of, bo_some, gd_pos (on_in (n := n) (by omega) (by omega)), ti]
  · show fX23_get w σ r (on i) = _
    unfold fX23_get
    rw [hr, show aty 1 = 2 from rfl, oRow_of, bo_some, gd_pos (on_in (n := n) (by omega) (by omega)), ti]
  · show fX24_get w σ r (on i) = _
    unfold fX24_get
    rw [hr, show aty 2 = 0 from rfl, oRow_of, bo_some, gd_pos (on_in (n := n) (by omega) (by omega)), ti]
theorem width_ok {w : ZW} {σ : ZS} {a t r : Nat} (ht : t < 3) : fS_Sheet_width w σ a (20 + t) r = some (wid t) := by
  rcases (show t = 0 ∨ t = 1 ∨ t = 2 by omega) with rfl | rfl | rfl <;> rfl
theorem wid0 {t : Nat} (ht : t < 3) : ¬ wid t = 0 := by
  rcases (show t = 0 ∨ t = 1 ∨ t = 2 by omega) with rfl | rfl | rfl <;> decide
theorem i40 {k i : Nat} (hk : k < 4) (hi : i < 40) : (40 : Int32) * on k + on i = on (40 * k + i) := by
  rw [show (40 : Int32) = on 40 from rfl, show on 40 * on k = on (40 * k) from (Int32.ofNat_mul 40 k).symm, on_add]
/-- the sheet h (nc cells) is shown by a beam y hours old -/
def sso (f h : Nat → Int32) (y : Int32) : Nat → Bool
  | 0 => true
  | n + 1 => sso f h y n && (decide (h n < 0) || decide (h n = shw f n y))
def bz (b : Bool) : Int32 := if b then 1 else 0
theorem bz_0 {b : Bool} : (bz b = 0) ↔ b = false := by cases b <;> decide
theorem shown_L {w : ZW} {f h : Nat → Int32} {y nc o t r n0 k : Nat} (hI : FI f) (hn : f 1 = on nc) (h8 : nc ≤ 8) (hy : y ≤ 1000) (hk : k < 4) (ht : t < 3) (hn0 : n0 = nc) : ∀ (d i n n' : Nat) (σ τ : ZS), i + d = nc → d < n → d < n' → BR w σ 100 f → σ.2.2.1 o = some (.inr (20 + t, [.ref r])) → σ.2.2.1 r = some (.inl (w.2.1 (aty t), n0, .inl h)) → isRow τ 1 f → cOK τ f → (∀ i, i < n0 → τ.1 23 (40 * k + i) = h i) → ∃ z z' σ' τ', fX0_isShownSo_L5 w o (on y) n (bz (sso f h (on y) i)) (on i) σ = some ((bz (sso f h (on y) nc), z), σ') ∧ fX6_isShownSo_L5 (on k) (on y) n' (bz (sso f h (on y) i)) (on i) τ = some ((bz (sso f h (on y) nc), z'), τ') ∧ XS 100 σ σ' ∧ MS τ τ' ∧ cOK τ' f
  | 0, i, n, n', σ, τ, hi, hd, hd', hr, ho, hr2, hm, hc, hs => by
    obtain ⟨n, rfl⟩ : ∃ m, n = m + 1 := ⟨n - 1, by omega⟩
    obtain ⟨n', rfl⟩ : ∃ m, n' = m + 1 := ⟨n' - 1, by omega⟩
    obtain rfl : i = nc := by omega
    rw [fX0_isShownSo_L5, fX6_isShownSo_L5, ← hr.1.2.1, hn, show τ.1 1 (1 : Int32).toNatClampNeg = f 1 from hm 1 (by omega), hn, if_pos (Int32.le_refl _), if_pos (Int32.le_refl _)]
    exact ⟨on i, on i, σ, τ, rfl, rfl, XS.rf, MS.rf, hc⟩
  | d + 1, i, n, n', σ, τ, hi, hd, hd', hr, ho, hr2, hm, hc, hs => by
    obtain ⟨n, rfl⟩ : ∃ m, n = m + 1 := ⟨n - 1, by omega⟩
    obtain ⟨n', rfl⟩ : ∃ m, n' = m + 1 := ⟨n' - 1, by omega⟩
    have hle : ¬ on nc ≤ on i := by rw [on_le (by omega) (by omega)]; omega
    rw [fX0_isShownSo_L5, fX6_isShownSo_L5, ← hr.1.2.1, hn, show τ.1 1 (1 : Int32).toNatClampNeg = f 1 from hm 1 (by omega), hn, if_neg hle, if_neg hle, i40 hk (by omega), gd_pos (on_in (n := 160) (by omega) (by omega)), tn_ofNat (show 40 * k + i < 2147483648 by omega), hs i (by omega)]
    simp only [nm_eq, on_a1]
    have hx0 := hI.2.2.2.2.2.2.2.2.1
    have step : ∀ (σ1 τ1 : ZS), XS 100 σ σ1 → MS τ τ1 → cOK τ1 f → ∃ z z' σ' τ', fX0_isShownSo_L5 w o (on y) n (bz (sso f h (on y) (i + 1))) (on (i + 1)) σ1 = some ((bz (sso f h (on y) nc), z), σ') ∧ fX6_isShownSo_L5 (on k) (on y) n' (bz (sso f h (on y) (i + 1))) (on (i + 1)) τ1 = some ((bz (sso f h (on y) nc), z'), τ') ∧ XS 100 σ σ' ∧ MS τ τ' ∧ cOK τ' f := by
      intro σ1 τ1 h1 h2 h3
      obtain ⟨z, z', σ2, τ2, c1, c2, c3, c4, c5⟩ := shown_L hI hn h8 hy hk ht hn0 d (i + 1) n n' σ1 τ1 (by omega) (by omega) (by omega) (hr.xs zB1 zB1 h1) (by rw [h1.1]; exact ho) (by rw [h1.1]; exact hr2) (hm.ms h2) h3 (fun j hj => by rw [h2.2 23 (by decide) (by decide) (by decide)]; exact hs j hj)
      exact ⟨z, z', σ2, τ2, c1, c2, h1.tr c3, h2.tr c4, c5⟩
    cases e : sso f h (on y) i with
    | false =>
      have e2 : sso f h (on y) (i + 1) = false := by rw [sso, e]; rfl
      rw [if_pos (show bz false = 0 from rfl), if_pos (show bz false = 0 from rfl), bd_some]
      rw [e2] at step
      obtain ⟨z, z', σ2, τ2, c1, c2, c3, c4, c5⟩ := step σ τ XS.rf MS.rf hc
      have e3 : sso f h (on y) nc = false := by
        have : ∀ m, sso f h (on y) (i + m) = false := by
          intro m
          induction m with
          | zero => exact e
          | succ m ih => rw [show i + (m + 1) = (i + m) + 1 from rfl, sso, ih]; rfl
        have := this (nc - i)
        rwa [show i + (nc - i) = nc by omega] at this
      exact ⟨on i, z', σ, τ2, by rw [e3], c2, XS.rf, c4, c5⟩
    | true =>
      rw [if_neg (show ¬ bz true = 0 by decide), if_neg (show ¬ bz true = 0 by decide), ho, oSheet_of ht, bo_some, get_ok ht hr2 (by omega) (by omega), bo_some, bo_some]
      by_cases q : h i < 0
      · have e2 : sso f h (on y) (i + 1) = true := by rw [sso, e]; simp [q]
        rw [if_pos q, if_pos q, bd_some, bd_some]
        rw [e2] at step
        exact step σ τ XS.rf MS.rf hc
      · obtain ⟨σ1, a1, a2⟩ := xshw_ok (back := on y) hr (show i < 8 by omega)
        obtain ⟨τ1, b1, b2, b3⟩ := shw_ok (back := on y) hm hx0 hc (show i < 8 by omega) hI.2.2.1.1 hI.2.2.1.2 (on_ge (by omega)) (show on y ≤ on 1000 by rw [on_le (by omega) (by omega)]; exact hy)
        rw [if_neg q, if_neg q, a1, b1, bd_some, bd_some]
        by_cases q2 : h i = shw f i (on y)
        · have e2 : sso f h (on y) (i + 1) = true := by rw [sso, e]; simp [q2]
          rw [if_pos q2, if_pos q2, bd_some, bd_some]
          rw [e2] at step
          exact step σ1 τ1 a2 b2 b3
        · have e2 : sso f h (on y) (i + 1) = false := by rw [sso, e]; simp [q, q2]
          rw [if_neg q2, if_neg q2, bd_some, bd_some]
          rw [e2] at step
          exact step σ1 τ1 a2 b2 b3
theorem shown_ok {w : ZW} {f h : Nat → Int32} {y nc o t r k : Nat} {σ τ : ZS} (hI : FI f) (hn : f 1 = on nc) (h8 : nc ≤ 8) (hy : y ≤ 1000) (hk : k < 4) (ht : t < 3) (hr : BR w σ 100 f) (ho : σ.2.2.1 o = some (.inr (20 + t, [.ref r]))) (hr2 : σ.2.2.1 r = some (.inl (w.2.1 (aty t), nc, .inl h))) (hm : isRow τ 1 f) (hc : cOK τ f) (hs : ∀ i, i < nc → τ.1 23 (40 * k + i) = h i) : ∃ σ' τ', fX0_isShownSo w σ o (on y) = some (bz (sso f h (on y) nc), σ') ∧ fX6_isShownSo τ (on k) (on y) = some (bz (sso f h (on y) nc), τ') ∧ XS 100 σ σ' ∧ MS τ τ' ∧ cOK τ' f := by
  obtain ⟨z, z', σ1, τ1, a1, a2, a3, a4, a5⟩ := shown_L hI hn h8 hy hk ht rfl nc 0 10000 10000 σ τ (by omega) (by omega) (by omega) hr ho hr2 hm hc hs
  have hb : bz (sso f h (on y) nc) = 0 ∨ bz (sso f h (on y) nc) = 1 := by cases sso f h (on y) nc <;> decide
  unfold fX0_isShownSo fX6_isShownSo
  rw [show fX0_isShownSo_L5 w o (on y) 10000 1 0 σ = _ from a1, show fX6_isShownSo_L5 (on k) (on y) 10000 1 0 τ = _ from a2, bd_some, bd_some, gd_pos hb, gd_pos hb]
  exact ⟨σ1, τ1, rfl, rfl, a3, a4, a5⟩
/-- how many below k, and the first below k (0: none) -/
def cu (P : Nat → Bool) : Nat → Nat
  | 0 => 0
  | k + 1 => cu P k + if P k then 1 else 0
def fu (P : Nat → Bool) : Nat → Nat
  | 0 => 0
  | k + 1 => if fu P k = 0 then (if P k then k + 1 else 0) else fu P k
theorem cu_le {P : Nat → Bool} : ∀ k, cu P k ≤ k
  | 0 => Nat.le_refl _
  | k + 1 => by have := cu_le (P := P) k; rw [cu]; split <;> omega
theorem fu_le {P : Nat → Bool} : ∀ k, fu P k ≤ k
  | 0 => Nat.le_refl _
  | k + 1 => by have := fu_le (P := P) k; rw [fu]; split <;> (try split) <;> omega
theorem cu_fu {P : Nat → Bool} : ∀ k, cu P k = 0 ↔ fu P k = 0
  | 0 => ⟨fun _ => rfl, fun _ => rfl⟩
  | k + 1 => by
    have := cu_fu (P := P) k
    rw [cu, fu]
    by_cases e : P k = true
    · rw [if_pos e, if_pos e]; split <;> omega
    · rw [if_neg e, if_neg e]; split <;> omega
theorem xwhich_L {w : ZW} {f h : Nat → Int32} {nc o t r : Nat} {y1 y2 : Int32} (hI : FI f) (hn : f 1 = on nc) (h8 : nc ≤ 8) (ht : t < 3) (P : Nat → Bool) (hP : ∀ y, P y = sso f h (on y) nc) : ∀ (d i n : Nat) (σ : ZS), i + d = 100 → d < n → (∀ y, y ≤ 1000 → ∀ σ1, XS 100 σ σ1 → ∃ σ', fX0_isShownSo w σ1 o (on y) = some (bz (P y), σ') ∧ XS 100 σ1 σ') → BR w σ 100 f → σ.2.2.1 o = some (.inr (20 + t, [.ref r])) → σ.2.2.1 r = some (.inl (w.2.1 (aty t), nc, .inl h)) → ∃ z σ', fX0_which_L65 w o y1 y2 n (on (cu P i)) (dw (fu P i)) (on i) σ = some ((on (cu P 100), dw (fu P 100), z), σ') ∧ XS 100 σ σ'
  | 0, i, n, σ, hi, hd, hS, hr, ho, hr2 => by
    obtain ⟨n, rfl⟩ : ∃ m, n = m + 1 := ⟨n - 1, by omega⟩
    obtain rfl : i = 100 := by omega
    rw [fX0_which_L65, if_pos (show (99 : Int32) < on 100 by decide)]
    exact ⟨on 100, σ, rfl, XS.rf⟩
  | d + 1, i, n, σ, hi, hd, hS, hr, ho, hr2 => by
    obtain ⟨n, rfl⟩ : ∃ m, n = m + 1 := ⟨n - 1, by omega⟩
    have h99 : ¬ (99 : Int32) < on i := by rw [show (99 : Int32) = on 99 from rfl, on_lt (by omega) (by omega)]; omega
    obtain ⟨σ1, a1, a2⟩ := hS i (by omega) σ XS.rf
    have l1 := cu_le (P := P) i
    have l2 := cu_fu (P := P) i
    have l3 : (on (cu P i) = 0) ↔ fu P i = 0 := by rw [show (0 : Int32) = on 0 from rfl, on_eq (by omega) (by omega)]; exact l2
    rw [fX0_which_L65, if_neg h99, a1, bd_some]
    simp only [nm_eq, on_a1]
    obtain ⟨z, σ2, b1, b2⟩ := xwhich_L (y1 := y1) (y2 := y2) hI hn h8 ht P hP d (i + 1) n σ1 (by omega) (by omega) (fun y hy σ' hx => hS y hy σ' (a2.tr hx)) (hr.xs zB1 zB1 a2) (by rw [a2.1]; exact ho) (by rw [a2.1]; exact hr2)
    refine ⟨z, σ2, ?_, a2.tr b2⟩
    rw [← b1]
    cases e : P i with
    | false =>
      rw [if_pos (show bz false = 0 from rfl), if_pos (show bz false = 0 from rfl), show cu P (i + 1) = cu P i by rw [cu, e]; rfl, show fu P (i + 1) = fu P i by rw [fu, e]; split <;> simp_all, Int32.add_zero]
    | true =>
      rw [if_neg (show ¬ bz true = 0 by decide), if_neg (show ¬ bz true = 0 by decide), show cu P (i + 1) = cu P i + 1 by rw [cu, e]; rfl, on_a1]
      by_cases q : fu P i = 0
      · rw [if_pos (l3.mpr q), show fu P (i + 1) = i + 1 by rw [fu, e, if_pos q]; rfl]
        rfl
      · rw [if_neg (fun x => q (l3.mp x)), show fu P (i + 1) = fu P i by rw [fu, if_neg q]]
theorem mwhich_L {f : Nat → Int32} {k : Nat} {y1 y2 : Int32} (P : Nat → Bool) : ∀ (i n c j : Nat) (τ : ZS), i < n → i ≤ 100 → c + i ≤ 100 → (∀ y, y ≤ 1000 → ∀ τ1, MS τ τ1 → cOK τ1 f → ∃ τ', fX6_isShownSo τ1 y1 (on y) = some (bz (P y), τ') ∧ MS τ1 τ' ∧ cOK τ' f) → cOK τ f → ∃ z τ', fX6_which_L64 y1 y2 n (on c) (dw j) (dw i) τ = some ((on (c + cu P i), dw (if fu P i = 0 then j else fu P i), z), τ') ∧ MS τ τ' ∧ cOK τ' f
  | 0, n, c, j, τ, hi, h100, hc, hS, hk => by
    obtain ⟨n, rfl⟩ : ∃ m, n = m + 1 := ⟨n - 1, by omega⟩
    rw [fX6_which_L64, if_pos (show dw 0 < 0 by decide)]
    exact ⟨_, τ, rfl, MS.rf, hk⟩
  | i + 1, n, c, j, τ, hi, h100, hc, hS, hk => by
    obtain ⟨n, rfl⟩ : ∃ m, n = m + 1 := ⟨n - 1, by omega⟩
    obtain ⟨τ1, a1, a2, a3⟩ := hS i (by omega) τ MS.rf hk
    rw [fX6_which_L64, if_neg (show ¬ dw (i + 1) < 0 from fun h => by have := (dwl (j := i + 1) (by omega)).1.mp h; omega), show fX6_isShownSo τ y1 (dw (i + 1)) = _ from a1, bd_some]
    simp only [nm_eq]
    rw [show dw (i + 1) + (-1) = dw i by
      cases i with
      | zero => decide
      | succ i => exact on_m1 i]
    cases e : P i with
    | false =>
      obtain ⟨z, τ2, b1, b2, b3⟩ := mwhich_L (y1 := y1) (y2 := y2) (k := k) P i n c j τ1 (by omega) (by omega) (by omega) (fun y hy τ' hx hk' => hS y hy τ' (a2.tr hx) hk') a3
      refine ⟨z, τ2, ?_, a2.tr b2, b3⟩
      rw [if_pos (show bz false = 0 from rfl), if_pos (show bz false = 0 from rfl), Int32.add_zero, b1, show cu P (i + 1) = cu P i by rw [cu, e]; rfl, show fu P (i + 1) = fu P i by rw [fu, e]; split <;> simp_all]
    | true =>
      obtain ⟨z, τ2, b1, b2, b3⟩ := mwhich_L (y1 := y1) (y2 := y2) (k := k) P i n (c + 1) (i + 1) τ1 (by omega) (by omega) (by omega) (fun y hy τ' hx hk' => hS y hy τ' (a2.tr hx) hk') a3
      refine ⟨z, τ2, ?_, a2.tr b2, b3⟩
      rw [if_neg (show ¬ bz true = 0 by decide), if_neg (show ¬ bz true = 0 by decide), on_a1, b1, show cu P (i + 1) = cu P i + 1 by rw [cu, e]; rfl, show c + 1 + cu P i = c + (cu P i + 1) by omega]
      by_cases q : fu P i = 0
      · rw [if_pos q, show fu P (i + 1) = i + 1 by rw [fu, e, if_pos q]; rfl, if_neg (by omega)]
      · rw [if_neg q, show fu P (i + 1) = fu P i by rw [fu, if_neg q], if_neg q]
