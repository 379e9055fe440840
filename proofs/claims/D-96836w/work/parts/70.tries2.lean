/-! the plain law, 21: draws, traffic, check -/
theorem bit_has : ∀ n, n < 7 → ∀ m, m < 2 ^ n → (∀ s, s < n → fX6_hasBit (on (m + 2 ^ n)) (on s) = fX6_hasBit (on m) (on s)) ∧ fX6_hasBit (on m) (on n) = 0 ∧ fX6_hasBit (on (m + 2 ^ n)) (on n) = 1 := by decide +kernel
theorem ats_bit {g : Nat → Int32} {c : Int32} : ∀ {n s : Nat}, n ≤ 7 → s < n → fX6_hasBit (ats g c n) (on s) = if g (36 + 5 * s) = c then 1 else 0
  | 0, s, _, h => by omega
  | n + 1, s, h7, hs => by
    obtain ⟨m, h1, h2⟩ := ats_on (f := g) (c := c) (n := n) (by omega)
    obtain ⟨b1, b2, b3⟩ := bit_has n (by omega) m h1
    obtain ⟨d1, d2⟩ := bit_add n (by omega) m h1
    rw [ats, h2]
    by_cases e : s = n
    · subst e
      by_cases q : g (36 + 5 * s) = c
      · rw [if_pos q, d1, b3, if_pos q]
      · rw [if_neg q, or_zero, b2, if_neg q]
    · have ih := ats_bit (g := g) (c := c) (n := n) (s := s) (by omega) (by omega)
      rw [h2] at ih
      by_cases q : g (36 + 5 * n) = c
      · rw [if_pos q, d1, b1 s (by omega), ih]
      · rw [if_neg q, or_zero, ih]
theorem FI.draft {f : Nat → Int32} (h : FI f) {s : Nat} (hs : s < 7) {v : Int32} : FI (upd f (35 + 5 * s) v) :=
  h.up (by omega) (by omega) (by omega) (by intros; omega) (by intros; omega) (by intros; omega) (by intros; omega) (by intros; omega) (by intros; omega) (by intros; omega) (by intros; omega)
theorem isInWith_ok {w : ZW} {σ : ZS} {f : Nat → Int32} {s : Nat} {v : Int32} (h : BR w σ 100 f) (hI : FI f) (hs : s < 7) : ∃ σ', fX0_isInWith w σ (on s) v = some (if hrs (upd f (35 + 5 * s) v) 60 (36 + 5 * s) = 0 then 1 else 0, σ') ∧ XT σ σ' := by
  obtain ⟨σ1, a1, a2, a3, a4⟩ := xtry h
  have a5 : BR w (sI σ1 (300 + 11) s v) 300 (upd f (35 + 5 * s) v) := a2.ship (k := 0) hs (by decide)
  obtain ⟨σ2, b1, b2, b3⟩ := goes_ok (y := 60) (by omega) a5 zB3 (hI.draft hs)
  unfold fX0_isInWith
  rw [a1, bd_some, gd_pos (on_in hs (by decide)), tn_ofNat (by omega), show fX2_goes w _ 300 60 = _ from b1, bd_some, nm_eq, ← (b2.2.2.1 s hs).2.1]
  exact ⟨σ2, rfl, (a4.st (by omega)).tr b3.xt⟩
/-- drafts from 9 down: d are left, the next is d - 1 -/
def dw : Nat → Int32
  | 0 => -1
  | d + 1 => on d
theorem dw_m (d : Nat) : on d + (-1) = dw d := by
  cases d with
  | zero => decide
  | succ d => exact on_m1 d
theorem draws_L {w : ZW} {f : Nat → Int32} {s : Nat} (hI : FI f) (hs : s < 7) (hl : s < nsh f) : ∀ (d n n' : Nat) (σ τ : ZS), d ≤ 10 → d < n → d + 1 < n' → BR w σ 100 f → isRow τ 1 f → isRow τ 3 f → cOK τ f → ∃ j z σ' τ', (j = 0 ∨ j ≤ d) ∧ fX0_draws_L35 w (on s) n (dw d) σ = some (dw j, σ') ∧ fX6_draws_L48 (on s) n' (-1) (dw d) τ = some ((dw j, z), τ') ∧ XT σ σ' ∧ MT τ τ' ∧ isRow τ' 1 f ∧ cOK τ' f
  | 0, n, n', σ, τ, hd, hn, hn', hr, hm, hm3, hc => by
    obtain ⟨n, rfl⟩ : ∃ m, n = m + 1 := ⟨n - 1, by omega⟩
    obtain ⟨n', rfl⟩ : ∃ m, n' = m + 1 := ⟨n' - 1, by omega⟩
    rw [fX0_draws_L35, fX6_draws_L48, if_pos (show dw 0 < 0 by decide), if_pos (show dw 0 < 0 by decide)]
    exact ⟨0, dw 0, σ, τ, Or.inl rfl, rfl, rfl, XT.rf, MT.rf, hm, hc⟩
  | d + 1, n, n', σ, τ, hd, hn, hn', hr, hm, hm3, hc => by
    obtain ⟨n, rfl⟩ : ∃ m, n = m + 1 := ⟨n - 1, by omega⟩
    obtain ⟨n', rfl⟩ : ∃ m, n' = m + 1 := ⟨n' - 1, by omega⟩
    obtain ⟨σ1, a1, a2⟩ := isInWith_ok (v := on d) hr hI hs
    obtain ⟨j2, j2'⟩ := sh2 s hs
    obtain ⟨τ1, b1, b2, b3, b4, b5⟩ := inBehind_ok (σ := sI τ 1 (35 + 5 * s) (on d)) (f := f) (g := upd f (35 + 5 * s) (on d)) (k := 60) (fun j hj => by rw [sI_r (by decide)]; exact hm3 j hj) hm.st (hI.draft hs) (cOK_congr (sBed.upd (by omega)) (hc.st (by decide))) (sBed.upd (by omega)).symm (upd_n (by omega)) (by omega)
    have hb := ats_bit (g := hrs (upd f (35 + 5 * s) (on d)) 60) (c := 0) (nsh7 hI) hl
    rw [fX0_draws_L35, fX6_draws_L48]
    simp only [show ¬ dw (d + 1) < 0 from on_nn (show d < 2147483648 by omega), ↓reduceIte]
    rw [show dw (d + 1) = on d from rfl, a1, bd_some, if_neg (show ¬ (0 : Int32) ≤ -1 by decide), gd_pos j2', j2, show fX6_inBehind _ 60 = _ from b1, bd_some, hb]
    simp only [nm_eq]
    have hMT : MT τ τ1 := (MT.rf.st).tr b5
    by_cases q : hrs (upd f (35 + 5 * s) (on d)) 60 (36 + 5 * s) = 0
    · rw [if_pos q, if_neg (show ¬ (1 : Int32) = 0 by decide), if_neg (show ¬ (1 : Int32) = 0 by decide)]
      refine ⟨d + 1, on d + (-1), σ1, τ1, Or.inr (by omega), rfl, ?_, a2, hMT, b2, b4⟩
      obtain ⟨n', rfl⟩ : ∃ m, n' = m + 1 := ⟨n' - 1, by omega⟩
      rw [fX6_draws_L48, if_pos (show (0 : Int32) ≤ on d from on_ge (by omega))]
      split <;> rfl
    · rw [if_neg q, if_pos rfl, if_pos rfl, dw_m]
      obtain ⟨j, z, σ2, τ2, c1, c2, c3, c4, c5, c6, c7⟩ := draws_L (w := w) hI hs hl d n n' σ1 τ1 (by omega) (by omega) (by omega) (hr.xt (by omega) a2) b2 b3 b4
      exact ⟨j, z, σ2, τ2, by omega, c2, c3, a2.tr c4, hMT.tr c5, c6, c7⟩
set_option maxHeartbeats 2000000 in
theorem draws_act {w : ZW} {N : Nat} {σx σm : ZS} {p1 : Int32} (h : RR w N σx σm) : act w N σm (fX0_draws w σx p1) (fX6_draws σm p1) := by
  have h0 := h
  obtain ⟨⟨f, hf⟩, hT⟩ := h
  have hI := hf.2.2.1
  unfold fX0_draws fX6_draws
  rw [(hf.ships p1).1, (hf.ships p1).2]
  by_cases q1 : 0 ≤ p1 ∧ p1 ≤ f 2 - 1
  · simp only [if_pos q1, i10, eq_self, ↓reduceIte, nd1', bd_some, sc_inl]
    obtain ⟨s, hs, rfl, hl⟩ := hI.ship q1
    have hls : s < nsh f := by
      obtain ⟨ns, s1, s2, s3⟩ := hI.ns
      rw [s1, on_lt (by omega) (by omega)] at hl
      unfold nsh
      omega
    rw [gd_pos (on_in hs (by decide)), tn_ofNat (by omega), ← (hf.1.2.2.1 s hs).2.2, si4 hf.2.1 hs, bo_some]
    rcases (hI.2.2.2.2.2.2.2.1 s hs hl).1 with z | z
    · rw [z]
      simp only [eq_self, ↓reduceIte, nm_eq, nd1', bd_some, sc_inl, show ¬ (0 : Int32) = 1 from by decide]
      obtain ⟨τ1, c1, c2, c3, c4, c5⟩ := mtry hf.2.1 hf.2.2.2
      obtain ⟨j, z, σ2, τ2, d1, d2, d3, d4, d5, d6, d7⟩ := draws_L (w := w) (s := s) hI hs hls 10 10000 10000 σx τ1 (by omega) (by omega) (by omega) hf.1 c2 c3 c4
      rw [c1, bd_some, show fX0_draws_L35 w (on s) 10000 9 σx = _ from d2, bd_some, show fX6_draws_L48 (on s) 10000 (-1) 9 τ1 = _ from d3, bd_some]
      simp only
      have hMT := c5.tr d5
      cases j with
      | zero =>
        rw [if_pos (show dw 0 < 0 by decide), if_neg (show ¬ 0 ≤ dw 0 by decide)]
        simp only [nd0, bd_some, sc_inr, bd_id]
        exact (err2 (RR.try0 hf hT d4 hMT d6 d7) rfl rfl).of hMT.1
      | succ j =>
        rw [if_neg (show ¬ dw (j + 1) < 0 from on_nn (show j < 2147483648 by omega)), if_pos (show 0 ≤ dw (j + 1) from on_ge (show j < 2147483648 by omega))]
        simp only [nd1', bd_some, sc_inl]
        exact act_mk rfl rfl (RR.try hf hT d4 hMT d6 d7) hMT.1
    · rw [z]
      simp only [i10, eq_self, ↓reduceIte, nm_eq, nd0, bd_some, sc_inr]
      exact err3 h0 bd_id bd_id
  · simp only [if_neg q1, eq_self, ↓reduceIte, nd0, bd_some, sc_inr]
    exact err1 h0 bd_id bd_id
/-! traffic -/
theorem and_not : ∀ m, m < 128 → ∀ k, k < 128 → on m &&& (on k ^^^ (-1)) = on (m - Nat.land m k) := by decide +kernel
theorem traffic_L {w : ZW} {f : Nat → Int32} {σ τ : ZS} {y1 y2 : Int32} {nc : Nat} (hI : FI f) (hn : f 1 = on nc) (h8 : nc ≤ 8) (hr : BR w σ 300 f) (hm : isRow τ 1 f) : ∀ (d i n n' : Nat) (a b : Int32), i + d = nc → d < n → d < n' → ∃ u, fX0_traffic_L50 σ y1 y2 n a b (on i) = some u ∧ fX6_traffic_L47 τ y1 y2 n' a b (on i) = some u
  | 0, i, n, n', a, b, hi, h1, h2 => by
    obtain ⟨n, rfl⟩ : ∃ m, n = m + 1 := ⟨n - 1, by omega⟩
    obtain ⟨n', rfl⟩ : ∃ m, n' = m + 1 := ⟨n' - 1, by omega⟩
    have hii : i = nc := by omega
    subst hii
    rw [fX0_traffic_L50, fX6_traffic_L47, ← hr.1.2.1, show τ.1 1 (1 : Int32).toNatClampNeg = f 1 from hm 1 (by omega), hn]
    simp only [show on i ≤ on i from (on_le (by omega) (by omega)).mpr (Nat.le_refl _), ↓reduceIte]
    exact ⟨_, rfl, rfl⟩
  | d + 1, i, n, n', a, b, hi, h1, h2 => by
    obtain ⟨n, rfl⟩ : ∃ m, n = m + 1 := ⟨n - 1, by omega⟩
    obtain ⟨n', rfl⟩ : ∃ m, n' = m + 1 := ⟨n' - 1, by omega⟩
    obtain ⟨m, m1, m2⟩ := ats_128 (g := f) (c := on i) (nsh7 hI)
    obtain ⟨k, k1, k2⟩ := lst_on (f := f) (nsh7 hI) hI.l01
    have hp := pow7 (nsh7 hI)
    have e := and_not m m1 k (by omega)
    rw [fX0_traffic_L50, fX6_traffic_L47, ← hr.1.2.1, show τ.1 1 (1 : Int32).toNatClampNeg = f 1 from hm 1 (by omega), hn]
    simp only [show ¬ on nc ≤ on i from by rw [on_le (by omega) (by omega)]; omega, ↓reduceIte]
    rw [xats_ok hr hI, bo_some, xlost_ok hr hI, bo_some, shipsAt_ok hm hI, bo_some, lostNow_ok hm hI, bo_some, m2, k2, e, bits_ok (by omega), bo_some, bitCount_ok _ (by omega)]
    simp only [nm_eq]
    rw [on_a1]
    exact traffic_L (w := w) (y1 := y1) (y2 := y2) hI hn h8 hr hm d (i + 1) n n' _ _ (by omega) (by omega) (by omega)
set_option maxHeartbeats 2000000 in
theorem traffic_act {w : ZW} {N : Nat} {σx σm : ZS} {p1 p2 : Int32} (h : RR w N σx σm) : act w N σm (fX0_traffic w σx p1 p2) (fX6_traffic σm p1 p2) := by
  have h0 := h
  obtain ⟨⟨f, hf⟩, hT⟩ := h
  have hI := hf.2.2.1
  unfold fX0_traffic fX6_traffic
  simp only [fX0_isAhead, fX6_isBehind, xi, wi]
  by_cases q1 : 0 ≤ p1 ∧ p1 ≤ 60
  · by_cases q2 : 0 ≤ p2 ∧ p2 ≤ 1
    · simp only [if_pos q1, if_pos q2, i10, eq_self, ↓reduceIte, nm_eq, nd1', bd_some, sc_inl]
      obtain ⟨k, -, k2, rfl⟩ := on_rng (lo := 0) (hi := 60) (by omega) q1
      obtain ⟨σ1, a1, a2, a3, a4⟩ := xtry hf.1
      obtain ⟨σ2, b1, b2, b3⟩ := goes_ok (y := k) (by omega) a2 zB3 hI
      obtain ⟨τ1, c1, c2, c3, c4, c5⟩ := mtry hf.2.1 hf.2.2.2
      obtain ⟨τ2, d1, d2, d3, d4⟩ := hoursGo_ok (y := k) (by omega) c2 hI c4
      have hI' := hrs_FI hI (n := k)
      obtain ⟨nc, n1, n2, n3, -⟩ := hI'.1
      obtain ⟨u, u1, u2⟩ := traffic_L (w := w) (y1 := on k) (y2 := p2) hI' n1 n3 b2 d2 nc 0 10000 10000 0 (-1) (by omega) (by omega) (by omega)
      rw [a1, bd_some, b1, bd_some, c1, bd_some, d1, bd_some, show fX0_traffic_L50 σ2 (on k) p2 10000 0 (-1) 0 = _ from u1, bo_some, show fX6_traffic_L47 τ2 (on k) p2 10000 0 (-1) 0 = _ from u2, bo_some]
      obtain ⟨τ3, f1, f2, f3, f4, f5⟩ := mback' (v := if p2 = 0 then u.1 else u.2.1) (c3.mf d4) d3 (hrs_sHr hI).bed.symm
      rw [f1, bd_some]
      exact act_mk rfl rfl (RR.try hf hT (a4.tr b3.xt) ((c5.tr d4.mt).tr f5) f2 f4) ((c5.tr d4.mt).tr f5).1
    · simp only [if_pos q1, if_neg q2, i10, eq_self, ↓reduceIte, nm_eq, nd0, bd_some, sc_inr]
      exact err1 h0 bd_id bd_id
  · simp only [if_neg q1, i10, eq_self, ↓reduceIte, nm_eq, nd0, bd_some, sc_inr]
    exact err1 h0 bd_id bd_id
