/-! the plain law, 20: tries with other numbers -/
theorem areIn_ok {w : ZW} {σ : ZS} {f : Nat → Int32} {p v : Int32} {k : Nat} (h : BR w σ 100 f) (hI : FI (upd f 4 v)) (hk : k < 9000) : ∃ σ', fX0_areInBy w σ p (on k) v = some (if ats (hrs (upd f 4 v) k) 0 (nsh f) &&& p = p then 1 else 0, σ') ∧ XT σ σ' := by
  obtain ⟨σ1, a1, a2, a3, a4⟩ := xtry h
  have a5 : BR w (sI σ1 300 5 v) 300 (upd f 4 v) := a2.numb (by omega)
  obtain ⟨σ2, b1, b2, b3⟩ := goes_ok hk a5 zB3 hI
  have hn : nsh (hrs (upd f 4 v) k) = nsh f := by rw [hrs_2 hI]; unfold nsh; rw [upd_n (by omega)]
  unfold fX0_areInBy
  rw [a1, bd_some, b1, bd_some, xats_ok b2 (hrs_FI hI), bo_some, nm_eq, hn]
  exact ⟨σ2, rfl, (a4.st (by omega)).tr b3.xt⟩
theorem inBehind_ok {σ : ZS} {f g : Nat → Int32} {k : Nat} (h3 : isRow σ 3 f) (h1 : isRow σ 1 g) (hI : FI g) (hc : cOK σ g) (hb : sBed g f) (h2 : g 2 = f 2) (hk : k < 9000) : ∃ σ', fX6_inBehind σ (on k) = some (ats (hrs g k) 0 (nsh f), σ') ∧ isRow σ' 1 f ∧ isRow σ' 3 f ∧ cOK σ' f ∧ MT σ σ' := by
  obtain ⟨σ1, a1, a2, a3, a4⟩ := hoursGo_ok hk h1 hI hc
  have hn : nsh (hrs g k) = nsh f := by rw [hrs_2 hI]; unfold nsh; rw [h2]
  obtain ⟨σ2, b1, b2, b3, b4, b5⟩ := mback' (v := ats (hrs g k) 0 (nsh f)) (h3.mf a4) a3 ((hrs_sHr hI).bed.symm.tr hb)
  unfold fX6_inBehind
  rw [a1, bd_some, shipsAt_ok a2 (hrs_FI hI), bo_some, hn, b1, bd_some]
  exact ⟨σ2, rfl, b2, b3, b4, a4.mt.tr b5⟩
theorem and_sub : ∀ m, m < 128 → ∀ s, s < 128 → ((on m &&& on s = on s) ↔ (on s &&& (on m ^^^ (-1)) = 0)) := by decide +kernel
theorem and_bit : ∀ m, m < 128 → ∀ s, s < 7 → ((on m &&& ((1 : Int32) <<< (on s &&& 31)) = ((1 : Int32) <<< (on s &&& 31))) ↔ ¬ fX6_hasBit (on m) (on s) = 0) := by decide +kernel
theorem ats_128 {g : Nat → Int32} {c : Int32} {n : Nat} (h : n ≤ 7) : ∃ m, m < 128 ∧ ats g c n = on m := by
  obtain ⟨m, h1, h2⟩ := ats_on (f := g) (c := c) h
  have := pow7 h
  exact ⟨m, by omega, h2⟩
theorem nsh7 {f : Nat → Int32} (h : FI f) : nsh f ≤ 7 := by
  obtain ⟨ns, s1, s2, s3⟩ := h.ns
  unfold nsh
  omega
theorem FI.back {f : Nat → Int32} (h : FI f) {i : Nat} (hi : i ≤ 99) : FI (upd f 4 (on i)) :=
  h.up (by omega) (by omega) (by omega) (by intros; omega) (fun _ => ⟨on_ge (by omega), (on_le (b := 99) (by omega) (by omega)).mpr hi⟩) (by intros; omega) (by intros; omega) (by intros; omega) (by intros; omega) (by intros; omega) (by intros; omega)
theorem setting_L {w : ZW} {f : Nat → Int32} {s k : Nat} (hI : FI f) (hs : s < 128) (hk : k < 9000) : ∀ (d i n n' : Nat) (σ τ : ZS), i + d = 100 → d < n → d + 1 < n' → BR w σ 100 f → isRow τ 1 f → isRow τ 3 f → cOK τ f → ∃ j z σ' τ', j ≤ 100 ∧ fX0_setting_L41 w (on s) (on k) n (on i) σ = some (on j, σ') ∧ fX6_setting_L51 (on s) (on k) n' (-1) (on i) τ = some ((if j ≤ 99 then on j else -1, z), τ') ∧ XT σ σ' ∧ MT τ τ' ∧ isRow τ' 1 f ∧ cOK τ' f
  | 0, i, n, n', σ, τ, hi, hn, hn', hr, hm, hm3, hc => by
    obtain ⟨n, rfl⟩ : ∃ m, n = m + 1 := ⟨n - 1, by omega⟩
    obtain ⟨n', rfl⟩ : ∃ m, n' = m + 1 := ⟨n' - 1, by omega⟩
    have hii : i = 100 := by omega
    subst hii
    rw [fX0_setting_L41, fX6_setting_L51, if_pos (by decide), if_pos (by decide)]
    exact ⟨100, on 100, σ, τ, by omega, rfl, rfl, XT.rf, MT.rf, hm, hc⟩
  | d + 1, i, n, n', σ, τ, hi, hn, hn', hr, hm, hm3, hc => by
    obtain ⟨n, rfl⟩ : ∃ m, n = m + 1 := ⟨n - 1, by omega⟩
    obtain ⟨n', rfl⟩ : ∃ m, n' = m + 1 := ⟨n' - 1, by omega⟩
    have hI4 := hI.back (i := i) (by omega)
    obtain ⟨σ1, a1, a2⟩ := areIn_ok (p := on s) hr hI4 hk
    obtain ⟨τ1, b1, b2, b3, b4, b5⟩ := inBehind_ok (σ := sI τ 1 4 (on i)) (f := f) (g := upd f 4 (on i)) (k := k) (fun j hj => by rw [sI_r (by decide)]; exact hm3 j hj) hm.st hI4 (cOK_congr (sBed.upd (by omega)) (hc.st (by decide))) (sBed.upd (by omega)).symm (upd_n (by omega)) hk
    obtain ⟨m, m1, m2⟩ := ats_128 (g := hrs (upd f 4 (on i)) k) (c := 0) (nsh7 hI)
    rw [fX0_setting_L41, fX6_setting_L51]
    simp only [show ¬ (99 : Int32) < on i from by rw [show (99 : Int32) = on 99 from rfl, on_lt (by omega) (by omega)]; omega, ↓reduceIte]
    rw [a1, bd_some, if_neg (show ¬ (0 : Int32) ≤ -1 by decide), show (4 : Int32).toNatClampNeg = 4 from rfl, b1, bd_some, m2]
    simp only [nm_eq]
    have hMT : MT τ τ1 := (MT.rf.st).tr b5
    by_cases q : on m &&& on s = on s
    · rw [if_pos q, if_neg (show ¬ (1 : Int32) = 0 by decide), on_a1, if_pos ((and_sub m m1 s hs).mp q)]
      refine ⟨i, on (i + 1), σ1, τ1, by omega, rfl, ?_, a2, hMT, b2, b4⟩
      obtain ⟨n', rfl⟩ : ∃ m, n' = m + 1 := ⟨n' - 1, by omega⟩
      rw [fX6_setting_L51, if_pos (show (0 : Int32) ≤ on i from on_ge (by omega)), if_pos (show i ≤ 99 by omega)]
      split <;> rfl
    · rw [if_neg q, if_pos rfl, if_neg (fun h => q ((and_sub m m1 s hs).mpr h)), on_a1]
      obtain ⟨j, z, σ2, τ2, c1, c2, c3, c4, c5, c6, c7⟩ := setting_L (w := w) hI hs hk d (i + 1) n n' σ1 τ1 (by omega) (by omega) (by omega) (hr.xt (by omega) a2) b2 b3 b4
      exact ⟨j, z, σ2, τ2, c1, c2, c3, a2.tr c4, hMT.tr c5, c6, c7⟩
set_option maxHeartbeats 2000000 in
theorem setting_act {w : ZW} {N : Nat} {σx σm : ZS} {p1 p2 : Int32} (h : RR w N σx σm) : act w N σm (fX0_setting w σx p1 p2) (fX6_setting σm p1 p2) := by
  have h0 := h
  obtain ⟨⟨f, hf⟩, hT⟩ := h
  have hI := hf.2.2.1
  obtain ⟨ns, s1, s2, s3⟩ := hI.ns
  unfold fX0_setting fX6_setting
  rw [← hf.1.1.2.2.1, show σm.1 1 (2 : Int32).toNatClampNeg = f 2 from hf.2.1 2 (by omega), s1, shl1 ns (by omega)]
  simp only [xi, wi]
  have hp := pow7 s2
  by_cases q1 : 0 ≤ p1 ∧ p1 ≤ on (2 ^ ns - 1)
  · by_cases q2 : 0 ≤ p2 ∧ p2 ≤ 20
    · simp only [if_pos q1, if_pos q2, i10, eq_self, ↓reduceIte, nm_eq, nd1', bd_some, sc_inl]
      obtain ⟨s, -, k1, rfl⟩ := on_rng (lo := 0) (hi := 2 ^ ns - 1) (by omega) q1
      obtain ⟨k, -, k2, rfl⟩ := on_rng (lo := 0) (hi := 20) (by omega) q2
      obtain ⟨τ1, c1, c2, c3, c4, c5⟩ := mtry hf.2.1 hf.2.2.2
      obtain ⟨j, z, σ2, τ2, d1, d2, d3, d4, d5, d6, d7⟩ := setting_L (w := w) (s := s) (k := k) hI (by omega) (by omega) 100 0 10000 10000 σx τ1 (by omega) (by omega) (by omega) hf.1 c2 c3 c4
      rw [c1, bd_some, show fX0_setting_L41 w (on s) (on k) 10000 0 σx = _ from d2, bd_some, show fX6_setting_L51 (on s) (on k) 10000 (-1) 0 τ1 = _ from d3, bd_some]
      simp only
      have hMT := c5.tr d5
      by_cases q : j ≤ 99
      · rw [if_neg (show ¬ (99 : Int32) < on j from by rw [show (99 : Int32) = on 99 from rfl, on_lt (by omega) (by omega)]; omega), if_pos q, if_pos (on_ge (by omega))]
        simp only [nd1', bd_some, sc_inl]
        exact act_mk rfl rfl (RR.try hf hT d4 hMT d6 d7) hMT.1
      · rw [if_pos (show (99 : Int32) < on j from by rw [show (99 : Int32) = on 99 from rfl, on_lt (by omega) (by omega)]; omega), if_neg q, if_neg (by decide)]
        simp only [nd0, bd_some, sc_inr, bd_id]
        exact (err2 (RR.try0 hf hT d4 hMT d6 d7) rfl rfl).of hMT.1
    · simp only [if_pos q1, if_neg q2, i10, eq_self, ↓reduceIte, nm_eq, nd0, bd_some, sc_inr]
      exact err1 h0 bd_id bd_id
  · simp only [if_neg q1, i10, eq_self, ↓reduceIte, nm_eq, nd0, bd_some, sc_inr]
    exact err1 h0 bd_id bd_id
/-! odds -/
theorem odds_L {w : ZW} {f : Nat → Int32} {s k : Nat} {p3 : Int32} (hI : FI f) (hs : s < 7) (hk : k < 9000) : ∀ (d i n n' a : Nat) (σ τ : ZS), i + d = 20 → d < n → d < n' → a ≤ i → BR w σ 100 f → isRow τ 1 f → isRow τ 3 f → cOK τ f → ∃ b σ' τ', b ≤ 20 ∧ fX0_odds_L40 w (on s) (on k) p3 n (on a) (on i) σ = some ((on b, on 20), σ') ∧ fX6_odds_L48 (on s) (on k) p3 n' (on a) (on i) τ = some ((on b, on 20), τ') ∧ XT σ σ' ∧ MT τ τ' ∧ isRow τ' 1 f ∧ cOK τ' f
  | 0, i, n, n', a, σ, τ, hi, hn, hn', ha, hr, hm, hm3, hc => by
    obtain ⟨n, rfl⟩ : ∃ m, n = m + 1 := ⟨n - 1, by omega⟩
    obtain ⟨n', rfl⟩ : ∃ m, n' = m + 1 := ⟨n' - 1, by omega⟩
    have hii : i = 20 := by omega
    subst hii
    rw [fX0_odds_L40, fX6_odds_L48, if_pos (by decide), if_pos (by decide)]
    exact ⟨a, σ, τ, by omega, rfl, rfl, XT.rf, MT.rf, hm, hc⟩
  | d + 1, i, n, n', a, σ, τ, hi, hn, hn', ha, hr, hm, hm3, hc => by
    obtain ⟨n, rfl⟩ : ∃ m, n = m + 1 := ⟨n - 1, by omega⟩
    obtain ⟨n', rfl⟩ : ∃ m, n' = m + 1 := ⟨n' - 1, by omega⟩
    have hI4 := hI.back (i := i) (by omega)
    obtain ⟨σ1, a1, a2⟩ := areIn_ok (p := (1 : Int32) <<< (on s &&& 31)) hr hI4 hk
    obtain ⟨τ1, b1, b2, b3, b4, b5⟩ := inBehind_ok (σ := sI τ 1 4 (on i)) (f := f) (g := upd f 4 (on i)) (k := k) (fun j hj => by rw [sI_r (by decide)]; exact hm3 j hj) hm.st hI4 (cOK_congr (sBed.upd (by omega)) (hc.st (by decide))) (sBed.upd (by omega)).symm (upd_n (by omega)) hk
    obtain ⟨m, m1, m2⟩ := ats_128 (g := hrs (upd f 4 (on i)) k) (c := 0) (nsh7 hI)
    rw [fX0_odds_L40, fX6_odds_L48]
    simp only [show ¬ (20 : Int32) ≤ on i from by rw [show (20 : Int32) = on 20 from rfl, on_le (by omega) (by omega)]; omega, ↓reduceIte]
    rw [a1, bd_some, show (4 : Int32).toNatClampNeg = 4 from rfl, b1, bd_some, m2]
    simp only [nm_eq]
    have hMT : MT τ τ1 := (MT.rf.st).tr b5
    by_cases q : on m &&& ((1 : Int32) <<< (on s &&& 31)) = ((1 : Int32) <<< (on s &&& 31))
    · rw [if_pos q, if_neg (by decide), if_neg ((and_bit m m1 s hs).mp q), on_a1, on_a1]
      obtain ⟨b, σ2, τ2, c1, c2, c3, c4, c5, c6, c7⟩ := odds_L (w := w) (p3 := p3) hI hs hk d (i + 1) n n' (a + 1) σ1 τ1 (by omega) (by omega) (by omega) (by omega) (hr.xt (by omega) a2) b2 b3 b4
      exact ⟨b, σ2, τ2, c1, c2, c3, a2.tr c4, hMT.tr c5, c6, c7⟩
    · rw [if_neg q, if_pos rfl, if_pos (Classical.byContradiction fun h => q ((and_bit m m1 s hs).mpr h)), on_a1, show on a + 0 = on a from by grind]
      obtain ⟨b, σ2, τ2, c1, c2, c3, c4, c5, c6, c7⟩ := odds_L (w := w) (p3 := p3) hI hs hk d (i + 1) n n' a σ1 τ1 (by omega) (by omega) (by omega) (by omega) (hr.xt (by omega) a2) b2 b3 b4
      exact ⟨b, σ2, τ2, c1, c2, c3, a2.tr c4, hMT.tr c5, c6, c7⟩
theorem gcd_1 {y0 y1 : Int32} : ∀ (n : Nat) (a b : Int32), fX0_common_L4 y0 y1 n a b = fX0_common_L4 0 0 n a b
  | 0, _, _ => rfl
  | n + 1, a, b => by
    rw [fX0_common_L4, fX0_common_L4]
    simp only [nm_eq, gcd_1 n]
theorem gcd_2 {y1 y2 y3 y4 : Int32} : ∀ (n : Nat) (a b : Int32), fX6_odds_L99 y1 y2 y3 y4 n a b = fX6_odds_L99 0 0 0 0 n a b
  | 0, _, _ => rfl
  | n + 1, a, b => by
    rw [fX6_odds_L99, fX6_odds_L99]
    simp only [nm_eq, gcd_2 n]
theorem gcd_3 : ∀ b, b < 21 → fX0_common_L4 0 0 10000 (on b) 20 = fX6_odds_L99 0 0 0 0 10000 20 (on b) ∧ ((fX0_common_L4 0 0 10000 (on b) 20).map (fun u => decide (u.1 = 0))) = some false := by decide +kernel
set_option maxHeartbeats 2000000 in
theorem odds_act {w : ZW} {N : Nat} {σx σm : ZS} {p1 p2 p3 : Int32} (h : RR w N σx σm) : act w N σm (fX0_odds w σx p1 p2 p3) (fX6_odds σm p1 p2 p3) := by
  have h0 := h
  obtain ⟨⟨f, hf⟩, hT⟩ := h
  have hI := hf.2.2.1
  unfold fX0_odds fX6_odds
  rw [(hf.ships p1).1, (hf.ships p1).2]
  simp only [fX0_isAhead, fX6_isBehind, xi, wi]
  by_cases q1 : 0 ≤ p1 ∧ p1 ≤ f 2 - 1
  · by_cases q2 : 0 ≤ p2 ∧ p2 ≤ 60
    · by_cases q3 : 0 ≤ p3 ∧ p3 ≤ 1
      · simp only [if_pos q1, if_pos q2, if_pos q3, i10, eq_self, ↓reduceIte, nm_eq, nd1', bd_some, sc_inl]
        obtain ⟨s, hs, rfl, hl⟩ := hI.ship q1
        obtain ⟨k, -, k2, rfl⟩ := on_rng (lo := 0) (hi := 60) (by omega) q2
        obtain ⟨τ1, c1, c2, c3, c4, c5⟩ := mtry hf.2.1 hf.2.2.2
        obtain ⟨b, σ2, τ2, d1, d2, d3, d4, d5, d6, d7⟩ := odds_L (w := w) (s := s) (k := k) (p3 := p3) hI hs (by omega) 20 0 10000 10000 0 σx τ1 (by omega) (by omega) (by omega) (by omega) hf.1 c2 c3 c4
        rw [c1, bd_some, show fX0_odds_L40 w (on s) (on k) p3 10000 0 0 σx = _ from d2, bd_some, show fX6_odds_L48 (on s) (on k) p3 10000 0 0 τ1 = _ from d3, bd_some]
        simp only
        have hMT := c5.tr d5
        obtain ⟨g1, g2⟩ := gcd_3 b (by omega)
        unfold fX0_common
        rw [gcd_1, gcd_2, ← g1]
        cases e : fX0_common_L4 0 0 10000 (on b) 20 with
        | none => rw [e] at g2; cases g2
        | some u =>
          rw [e] at g2
          have hu : ¬ u.1 = 0 := by simpa using g2
          simp only [bo_some]
          by_cases z : p3 = 0
          · simp only [if_pos z, gd_pos hu, bo_some]
            exact act_mk rfl rfl (RR.try hf hT d4 hMT d6 d7) hMT.1
          · simp only [if_neg z, gd_pos hu, bo_some]
            exact act_mk rfl rfl (RR.try hf hT d4 hMT d6 d7) hMT.1
      · simp only [if_pos q1, if_pos q2, if_neg q3, i10, eq_self, ↓reduceIte, nm_eq, nd0, bd_some, sc_inr]
        exact err1 h0 bd_id bd_id
    · simp only [if_pos q1, if_neg q2, i10, eq_self, ↓reduceIte, nm_eq, nd0, bd_some, sc_inr]
      exact err1 h0 bd_id bd_id
  · simp only [if_neg q1, i10, eq_self, ↓reduceIte, nm_eq, nd0, bd_some, sc_inr]
    exact err1 h0 bd_id bd_id
