/-! the plain law, 19: the next who is lost -/
theorem shp_lost {f : Nat → Int32} {s t : Nat} (h : f (37 + 5 * t) = 1) : shp f s (37 + 5 * t) = 1 := by
  unfold shp
  by_cases e : t = s
  · subst e
    rw [if_neg (by rw [h]; decide)]
    exact h
  · repeat' split
    all_goals first | exact h | (rw [upd_n (by omega), upd_n (by omega)]; exact h) | (rw [upd_n (by omega)]; exact h)
theorem shps_lost {f : Nat → Int32} {t : Nat} (h : f (37 + 5 * t) = 1) : ∀ n, shps f n (37 + 5 * t) = 1
  | 0 => h
  | n + 1 => shp_lost (shps_lost h n)
theorem hrs_lost {f : Nat → Int32} {t : Nat} (h : f (37 + 5 * t) = 1) : ∀ n, hrs f n (37 + 5 * t) = 1
  | 0 => h
  | n + 1 => by
    show hr1 (hrs f n) (37 + 5 * t) = 1
    unfold hr1
    rw [upd_n (by omega)]
    exact shps_lost (hrs_lost h n) _
/-- the lost behind n hours -/
abbrev lo (f : Nat → Int32) (n : Nat) : Int32 := lst (hrs f n) (nsh f)
theorem lo_more {f : Nat → Int32} (hI : FI f) (n : Nat) : ∃ m k, m ≤ k ∧ k < 128 ∧ lo f 0 = on m ∧ lo f n = on k ∧ lo f n &&& (lo f 0 ^^^ (-1)) = on (k - m) ∧ pc m ≤ pc k ∧ (pc k ≤ pc m → k = m) := by
  obtain ⟨ns, s1, s2, s3⟩ := hI.ns
  have h7 : nsh f ≤ 7 := by unfold nsh; omega
  have hp := pow7 h7
  have hg := (hrs_FI hI (n := n)).l01
  rw [hrs_2 hI] at hg
  obtain ⟨m, k, a1, a2, a3⟩ := lst_more (f := f) (g := hrs f n) h7 hI.l01 hg (fun s _ h => hrs_lost h n)
  exact ⟨m, k, a1, by omega, a3⟩
theorem lo_ne {f : Nat → Int32} (hI : FI f) {n : Nat} : lo f n &&& (lo f 0 ^^^ (-1)) = 0 ↔ lo f n = lo f 0 := by
  obtain ⟨m, k, a1, a2, a3, a4, a5, -, -⟩ := lo_more hI n
  rw [a5, a4, a3, on_eq (by omega) (by omega), show (0 : Int32) = on 0 from rfl, on_eq (by omega) (by omega)]
  omega
theorem xlo_L {w : ZW} {y : Int32} {f : Nat → Int32} (hI : FI f) : ∀ (k i n : Nat) (σ : ZS), i + k = 61 → k < n → BR w σ 300 (hrs f i) → (∀ m, m < i → lo f m = lo f 0) → ∃ j σ', j ≤ 61 ∧ (∀ m, m < j → lo f m = lo f 0) ∧ (j = 61 ∨ lo f j ≠ lo f 0) ∧ fX0_lost_L33 w y (lo f 0) n (on i) σ = some (on j, σ') ∧ BR w σ' 300 (hrs f j) ∧ XF 300 σ σ'
  | 0, i, n, σ, hi, hn, hr, hm => by
    obtain ⟨n, rfl⟩ : ∃ m, n = m + 1 := ⟨n - 1, by omega⟩
    have hii : i = 61 := by omega
    subst hii
    rw [fX0_lost_L33, if_pos (by decide)]
    exact ⟨61, σ, by omega, hm, Or.inl rfl, rfl, hr, XF.rf⟩
  | k + 1, i, n, σ, hi, hn, hr, hm => by
    obtain ⟨n, rfl⟩ : ∃ m, n = m + 1 := ⟨n - 1, by omega⟩
    have hFI := hrs_FI hI (n := i)
    rw [fX0_lost_L33, if_neg (by rw [show (60 : Int32) = on 60 from rfl, on_lt (by omega) (by omega)]; omega), xlost_ok hr hFI, bo_some, hrs_2 hI]
    by_cases q : lst (hrs f i) (nsh f) = lo f 0
    · obtain ⟨σ1, a1, a2, a3⟩ := passes_ok hr zB3 hFI
      rw [if_pos q, a1, bd_some, nm_eq, on_a1]
      obtain ⟨j, σ2, c1, c2, c3, c4, c5, c6⟩ := xlo_L (w := w) (y := y) hI k (i + 1) n σ1 (by omega) (by omega) a2 (fun m h => by
        by_cases e : m = i
        · rw [e]; exact q
        · exact hm m (by omega))
      exact ⟨j, σ2, c1, c2, c3, c4, c5, a3.tr c6⟩
    · rw [if_neg q]
      exact ⟨i, σ, by omega, hm, Or.inr q, rfl, hr, XF.rf⟩
theorem lo_L {y : Int32} {f : Nat → Int32} (hI : FI f) : ∀ (k i n : Nat) (σ : ZS), i + k = 60 → k < n → isRow σ 1 (hrs f i) → cOK σ (hrs f i) → (∀ m, m < i → lo f m = lo f 0) → ∃ j σ', j ≤ 60 ∧ (∀ m, m < j → lo f m = lo f 0) ∧ (j = 60 ∨ lo f j ≠ lo f 0) ∧ fX6_lost_L34 y (lo f 0) n (on i) σ = some (on j, σ') ∧ isRow σ' 1 (hrs f j) ∧ cOK σ' (hrs f j) ∧ MF σ σ'
  | 0, i, n, σ, hi, hn, hr, hc, hm => by
    obtain ⟨n, rfl⟩ : ∃ m, n = m + 1 := ⟨n - 1, by omega⟩
    have hii : i = 60 := by omega
    subst hii
    rw [fX6_lost_L34, if_pos (by decide)]
    exact ⟨60, σ, by omega, hm, Or.inl rfl, rfl, hr, hc, MF.rf⟩
  | k + 1, i, n, σ, hi, hn, hr, hc, hm => by
    obtain ⟨n, rfl⟩ : ∃ m, n = m + 1 := ⟨n - 1, by omega⟩
    have hFI := hrs_FI hI (n := i)
    rw [fX6_lost_L34, if_neg (by rw [show (60 : Int32) = on 60 from rfl, on_le (by omega) (by omega)]; omega), lostNow_ok hr hFI, bo_some, hrs_2 hI]
    by_cases q : lst (hrs f i) (nsh f) = lo f 0
    · obtain ⟨σ1, a1, a2, a3, a4⟩ := hour_ok hr hFI hc
      rw [if_pos q, a1, bd_some, nm_eq, on_a1]
      obtain ⟨j, σ2, c1, c2, c3, c4, c5, c6, c7⟩ := lo_L (y := y) hI k (i + 1) n σ1 (by omega) (by omega) a2 a3 (fun m h => by
        by_cases e : m = i
        · rw [e]; exact q
        · exact hm m (by omega))
      exact ⟨j, σ2, c1, c2, c3, c4, c5, c6, a4.tr c7⟩
    · rw [if_neg q]
      exact ⟨i, σ, by omega, hm, Or.inr q, rfl, hr, hc, MF.rf⟩
theorem ntz_L : ∀ m, m < 128 → ¬ m = 0 → fJ9_numberOfTrailingZeros (on m) = bo (fX6_bits_L4 ((on m &&& -(on m)) - 1) 10000 0 ((on m &&& -(on m)) - 1)) (fun u => some u.1) ∧ (fJ9_numberOfTrailingZeros (on m)).isSome = true := by decide +kernel
set_option maxHeartbeats 2000000 in
theorem lost_act {w : ZW} {N : Nat} {σx σm : ZS} {p1 : Int32} (h : RR w N σx σm) : act w N σm (fX0_lost w σx p1) (fX6_lost σm p1) := by
  have h0 := h
  obtain ⟨⟨f, hf⟩, hT⟩ := h
  have hI := hf.2.2.1
  unfold fX0_lost fX6_lost
  simp only [xi, wi]
  by_cases q1 : 0 ≤ p1 ∧ p1 ≤ 1
  · simp only [if_pos q1, i10, eq_self, ↓reduceIte, nd1', bd_some, sc_inl]
    obtain ⟨σ1, a1, a2, a3, a4⟩ := xtry hf.1
    obtain ⟨τ1, c1, c2, c3, c4, c5⟩ := mtry hf.2.1 hf.2.2.2
    rw [a1, bd_some, xlost_ok a3 hI, bo_some, c1, bd_some, lostNow_ok c2 hI, bo_some]
    obtain ⟨jx, σ2, x1, x2, x3, x4, x5, x6⟩ := xlo_L (w := w) (y := p1) hI 61 0 10000 σ1 (by omega) (by omega) a2 (fun m h => by omega)
    obtain ⟨jm, τ2, m1, m2, m3, m4, m5, m6, m7⟩ := lo_L (y := p1) hI 60 0 10000 τ1 (by omega) (by omega) c2 c4 (fun m h => by omega)
    have hr3 := c3.mf m7
    rw [show fX0_lost_L33 w p1 (lst f (nsh f)) 10000 0 σ1 = _ from x4, bd_some, show fX6_lost_L34 p1 (lst f (nsh f)) 10000 0 τ1 = _ from m4, bd_some]
    have hFm := hrs_FI hI (n := jm)
    rw [lostNow_ok m5 hFm, bo_some, hrs_2 hI]
    simp only [nm_eq]
    obtain ⟨τ3, f1, f2, f3, f4, f5⟩ := mback hr3 m6 (hrs_sHr hI).bed.symm
    rw [f1, bd_some]
    have hMT := (c5.tr m7.mt).tr f5
    have hXT := a4.tr x6.xt
    by_cases hj : lo f jm = lo f 0
    · have hjm : jm = 60 := by rcases m3 with h | h; exact h; exact absurd hj h
      have hjx : jx = 61 := by
        rcases x3 with h | h
        · exact h
        · by_cases e : jx < jm
          · exact absurd (m2 jx e) h
          · by_cases e2 : jx = jm
            · subst e2; exact absurd hj h
            · omega
      subst hjx
      subst hjm
      rw [if_pos (by decide)]
      have e0 : lst (hrs f 60) (nsh f) &&& (lst f (nsh f) ^^^ (-1)) = 0 := (lo_ne hI).mpr hj
      rw [e0, if_pos rfl]
      simp only [nm_eq, nd0, bd_some, sc_inr, bd_id]
      exact (err2 (RR.try0 hf hT hXT hMT f2 f4) rfl rfl).of hMT.1
    · have hje : jx = jm := by
        by_cases e : jx < jm
        · rcases x3 with h | h
          · omega
          · exact absurd (m2 jx e) h
        · by_cases e2 : jm < jx
          · exact absurd (x2 jm e2) hj
          · omega
      subst hje
      rw [if_neg (by rw [show (60 : Int32) = on 60 from rfl, on_lt (by omega) (by omega)]; omega)]
      have e0 : ¬ lst (hrs f jx) (nsh f) &&& (lst f (nsh f) ^^^ (-1)) = 0 := fun h => hj ((lo_ne hI).mp h)
      rw [if_neg e0]
      simp only [nm_eq, nd1', bd_some, sc_inl]
      by_cases z : p1 = 0
      · simp only [if_pos z, bo_some, bd_some]
        exact act_mk rfl rfl (RR.try hf hT hXT hMT f2 f4) hMT.1
      · rw [if_neg z, if_neg z, xlost_ok x5 (hrs_FI hI), bo_some, hrs_2 hI]
        obtain ⟨m, k, b1, b2, b3, b4, b5, -, -⟩ := lo_more hI jx
        have b5' : lst (hrs f jx) (nsh f) &&& (lst f (nsh f) ^^^ (-1)) = on (k - m) := b5
        rw [b5'] at e0 ⊢
        obtain ⟨t1, t2⟩ := ntz_L (k - m) (by omega) (fun e => e0 (by rw [e]; rfl))
        obtain ⟨v, hv⟩ := Option.isSome_iff_exists.mp t2
        unfold fX6_bits
        rw [← t1, hv, bo_some, bo_some, bo_some, bd_some]
        exact act_mk rfl rfl (RR.try hf hT hXT hMT f2 f4) hMT.1
  · simp only [if_neg q1, eq_self, ↓reduceIte, nd0, bd_some, sc_inr, bd_id]
    exact err1 h0 rfl rfl
