/-! the plain law, 23: dark -/
theorem lst_congr {f g : Nat → Int32} : ∀ {n : Nat}, (∀ s, s < n → g (37 + 5 * s) = f (37 + 5 * s)) → lst g n = lst f n
  | 0, _ => rfl
  | n + 1, h => by rw [lst, lst, lst_congr (n := n) (fun s hs => h s (by omega)), h n (by omega)]
theorem isSafe_ok {w : ZW} {σ : ZS} {f : Nat → Int32} {b s k nc : Nat} (h : BR w σ 100 f) (hI : FI f) (hn : f 1 = on nc) (h8 : nc ≤ 8) (hb : f 5 = on b) (hb2 : b < 2 ^ nc) (hs : on b &&& (on s ^^^ (-1)) = on (b - s)) (hk : k < 9000) : ∃ σ', fX0_isSafeWithout w σ (on s) (on k) = some (if lst (hrs (upd f 5 (on (b - s))) k) (nsh f) = lst f (nsh f) then 1 else 0, σ') ∧ XT σ σ' := by
  obtain ⟨σ1, a1, a2, a3, a4⟩ := xtry h
  have hI5 : FI (upd f 5 (on (b - s))) := hI.beam hn h8 (by omega)
  have a5 : BR w (sI σ1 300 6 (on (b - s))) 300 (upd f 5 (on (b - s))) := a2.numb (by omega)
  obtain ⟨σ2, b1, b2, b3⟩ := goes_ok hk a5 zB3 hI5
  have hxt : XT σ σ2 := (a4.st (by omega)).tr b3.xt
  have hn2 : nsh (hrs (upd f 5 (on (b - s))) k) = nsh f := by rw [hrs_2 hI5]; unfold nsh; rw [upd_n (by omega)]
  unfold fX0_isSafeWithout
  rw [a1, bd_some, nm_eq, show σ1.1 300 6 = on b from by rw [← hb]; exact a2.1.2.2.2.2.2.1.symm, hs, b1, bd_some, xlost_ok b2 (hrs_FI hI5), bo_some, xlost_ok (h.xt (by omega) hxt) hI, bo_some, nm_eq, hn2]
  exact ⟨σ2, rfl, hxt⟩
theorem mdark_ok {τ : ZS} {f : Nat → Int32} {b s k nc m0 : Nat} {y3 y4 : Int32} (h1 : isRow τ 1 f) (h3 : isRow τ 3 f) (hc : cOK τ f) (hI : FI f) (hn : f 1 = on nc) (h8 : nc ≤ 8) (hb2 : b < 2 ^ nc) (hk : k < 9000) (hm0 : lst f (nsh f) = on m0) (hm : m0 < 128) : ∃ τ', bd (fX6_hoursGo (sI τ 1 5 (on (b - s))) (on k)) (fun _ σ_19 => bo (fX6_lostNow σ_19) (fun r_20 => bo (fX6_bits σ_19 r_20) (fun r_22 => bd (fX6_putBack σ_19 r_22) (fun r_24 σ_26 => some (if on (pc m0) < r_24 then y3 else y4, σ_26))))) = some (if lst (hrs (upd f 5 (on (b - s))) k) (nsh f) = lst f (nsh f) then y4 else y3, τ') ∧ isRow τ' 1 f ∧ isRow τ' 3 f ∧ cOK τ' f ∧ MT τ τ' := by
  have hI5 : FI (upd f 5 (on (b - s))) := hI.beam hn h8 (by omega)
  obtain ⟨τ1, a1, a2, a3, a4⟩ := hoursGo_ok hk (h1.st (j := 5) (v := on (b - s))) hI5 (cOK_congr (sBed.upd (by omega)) (hc.st (by decide)))
  have hn2 : nsh (hrs (upd f 5 (on (b - s))) k) = nsh f := by rw [hrs_2 hI5]; unfold nsh; rw [upd_n (by omega)]
  have hn3 : nsh (upd f 5 (on (b - s))) = nsh f := by unfold nsh; rw [upd_n (by omega)]
  obtain ⟨m, q, e1, e2, e3, e4, -, e6, e7⟩ := lo_more hI5 k
  unfold lo at e3 e4
  rw [hn3] at e3 e4
  have e3' : lst f (nsh f) = on m := by rw [← e3]; exact (lst_congr (fun s _ => (upd_n (by omega)))).symm
  have hmm : m = m0 := by rw [hm0] at e3'; exact ((on_eq (by omega) (by omega)).mp e3').symm
  subst hmm
  obtain ⟨τ2, b1, b2, b3, b4, b5⟩ := mback' (v := on (pc q)) (f := f) (g := hrs (upd f 5 (on (b - s))) k) (fun j hj => by rw [a4.2 3 (by decide) (by decide) (by decide) (by decide), sI_r (by decide)]; exact h3 j hj) a3 ((hrs_sHr hI5).bed.symm.tr (sBed.upd (by omega)).symm)
  refine ⟨τ2, ?_, b2, b3, b4, (MT.rf.st.tr a4.mt).tr b5⟩
  rw [a1, bd_some, lostNow_ok a2 (hrs_FI hI5), bo_some, hn2, e4, bits_ok (by omega), bo_some, b1, bd_some, e3']
  have hpc : ∀ m, m < 128 → pc m < 1000 := by intro m hm; unfold pc; omega
  have p1 := hpc m (by omega)
  have p2 := hpc q (by omega)
  by_cases z : q = m
  · subst z
    rw [if_pos rfl, if_neg (show ¬ on (pc q) < on (pc q) by rw [on_lt (by omega) (by omega)]; omega)]
  · rw [if_neg (show ¬ on q = on m by rw [on_eq (by omega) (by omega)]; exact z), if_pos (show on (pc m) < on (pc q) by rw [on_lt (by omega) (by omega)]; exact Nat.lt_of_not_le (fun h => z (e7 h)))]
theorem dark_tail {f : Nat → Int32} {τ : ZS} {y1 y2 y3 : Int32} {b nc : Nat} (hn : f 1 = on nc) (h8 : nc ≤ 8) (hb : f 5 = on b) (hb2 : b < 2 ^ nc) (hm : isRow τ 1 f) : ∀ (d i n : Nat), i + d = 2 ^ nc → d < n → b < i → ∃ z, fX6_dark_L41 y1 y2 n y3 (on i) τ = some ((y3, z), τ)
  | 0, i, n, hi, hd, hbi => by
    obtain ⟨n, rfl⟩ : ∃ m, n = m + 1 := ⟨n - 1, by omega⟩
    have hp : 2 ^ nc ≤ 256 := Nat.pow_le_pow_right (n := 2) (by decide) h8
    have es : (1 : Int32) <<< (on nc &&& 31) = on (2 ^ nc) := by
      rcases (show nc = 0 ∨ nc = 1 ∨ nc = 2 ∨ nc = 3 ∨ nc = 4 ∨ nc = 5 ∨ nc = 6 ∨ nc = 7 ∨ nc = 8 by omega) with rfl | rfl | rfl | rfl | rfl | rfl | rfl | rfl | rfl <;> decide
    rw [fX6_dark_L41, show τ.1 1 (1 : Int32).toNatClampNeg = f 1 from hm 1 (by omega), hn, es, if_pos (show on (2 ^ nc) ≤ on i by rw [on_le (by omega) (by omega)]; omega)]
    exact ⟨_, rfl⟩
  | d + 1, i, n, hi, hd, hbi => by
    obtain ⟨n, rfl⟩ : ∃ m, n = m + 1 := ⟨n - 1, by omega⟩
    have hp : 2 ^ nc ≤ 256 := Nat.pow_le_pow_right (n := 2) (by decide) h8
    have es : (1 : Int32) <<< (on nc &&& 31) = on (2 ^ nc) := by
      rcases (show nc = 0 ∨ nc = 1 ∨ nc = 2 ∨ nc = 3 ∨ nc = 4 ∨ nc = 5 ∨ nc = 6 ∨ nc = 7 ∨ nc = 8 by omega) with rfl | rfl | rfl | rfl | rfl | rfl | rfl | rfl | rfl <;> decide
    rw [fX6_dark_L41, show τ.1 1 (1 : Int32).toNatClampNeg = f 1 from hm 1 (by omega), hn, es, if_neg (show ¬ on (2 ^ nc) ≤ on i by rw [on_le (by omega) (by omega)]; omega), show τ.1 1 (5 : Int32).toNatClampNeg = f 5 from hm 5 (by omega), hb, if_neg (fun h => by have := (sub_le b (by omega) i (by omega) h).1; omega), bd_some, nm_eq, on_a1]
    exact dark_tail hn h8 hb hb2 hm d (i + 1) n (by omega) (by omega) (by omega)
theorem dwl {j : Nat} (hj : j ≤ 256) : (dw j < 0 ↔ j = 0) ∧ (dw j = -1 ↔ j = 0) := by
  cases j with
  | zero => exact ⟨⟨fun _ => rfl, fun _ => by decide⟩, ⟨fun _ => rfl, fun _ => rfl⟩⟩
  | succ j =>
    have h1 : ¬ dw (j + 1) < 0 := on_nn (show j < 2147483648 by omega)
    refine ⟨⟨fun h => absurd h h1, fun h => by omega⟩, ⟨fun h => absurd (by rw [h]; decide) h1, fun h => by omega⟩⟩
set_option maxHeartbeats 4000000 in
theorem dark_L {w : ZW} {f : Nat → Int32} {b k nc m0 : Nat} (hI : FI f) (hn : f 1 = on nc) (h8 : nc ≤ 8) (hb : f 5 = on b) (hb2 : b < 2 ^ nc) (hk : k < 9000) (hm0 : lst f (nsh f) = on m0) (hm128 : m0 < 128) : ∀ (d i n n' j : Nat) (σ τ : ZS), i + d = b + 1 → d < n → 2 ^ nc - i < n' → j ≤ i → BR w σ 100 f → isRow τ 1 f → isRow τ 3 f → cOK τ f → ∃ j' z z' σ' τ', j' ≤ 256 ∧ fX0_dark_L16 w (on k) n (dw j) (on i) σ = some ((dw j', z), σ') ∧ fX6_dark_L41 (on k) (on (pc m0)) n' (dw j) (on i) τ = some ((dw j', z'), τ') ∧ XT σ σ' ∧ MT τ τ' ∧ isRow τ' 1 f ∧ cOK τ' f
  | 0, i, n, n', j, σ, τ, hi, hd, hd', hj, hr, hm, hm3, hc => by
    obtain ⟨n, rfl⟩ : ∃ m, n = m + 1 := ⟨n - 1, by omega⟩
    have hp : 2 ^ nc ≤ 256 := Nat.pow_le_pow_right (n := 2) (by decide) h8
    obtain ⟨z, hz⟩ := dark_tail (y1 := on k) (y2 := on (pc m0)) (y3 := dw j) hn h8 hb hb2 hm (2 ^ nc - i) i n' (by omega) (by omega) (by omega)
    rw [fX0_dark_L16, ← hr.1.2.2.2.2.2.1, hb, if_pos (show on b < on i by rw [on_lt (by omega) (by omega)]; omega)]
    exact ⟨j, on i, z, σ, τ, by omega, rfl, hz, XT.rf, MT.rf, hm, hc⟩
  | d + 1, i, n, n', j, σ, τ, hi, hd, hd', hj, hr, hm, hm3, hc => by
    obtain ⟨n, rfl⟩ : ∃ m, n = m + 1 := ⟨n - 1, by omega⟩
    obtain ⟨n', rfl⟩ : ∃ m, n' = m + 1 := ⟨n' - 1, by omega⟩
    have hp : 2 ^ nc ≤ 256 := Nat.pow_le_pow_right (n := 2) (by decide) h8
    have es : (1 : Int32) <<< (on nc &&& 31) = on (2 ^ nc) := by
      rcases (show nc = 0 ∨ nc = 1 ∨ nc = 2 ∨ nc = 3 ∨ nc = 4 ∨ nc = 5 ∨ nc = 6 ∨ nc = 7 ∨ nc = 8 by omega) with rfl | rfl | rfl | rfl | rfl | rfl | rfl | rfl | rfl <;> decide
    have step : ∀ (j2 : Nat) (σ1 τ1 : ZS), j2 ≤ i + 1 → XT σ σ1 → MT τ τ1 → isRow τ1 1 f → isRow τ1 3 f → cOK τ1 f → ∃ j' z z' σ' τ', j' ≤ 256 ∧ fX0_dark_L16 w (on k) n (dw j2) (on (i + 1)) σ1 = some ((dw j', z), σ') ∧ fX6_dark_L41 (on k) (on (pc m0)) n' (dw j2) (on (i + 1)) τ1 = some ((dw j', z'), τ') ∧ XT σ σ' ∧ MT τ τ' ∧ isRow τ' 1 f ∧ cOK τ' f := by
      intro j2 σ1 τ1 h1 h2 h3 h4 h5 h6
      obtain ⟨j', z, z', σ2, τ2, c0, c1, c2, c3, c4, c5, c6⟩ := dark_L (w := w) hI hn h8 hb hb2 hk hm0 hm128 d (i + 1) n n' j2 σ1 τ1 (by omega) (by omega) (by omega) (by omega) (hr.xt (by omega) h2) h4 h5 h6
      exact ⟨j', z, z', σ2, τ2, c0, c1, c2, h2.tr c3, h3.tr c4, c5, c6⟩
    rw [fX0_dark_L16, ← hr.1.2.2.2.2.2.1, hb, if_neg (show ¬ on b < on i by rw [on_lt (by omega) (by omega)]; omega)]
    rw [fX6_dark_L41, show τ.1 1 (1 : Int32).toNatClampNeg = f 1 from hm 1 (by omega), hn, es, if_neg (show ¬ on (2 ^ nc) ≤ on i by rw [on_le (by omega) (by omega)]; omega), show τ.1 1 (5 : Int32).toNatClampNeg = f 5 from hm 5 (by omega), hb, show (5 : Int32).toNatClampNeg = 5 from rfl]
    simp only [nm_eq]
    by_cases q : on i &&& (on b ^^^ (-1)) = 0
    · rw [if_pos q, if_pos q]
      have hs := (sub_le b (by omega) i (by omega) q).2
      rw [hs]
      obtain ⟨σ1, s1, s2⟩ := isSafe_ok (s := i) (k := k) hr hI hn h8 hb hb2 hs hk
      obtain ⟨τ1, t1, t2, t3, t4, t5⟩ := mdark_ok (b := b) (s := i) (k := k) (y3 := dw j) (y4 := on i) hm hm3 hc hI hn h8 hb2 hk hm0 hm128
      rw [t1, s1]
      by_cases z0 : j = 0
      · subst z0
        rw [if_pos (show dw 0 = -1 from rfl), if_pos (show dw 0 < 0 by decide), if_neg (show ¬ (1 : Int32) = 0 by decide), bd_some, bd_some, on_a1]
        by_cases qs : lst (hrs (upd f 5 (on (b - i))) k) (nsh f) = lst f (nsh f)
        · rw [if_pos qs, if_pos qs, if_neg (show ¬ (1 : Int32) = 0 by decide), bd_some]
          exact step (i + 1) σ1 τ1 (by omega) s2 t5 t2 t3 t4
        · rw [if_neg qs, if_neg qs, if_pos rfl, bd_some]
          exact step 0 σ1 τ1 (by omega) s2 t5 t2 t3 t4
      · obtain ⟨j, rfl⟩ : ∃ m, j = m + 1 := ⟨j - 1, by omega⟩
        have e1 : ¬ dw (j + 1) = -1 := fun h => by have := (dwl (j := j + 1) (by omega)).2.mp h; omega
        have e2 : ¬ dw (j + 1) < 0 := fun h => by have := (dwl (j := j + 1) (by omega)).1.mp h; omega
        rw [if_neg e1, if_neg e2, bits_ok (m := i) (by omega), bo_some, show fX6_bits τ (dw (j + 1)) = _ from bits_ok (m := j) (by omega), bo_some, show fJ9_bitCount (dw (j + 1)) = _ from bitCount_ok j (by omega), bitCount_ok i (by omega)]
        by_cases qb : on (pc j) ≤ on (pc i)
        · rw [if_pos qb, if_pos qb, if_pos rfl, bd_some, bd_some, on_a1]
          exact step (j + 1) σ τ (by omega) XT.rf MT.rf hm hm3 hc
        · rw [if_neg qb, if_neg qb, if_neg (show ¬ (1 : Int32) = 0 by decide), bd_some, bd_some, on_a1]
          by_cases qs : lst (hrs (upd f 5 (on (b - i))) k) (nsh f) = lst f (nsh f)
          · rw [if_pos qs, if_pos qs, if_neg (show ¬ (1 : Int32) = 0 by decide), bd_some]
            exact step (i + 1) σ1 τ1 (by omega) s2 t5 t2 t3 t4
          · rw [if_neg qs, if_neg qs, if_pos rfl, bd_some]
            exact step (j + 1) σ1 τ1 (by omega) s2 t5 t2 t3 t4
    · rw [if_neg q, if_neg q, bd_some, bd_some, on_a1]
      exact step j σ τ (by omega) XT.rf MT.rf hm hm3 hc
set_option maxHeartbeats 2000000 in
theorem dark_act {w : ZW} {N : Nat} {σx σm : ZS} {p1 : Int32} (h : RR w N σx σm) : act w N σm (fX0_dark w σx p1) (fX6_dark σm p1) := by
  have h0 := h
  obtain ⟨⟨f, hf⟩, hT⟩ := h
  have hI := hf.2.2.1
  unfold fX0_dark fX6_dark
  simp only [xi, wi]
  by_cases q1 : 0 ≤ p1 ∧ p1 ≤ 20
  · simp only [if_pos q1, i10, eq_self, ↓reduceIte, nd1', bd_some, sc_inl]
    obtain ⟨k, -, k2, rfl⟩ := on_rng (lo := 0) (hi := 20) (by omega) q1
    obtain ⟨nc, n1, n2, n3, n4, -⟩ := hI.1
    have hp : 2 ^ nc ≤ 256 := Nat.pow_le_pow_right (n := 2) (by decide) n3
    have hpos : 0 < 2 ^ nc := Nat.pow_pos (by decide)
    obtain ⟨b, -, b1, b2⟩ := on_rng (lo := 0) (hi := 2 ^ nc - 1) (by omega) ⟨hI.2.2.2.2.1, n4⟩
    obtain ⟨τ1, c1, c2, c3, c4, c5⟩ := mtry hf.2.1 hf.2.2.2
    obtain ⟨m0, l1, l2⟩ := lst_on (f := f) (nsh7 hI) hI.l01
    have hp7 := pow7 (nsh7 hI)
    obtain ⟨j, z, z', σ2, τ2, d0, d2, d3, d4, d5, d6, d7⟩ := dark_L (w := w) (k := k) hI n1 n3 b2 (by omega) (by omega) l2 (by omega) (b + 1) 0 10000 10000 0 σx τ1 (by omega) (by omega) (by omega) (by omega) hf.1 c2 c3 c4
    rw [c1, bd_some, lostNow_ok c2 hI, bo_some, l2, bits_ok (by omega), bo_some, show fX0_dark_L16 w (on k) 10000 (-1) 0 σx = _ from d2, bd_some, show fX6_dark_L41 (on k) (on (pc m0)) 10000 (-1) 0 τ1 = _ from d3, bd_some]
    simp only [nm_eq]
    have hMT := c5.tr d5
    cases j with
    | zero =>
      rw [if_pos (show dw 0 = -1 from rfl), if_neg (show ¬ 0 ≤ dw 0 by decide)]
      simp only [nd0, bd_some, sc_inr, bd_id]
      exact (err2 (RR.try0 hf hT d4 hMT d6 d7) rfl rfl).of hMT.1
    | succ j =>
      rw [if_neg (fun h => by have := (dwl (j := j + 1) d0).2.mp h; omega), if_pos (show 0 ≤ dw (j + 1) from on_ge (show j < 2147483648 by omega))]
      simp only [nd1', bd_some, sc_inl]
      exact act_mk rfl rfl (RR.try hf hT d4 hMT d6 d7) hMT.1
  · simp only [if_neg q1, eq_self, ↓reduceIte, nd0, bd_some, sc_inr, bd_id]
    exact err1 h0 rfl rfl
