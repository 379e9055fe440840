/-! the plain law, 18: loose hours; the next who is lost -/
theorem shr8 (x : Int32) : 0 ≤ (x.toUInt32 >>> ((8 : Int32).toUInt32 &&& Int32.toUInt32 31)).toInt32 := by
  rw [i_le]
  have h1 : (x.toUInt32 >>> ((8 : Int32).toUInt32 &&& Int32.toUInt32 31)).toNat = x.toUInt32.toNat / 256 := by
    rw [show ((8 : Int32).toUInt32 &&& Int32.toUInt32 31) = 8 from by decide, UInt32.toNat_shiftRight, Nat.shiftRight_eq_div_pow]
    rfl
  have h2 := UInt32.toNat_lt x.toUInt32
  generalize (x.toUInt32 >>> ((8 : Int32).toUInt32 &&& Int32.toUInt32 31)) = y at h1 ⊢
  have h3 : y.toInt32.toInt = (y.toNat : Int) := by
    have e : y = UInt32.ofNat y.toNat := by simp
    rw [e, UInt32.toInt32_ofNat']
    have hs : y.toNat < 2147483648 := by omega
    have := Int32.toInt_ofNat_of_lt (n := (UInt32.ofNat y.toNat).toNat) (by rw [UInt32.toNat_ofNat']; omega)
    simpa using this
  rw [h3]
  show (0 : Int) ≤ _
  omega
theorem rem100 {r : Int32} (h : 0 ≤ r) : 0 ≤ r - r / 100 * 100 ∧ r - r / 100 * 100 ≤ 99 := by
  have h0 : (0 : Int) ≤ r.toInt := i_le.mp h
  have hr := Int32.toInt_lt r
  have e100 : (100 : Int32).toInt = 100 := rfl
  have hd : (r / 100).toInt = r.toInt / 100 := by
    rw [Int32.toInt_div, e100, Int.tdiv_eq_ediv_of_nonneg h0]
    exact Int.bmod_eq_of_le (by omega) (by omega)
  have hm : (r / 100 * 100).toInt = r.toInt / 100 * 100 := by
    rw [i_mul]
    · rw [hd, e100]
    · rw [hd, e100]; omega
    · rw [hd, e100]; omega
  have hs : (r - r / 100 * 100).toInt = r.toInt - r.toInt / 100 * 100 := by
    rw [i_sub]
    · rw [hm]
    · rw [hm]; omega
    · rw [hm]; omega
  have e99 : (99 : Int32).toInt = 99 := rfl
  have e0 : (0 : Int32).toInt = 0 := rfl
  constructor
  · rw [i_le, hs, e0]; omega
  · rw [i_le, hs, e99]; omega
def zz (f : Nat → Int32) : Int32 := f 6 * 1103515245 + 12345
def z8 (f : Nat → Int32) : Int32 := ((zz f).toUInt32 >>> ((8 : Int32).toUInt32 &&& Int32.toUInt32 31)).toInt32
/-- one loose hour's start -/
def ls0 (f : Nat → Int32) : Nat → Int32 := upd (upd f 6 (zz f)) 4 (z8 f - z8 f / 100 * 100)
def lss (f : Nat → Int32) : Nat → Nat → Int32
  | 0 => f
  | n + 1 => lss (hr1 (ls0 f)) n
theorem ls0_FI {f : Nat → Int32} (h : FI f) : FI (ls0 f) := by
  unfold ls0
  refine FI.up (FI.up h (by omega) (by omega) (by omega) (by intros; omega) (by intros; omega) (by intros; omega) (by intros; omega) (by intros; omega) (by intros; omega) (by intros; omega) (by intros; omega)) (by omega) (by omega) (by omega) (by intros; omega) (fun _ => rem100 (shr8 _)) (by intros; omega) (by intros; omega) (by intros; omega) (by intros; omega) (by intros; omega) (by intros; omega)
theorem lss_FI : ∀ {n : Nat} {f : Nat → Int32}, FI f → FI (lss f n)
  | 0, _, h => h
  | n + 1, _, h => lss_FI (n := n) (hr1_FI (ls0_FI h))
theorem xls_L {w : ZW} {y : Nat} (hy : y < 9000) : ∀ (k i : Nat) (σ : ZS) (f : Nat → Int32) (n : Nat), i + k = y → k < n → BR w σ 100 f → FI f → ∃ σ', fX0_loose_L9 w (on y) n (on i) σ = some (on y, σ') ∧ BR w σ' 100 (lss f k) ∧ XF 100 σ σ'
  | 0, i, σ, f, n, hi, hk, hr, hI => by
    obtain ⟨n, rfl⟩ : ∃ m, n = m + 1 := ⟨n - 1, by omega⟩
    have hii : i = y := by omega
    subst hii
    rw [fX0_loose_L9, if_pos ((on_le (by omega) (by omega)).mpr (Nat.le_refl _))]
    exact ⟨σ, rfl, hr, XF.rf⟩
  | k + 1, i, σ, f, n, hi, hk, hr, hI => by
    obtain ⟨n, rfl⟩ : ∃ m, n = m + 1 := ⟨n - 1, by omega⟩
    have h6 : σ.1 100 14 = f 6 := hr.1.2.2.2.2.2.2.1.symm
    have h1 : BR w (sI (sI σ 100 14 (zz f)) 100 5 (z8 f - z8 f / 100 * 100)) 100 (ls0 f) := (hr.numb (i := 6) (j := 14) (by omega)).numb (i := 4) (j := 5) (by omega)
    obtain ⟨σ1, a1, a2, a4⟩ := passes_ok h1 zB1 (ls0_FI hI)
    obtain ⟨σ2, b1, b2, b4⟩ := xls_L hy k (i + 1) σ1 (hr1 (ls0 f)) n (by omega) (by omega) a2 (hr1_FI (ls0_FI hI))
    have e : fX2_goesLoose w σ 100 = some ((), σ1) := by
      unfold fX2_goesLoose fX2_draw
      rw [h6, nm_eq, bd_some, sI_s, nm_eq]
      show bd (fX2_passes w (sI (sI σ 100 14 (zz f)) 100 5 (z8 f - z8 f / 100 * 100)) 100) _ = _
      rw [a1, bd_some]
    rw [fX0_loose_L9, if_neg (by rw [on_le (by omega) (by omega)]; omega), e, bd_some, nm_eq, on_a1, b1]
    exact ⟨σ2, rfl, b2, (((XF.rf.st (by omega)).st (by omega)).tr a4).tr b4⟩
theorem ls_L {y : Nat} (hy : y < 9000) : ∀ (k i : Nat) (σ : ZS) (f : Nat → Int32) (n : Nat), i + k = y → k < n → isRow σ 1 f → FI f → cOK σ f → ∃ σ', fX6_loose_L40 (on y) n (on i) σ = some (on y, σ') ∧ isRow σ' 1 (lss f k) ∧ cOK σ' (lss f k) ∧ MF σ σ'
  | 0, i, σ, f, n, hi, hk, hr, hI, hc => by
    obtain ⟨n, rfl⟩ : ∃ m, n = m + 1 := ⟨n - 1, by omega⟩
    have hii : i = y := by omega
    subst hii
    rw [fX6_loose_L40, if_pos ((on_le (by omega) (by omega)).mpr (Nat.le_refl _))]
    exact ⟨σ, rfl, hr, hc, MF.rf⟩
  | k + 1, i, σ, f, n, hi, hk, hr, hI, hc => by
    obtain ⟨n, rfl⟩ : ∃ m, n = m + 1 := ⟨n - 1, by omega⟩
    have h6 : σ.1 1 (6 : Int32).toNatClampNeg = f 6 := hr 6 (by omega)
    have h1 : isRow (sI (sI σ 1 6 (zz f)) 1 4 (z8 f - z8 f / 100 * 100)) 1 (ls0 f) := hr.st.st
    have hc1 : cOK (sI (sI σ 1 6 (zz f)) 1 4 (z8 f - z8 f / 100 * 100)) (ls0 f) := cOK_congr ((sBed.upd (by omega)).tr (sBed.upd (by omega))) ((hc.st (by decide)).st (by decide))
    obtain ⟨σ1, a1, a2, a3, a4⟩ := hour_ok h1 (ls0_FI hI) hc1
    obtain ⟨σ2, b1, b2, b3, b4⟩ := ls_L hy k (i + 1) σ1 (hr1 (ls0 f)) n (by omega) (by omega) a2 (hr1_FI (ls0_FI hI)) a3
    have e : fX6_drawn σ = some (z8 f, sI σ 1 6 (zz f)) := by
      unfold fX6_drawn
      rw [h6, nm_eq, show (6 : Int32).toNatClampNeg = 6 from rfl, sI_s]
      rfl
    rw [fX6_loose_L40, if_neg (by rw [on_le (by omega) (by omega)]; omega), e, bd_some, nm_eq, show (4 : Int32).toNatClampNeg = 4 from rfl, a1, bd_some, nm_eq, on_a1, b1]
    exact ⟨σ2, rfl, b2, b3, ((MF.rf.st.st).tr a4).tr b4⟩
theorem loose_act {w : ZW} {N : Nat} {σx σm : ZS} {p1 : Int32} (h : RR w N σx σm) : act w N σm (fX0_loose w σx p1) (fX6_loose σm p1) := by
  have h0 := h
  obtain ⟨⟨f, hf⟩, hT⟩ := h
  have hI := hf.2.2.1
  have e7 : σx.1 100 7 = f 0 := hf.1.1.1.symm
  unfold fX0_loose fX6_loose
  rw [wi, show σm.1 1 (0 : Int32).toNatClampNeg = f 0 from hf.2.1 0 (by omega)]
  by_cases q1 : 1 ≤ p1 ∧ p1 ≤ 40
  · by_cases q2 : f 0 + p1 ≤ 9999
    · obtain ⟨k, k1, k2, rfl⟩ := on_rng (lo := 1) (hi := 40) (by omega) q1
      obtain ⟨σ1, a1, a2, a3⟩ := xls_L (w := w) (y := k) (by omega) k 0 σx f 10000 (by omega) (by omega) hf.1 hI
      obtain ⟨σ2, b1, b2, b3, b4⟩ := ls_L (y := k) (by omega) k 0 σm f 10000 (by omega) (by omega) hf.2.1 hI hf.2.2.2
      have hI' := lss_FI hI (n := k)
      refine act_mk (r := hom (lss f k) (nsh (lss f k))) ?_ ?_ ⟨⟨lss f k, a2, b2, hI', b3⟩, hT.hr a3 b4⟩ b4.1
      · rw [mustGo_t q1 (by rw [e7]; grind), bd_some, sc_inl, show fX0_loose_L9 w (on k) 10000 0 σx = _ from a1, bd_some, xhom_ok a2 hI', bo_some]
      · rw [if_pos q1, if_neg (by decide), if_pos q2, show fX6_loose_L40 (on k) 10000 0 σm = _ from b1, bd_some, manyIn_ok b2 hI', bo_some]
    · rw [mustGo_3 q1 (by rw [e7]; grind), bd_some, sc_inr, if_pos q1, if_neg (by decide), if_neg q2]
      exact err3 h0 bd_id bd_id
  · rw [mustGo_1 q1, bd_some, sc_inr, if_neg q1, if_pos rfl]
    exact err1 h0 bd_id bd_id
theorem RR.q0 {w : ZW} {N b : Nat} {f : Nat → Int32} {σx σm σx' σm' : ZS} (h : RM w f σx σm) (hT : RT w N σx σm) (hb : zBay b) (hx : XS b σx σx') (hm : MS σm σm') (hc : cOK σm' f) : RR w N σx' σm' := by
  refine ⟨⟨f, h.1.xs zB1 hb hx, h.2.1.ms hm, h.2.2.1, hc⟩, hT.congr (by omega) (fun r hr => hx.2 r (by unfold zBay at hb; omega)) (fun r hr => by rw [hx.1]) (by rw [hx.1]) (fun r hr => hm.2 r (by omega) (by omega) (by omega))⟩
theorem RR.try0 {w : ZW} {N : Nat} {f : Nat → Int32} {σx σm σx' σm' : ZS} (hf : RM w f σx σm) (hT : RT w N σx σm) (hx : XT σx σx') (hm : MT σm σm') (hr : isRow σm' 1 f) (hc : cOK σm' f) : RR w N σx' σm' :=
  ⟨⟨f, hf.1.xt (by omega) hx, hr, hf.2.2.1, hc⟩, hT.congr (by omega) (fun r hr => hx.2.1 r (by omega)) (fun r hr => hx.2.2 r (by omega)) hx.1 (fun r hr => hm.2 r (by omega) (by omega) (by omega) (by omega) (by omega))⟩
theorem act.of {w : ZW} {N : Nat} {σm σm' : ZS} {x m : Option (Int32 × ZS)} (h : act w N σm' x m) (e : σm'.2 = σm.2) : act w N σm x m := by
  obtain ⟨r, a, b, h1, h2, h3, h4⟩ := h
  exact ⟨r, a, b, h1, h2, h3, h4.trans e⟩
/-! deep -/
theorem deep_L {w : ZW} {c : Nat} {v : Int32} {f : Nat → Int32} (hc : c < 8) (hI : FI f) : ∀ (k i n n' : Nat) (σ τ : ZS), i + k = 100 → k < n → k < n' → BR w σ 100 f → isRow τ 1 f → cOK τ f → ∃ j σ' τ', j ≤ 100 ∧ fX0_deep_L30 (on c) v n (on i) σ = some (on j, σ') ∧ fX6_deep_L27 (on c) v n' (on i) τ = some (on j, τ') ∧ XS 100 σ σ' ∧ MS τ τ' ∧ cOK τ' f
  | 0, i, n, n', σ, τ, hi, hn, hn', hr, hm, hk => by
    obtain ⟨n, rfl⟩ : ∃ m, n = m + 1 := ⟨n - 1, by omega⟩
    obtain ⟨n', rfl⟩ : ∃ m, n' = m + 1 := ⟨n' - 1, by omega⟩
    have hii : i = 100 := by omega
    subst hii
    rw [fX0_deep_L30, fX6_deep_L27, if_pos (by decide), if_pos (by decide)]
    exact ⟨100, σ, τ, by omega, rfl, rfl, XS.rf, MS.rf, hk⟩
  | k + 1, i, n, n', σ, τ, hi, hn, hn', hr, hm, hk => by
    obtain ⟨n, rfl⟩ : ∃ m, n = m + 1 := ⟨n - 1, by omega⟩
    obtain ⟨n', rfl⟩ : ∃ m, n' = m + 1 := ⟨n' - 1, by omega⟩
    obtain ⟨y0, y1⟩ := hI.2.2.1
    obtain ⟨σ1, a1, a2⟩ := xdep_ok (y := f 3 - on i) hr hc
    have hle : f 3 - on i ≤ 999 := by
      have h1 := i_le.mp y0
      have h2 := i_le.mp y1
      have e0 : (0 : Int32).toInt = 0 := rfl
      have e9 : (999 : Int32).toInt = 999 := rfl
      rw [i_le, i_sub]
      · rw [i_ofNat (by omega)]; omega
      · rw [i_ofNat (by omega)]; omega
      · rw [i_ofNat (by omega)]; omega
    obtain ⟨τ1, b1, b2, b3⟩ := depthIn_ok (y := f 3 - on i) hm hI.2.2.2.2.2.2.2.2.1 hk hc hle
    rw [fX0_deep_L30, fX6_deep_L27]
    simp only [show ¬ (99 : Int32) < on i from by rw [show (99 : Int32) = on 99 from rfl, on_lt (by omega) (by omega)]; omega, ↓reduceIte]
    rw [← hr.1.2.2.2.1, a1, bd_some, show τ.1 1 (3 : Int32).toNatClampNeg = f 3 from hm 3 (by omega), b1, bd_some]
    by_cases q : v ≤ dep f c (f 3 - on i)
    · rw [if_pos q, if_pos q]
      exact ⟨i, σ1, τ1, by omega, rfl, rfl, a2, b2, b3⟩
    · rw [if_neg q, if_neg q, nm_eq, nm_eq, on_a1]
      obtain ⟨j, σ2, τ2, c1, c2, c3, c4, c5, c6⟩ := deep_L (w := w) (v := v) hc hI k (i + 1) n n' σ1 τ1 (by omega) (by omega) (by omega) (hr.xs zB1 zB1 a2) (hm.ms b2) b3
      exact ⟨j, σ2, τ2, c1, c2, c3, a2.tr c4, b2.tr c5, c6⟩
set_option maxHeartbeats 1000000 in
theorem deep_act {w : ZW} {N : Nat} {σx σm : ZS} {p1 p2 : Int32} (h : RR w N σx σm) : act w N σm (fX0_deep σx p1 p2) (fX6_deep σm p1 p2) := by
  have h0 := h
  obtain ⟨⟨f, hf⟩, hT⟩ := h
  have hI := hf.2.2.1
  unfold fX0_deep fX6_deep
  rw [(hf.cells p1).1, (hf.cells p1).2]
  simp only [xi, wi]
  by_cases q1 : 0 ≤ p1 ∧ p1 ≤ f 1 - 1
  · by_cases q2 : 0 ≤ p2 ∧ p2 ≤ 19
    · simp only [if_pos q1, if_pos q2, i10, eq_self, ↓reduceIte, nm_eq, nd1', bd_some, sc_inl]
      obtain ⟨c, hc, rfl, -⟩ := hI.cell q1
      obtain ⟨j, σ1, τ1, c1, c2, c3, c4, c5, c6⟩ := deep_L (w := w) (v := p2) hc hI 100 0 10000 10000 σx σm (by omega) (by omega) (by omega) hf.1 hf.2.1 hf.2.2.2
      rw [show fX0_deep_L30 (on c) p2 10000 0 σx = _ from c2, show fX6_deep_L27 (on c) p2 10000 0 σm = _ from c3, bd_some, bd_some]
      by_cases q : j ≤ 99
      · rw [if_neg (by rw [show (99 : Int32) = on 99 from rfl, on_lt (by omega) (by omega)]; omega), if_pos (by rw [show (99 : Int32) = on 99 from rfl, on_le (by omega) (by omega)]; omega)]
        simp only [nd1', bd_some, sc_inl]
        exact act_mk rfl rfl (RR.q hf hT zB1 c4 c5 c6) c5.1
      · rw [if_pos (by rw [show (99 : Int32) = on 99 from rfl, on_lt (by omega) (by omega)]; omega), if_neg (by rw [show (99 : Int32) = on 99 from rfl, on_le (by omega) (by omega)]; omega)]
        simp only [nd0, bd_some, sc_inr, bd_id]
        exact (err2 (RR.q0 hf hT zB1 c4 c5 c6) rfl rfl).of c5.1
    · simp only [if_pos q1, if_neg q2, i10, eq_self, ↓reduceIte, nm_eq, nd0, bd_some, sc_inr]
      exact err1 h0 bd_id bd_id
  · simp only [if_neg q1, i10, eq_self, ↓reduceIte, nm_eq, nd0, bd_some, sc_inr]
    exact err1 h0 bd_id bd_id
