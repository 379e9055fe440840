/-! the plain law, 22: check; dark -/
theorem check_L {w : ZW} {f : Nat → Int32} {M : Nat} (hI : FI f) (hM : M ≤ 20) : ∀ (d i n n' : Nat) (σ τ : ZS), i + d = M → d + 1 < n → d + 1 < n' → BR w σ 300 (hrs f i) → BR w σ 100 f → isRow τ 1 (hrs f i) → cOK τ (hrs f i) → isRow τ 3 f → ∃ v a b z σ' τ', fX0_check_L32 w (on M) n (on i) 1 σ = some ((a, b), σ') ∧ (if b = 0 then 1 + a else 0) = v ∧ fX6_check_L31 (on M) n' 0 (on i) τ = some ((v, z), τ') ∧ XT σ σ' ∧ MT τ τ' ∧ isRow τ' 3 f ∧ cOK τ' f
  | 0, i, n, n', σ, τ, hi, hn, hn', hr, hr1', hm, hc, hm3 => by
    obtain ⟨n, rfl⟩ : ∃ m, n = m + 1 := ⟨n - 1, by omega⟩
    obtain ⟨n', rfl⟩ : ∃ m, n' = m + 1 := ⟨n' - 1, by omega⟩
    have hii : i = M := by omega
    subst hii
    rw [fX0_check_L32, fX6_check_L31]
    simp only [show on i ≤ on i from (on_le (by omega) (by omega)).mpr (Nat.le_refl _), ↓reduceIte]
    exact ⟨0, on i, 1, on i, σ, τ, rfl, by rw [if_neg (by decide)], rfl, XT.rf, MT.rf, hm3, cOK_congr (hrs_sHr hI).bed.symm hc⟩
  | d + 1, i, n, n', σ, τ, hi, hn, hn', hr, hr1', hm, hc, hm3 => by
    obtain ⟨n, rfl⟩ : ∃ m, n = m + 1 := ⟨n - 1, by omega⟩
    obtain ⟨n', rfl⟩ : ∃ m, n' = m + 1 := ⟨n' - 1, by omega⟩
    have hFI := hrs_FI hI (n := i)
    have hFI' := hrs_FI hI (n := i + 1)
    obtain ⟨σ1, a1, a2, a3⟩ := goes_ok (y := 1) (by omega) hr zB3 hFI
    have a2 : BR w σ1 300 (hrs f (i + 1)) := a2
    obtain ⟨τ1, b1, b2, b3, b4⟩ := hour_ok hm hFI hc
    have b2 : isRow τ1 1 (hrs f (i + 1)) := b2
    have hmm := hm3.mf b4
    have ew : σ.1 (100 + 18) i = f (118 + i) := (hr1'.2.2.2.2.2.1 i (by omega)).symm
    have em : τ1.1 1 (118 + i) = f (118 + i) := by rw [b2 _ (by omega)]; exact hrs_sHr hI _ (by omega) (fun s hs => by omega)
    have e118 : (118 : Int32) + on i = on (118 + i) := by rw [show (118 : Int32) = on 118 from rfl, on_add]
    rw [fX0_check_L32, fX6_check_L31]
    simp only [show ¬ on M ≤ on i from by rw [on_le (by omega) (by omega)]; omega, ↓reduceIte, i10, eq_self]
    rw [gd_pos (on_in (by omega) (by decide)), tn_ofNat (by omega), show fX2_goes w σ 300 1 = _ from a1, bd_some, xhom_ok a2 hFI', bo_some, b1, bd_some, e118, gd_pos (on_in (by omega) (by decide)), tn_ofNat (by omega), manyIn_ok b2 hFI', bo_some, ew, em]
    simp only [nm_eq]
    by_cases q : f (118 + i) = hom (hrs f (i + 1)) (nsh (hrs f (i + 1)))
    · simp only [if_pos q, i10, ↓reduceIte]
      rw [on_a1]
      obtain ⟨v, a, b, z, σ2, τ2, c1, c2, c3, c4, c5, c6, c7⟩ := check_L (w := w) hI hM d (i + 1) n n' σ1 τ1 (by omega) (by omega) (by omega) a2 (hr1'.xt (by omega) a3.xt) b2 b3 hmm
      exact ⟨v, a, b, z, σ2, τ2, c1, c2, c3, a3.xt.tr c4, b4.mt.tr c5, c6, c7⟩
    · simp only [if_neg q, eq_self, ↓reduceIte]
      obtain ⟨n, rfl⟩ : ∃ m, n = m + 1 := ⟨n - 1, by omega⟩
      obtain ⟨n', rfl⟩ : ∃ m, n' = m + 1 := ⟨n' - 1, by omega⟩
      refine ⟨1 + on i, on i, 0, on i + 1, σ1, τ1, ?_, by rw [if_pos rfl], ?_, a3.xt, b4.mt, hmm, cOK_congr (hrs_sHr hI (n := i + 1)).bed.symm b3⟩
      · rw [show on i + 0 = on i from by grind, fX0_check_L32, if_neg (show ¬ on M ≤ on i from by rw [on_le (by omega) (by omega)]; omega), if_pos rfl]
      · rw [fX6_check_L31, if_neg (show ¬ 1 + on i = 0 from by rw [show (1 : Int32) = on 1 from rfl, on_add, show (0 : Int32) = on 0 from rfl, on_eq (by omega) (by omega)]; omega)]
        split <;> rfl
theorem FI.waits {f : Nat → Int32} (h : FI f) {n : Nat} (hn : n ≤ 20) : FI (upd f 8 (on n)) :=
  h.up (by omega) (by omega) (by omega) (by intros; omega) (by intros; omega) (by intros; omega) (by intros; omega) (fun _ => ⟨n, rfl, hn⟩) (by intros; omega) (by intros; omega) (by intros; omega)
set_option maxHeartbeats 2000000 in
theorem check_act {w : ZW} {N : Nat} {σx σm : ZS} (h : RR w N σx σm) : act w N σm (fX0_check w σx) (fX6_check σm) := by
  obtain ⟨⟨f, hf⟩, hT⟩ := h
  have hI := hf.2.2.1
  obtain ⟨M, m1, m2⟩ := hI.2.2.2.2.2.2.1
  obtain ⟨-, h1⟩ := numb_one (i := 8) (j := 18) (v := 0) hf hT (by omega) (hI.waits (n := 0) (by omega))
  have hI' : FI (upd f 8 0) := hI.waits (n := 0) (by omega)
  have hx : BR w (sI σx 100 18 0) 100 (upd f 8 0) := hf.1.numb (by omega)
  have hm : isRow (sI σm 1 8 0) 1 (upd f 8 0) := hf.2.1.st
  have hc : cOK (sI σm 1 8 0) (upd f 8 0) := cOK_congr (sBed.upd (by omega)) (hf.2.2.2.st (by decide))
  have hT' : RT w N (sI σx 100 18 0) (sI σm 1 8 0) := hT.congr (by omega) (fun q hq => sI_r (by omega)) (fun q hq => rfl) rfl (fun q hq => sI_r (by omega))
  obtain ⟨σ1, a1, a2, a3, a4⟩ := xtry hx
  obtain ⟨τ1, c1, c2, c3, c4, c5⟩ := mtry hm hc
  obtain ⟨v, a, b, z, σ2, τ2, d1, d2, d3, d4, d5, d6, d7⟩ := check_L (w := w) hI' m2 M 0 10000 10000 σ1 τ1 (by omega) (by omega) (by omega) a2 a3 c2 c4 c3
  obtain ⟨τ3, f1, f2, f3, f4, f5⟩ := mback' (v := v) d6 d7 sBed.rf
  unfold fX0_check fX6_check
  rw [← hf.1.1.2.2.2.2.2.2.2.2, show σm.1 1 (8 : Int32).toNatClampNeg = f 8 from hf.2.1 8 (by omega), m1]
  simp only [nm_eq]
  rw [a1, bd_some, show fX0_check_L32 w (on M) 10000 0 1 σ1 = _ from d1, bd_some, show (8 : Int32).toNatClampNeg = 8 from rfl, c1, bd_some, show fX6_check_L31 (on M) 10000 0 0 τ1 = _ from d3, bd_some]
  simp only
  rw [f1, bd_some, d2]
  have hMT := (c5.tr d5).tr f5
  exact act_mk rfl rfl (RR.try (f := upd f 8 0) ⟨hx, hm, hI', hc⟩ hT' (a4.tr d4) hMT f2 f4) hMT.1
/-! dark -/
theorem FI.beam {f : Nat → Int32} (h : FI f) {b : Nat} {nc : Nat} (hn : f 1 = on nc) (h8 : nc ≤ 8) (hb : b < 2 ^ nc) : FI (upd f 5 (on b)) := by
  have hp : 2 ^ nc ≤ 256 := Nat.pow_le_pow_right (n := 2) (by decide) h8
  refine h.up (by omega) (by omega) (by omega) (by intros; omega) (by intros; omega) (fun _ => ⟨on_ge (by omega), fun n hn' h8' => ?_⟩) (by intros; omega) (by intros; omega) (by intros; omega) (by intros; omega) (by intros; omega)
  rw [hn] at hn'
  have e := (on_eq (by omega) (by omega)).mp hn'
  subst e
  exact (on_le (by omega) (by omega)).mpr (by omega)
theorem sub_le : ∀ b, b < 256 → ∀ s, s < 256 → on s &&& (on b ^^^ (-1)) = 0 → s ≤ b ∧ on b &&& (on s ^^^ (-1)) = on (b - s) := by decide +kernel
