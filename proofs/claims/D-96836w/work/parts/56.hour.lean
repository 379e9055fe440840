/-! the plain law, 7: an hour, by the reference and by the class -/
/-- what the reference writes while hours go -/
def MF (σ σ' : ZS) : Prop := σ'.2 = σ.2 ∧ ∀ r, r ≠ 1 → r ≠ 6 → r ≠ 14 → r ≠ 15 → σ'.1 r = σ.1 r
theorem MF.rf {σ : ZS} : MF σ σ := ⟨rfl, fun _ _ _ _ _ => rfl⟩
theorem MF.tr {σ σ1 σ2 : ZS} (h1 : MF σ σ1) (h2 : MF σ1 σ2) : MF σ σ2 := ⟨h2.1.trans h1.1, fun r a b c d => (h2.2 r a b c d).trans (h1.2 r a b c d)⟩
theorem MS.mf {σ σ' : ZS} (h : MS σ σ') : MF σ σ' := ⟨h.1, fun r _ b c d => h.2 r b c d⟩
theorem MF.st {σ σ' : ZS} (h : MF σ σ') {j : Nat} {v : Int32} : MF σ (sI σ' 1 j v) := ⟨h.1, fun r a b c d => by rw [sI_r a]; exact h.2 r a b c d⟩
theorem isRow.st {σ : ZS} {r : Nat} {f : Nat → Int32} (h : isRow σ r f) {j : Nat} {v : Int32} : isRow (sI σ r j v) r (upd f j v) := fun i hi => by
  by_cases e : i = j
  · rw [e, sI_s, upd_s]
  · rw [sI_n e, upd_n e]
    exact h i hi
theorem cOK.st {σ : ZS} {f : Nat → Int32} (h : cOK σ f) {r j : Nat} {v : Int32} (hr : r ≠ 6) : cOK (sI σ r j v) f := fun c y hc hy => by rw [sI_r (Ne.symm hr)]; exact h c y hc hy
theorem tru_congr {f g : Nat → Int32} (h : sBed f g) (h3 : f 3 = g 3) {c : Nat} (hc : c < 8) : tru f c = tru g c := by
  unfold tru dep
  rw [dpt_congr h hc, h3]
theorem giv1 {f : Nat → Int32} {a b c : Int32} : giv f 1 a b c = 0 ∨ giv f 1 a b c = 1 := by
  have h := held_rng (v := if f (138 + 52 * 1) ≤ 0 then (if (1 : Nat) = 0 then c else 0) else val (nm3 a b c) (cds f 1)) (hi := 1) (by decide)
  unfold giv
  rw [show (if (1 : Nat) = 0 then (19 : Int32) else 1) = 1 from rfl]
  generalize fX6_held _ 0 1 = x at h ⊢
  grind
theorem sh0 : ∀ s, s < 7 → (fX6_shipAt (on s) 0).toNatClampNeg = 33 + 5 * s ∧ ¬ (fX6_shipAt (on s) 0 < 0 ∨ 242 ≤ (fX6_shipAt (on s) 0).toNatClampNeg) := by decide +kernel
theorem sh1 : ∀ s, s < 7 → (fX6_shipAt (on s) 1).toNatClampNeg = 34 + 5 * s ∧ ¬ (fX6_shipAt (on s) 1 < 0 ∨ 242 ≤ (fX6_shipAt (on s) 1).toNatClampNeg) := by decide +kernel
theorem sh2 : ∀ s, s < 7 → (fX6_shipAt (on s) 2).toNatClampNeg = 35 + 5 * s ∧ ¬ (fX6_shipAt (on s) 2 < 0 ∨ 242 ≤ (fX6_shipAt (on s) 2).toNatClampNeg) := by decide +kernel
theorem sh3 : ∀ s, s < 7 → (fX6_shipAt (on s) 3).toNatClampNeg = 36 + 5 * s ∧ ¬ (fX6_shipAt (on s) 3 < 0 ∨ 242 ≤ (fX6_shipAt (on s) 3).toNatClampNeg) := by decide +kernel
theorem sh4 : ∀ s, s < 7 → (fX6_shipAt (on s) 4).toNatClampNeg = 37 + 5 * s ∧ ¬ (fX6_shipAt (on s) 4 < 0 ∨ 242 ≤ (fX6_shipAt (on s) 4).toNatClampNeg) := by decide +kernel
theorem si0 {σ : ZS} {f : Nat → Int32} {s : Nat} (hr : isRow σ 1 f) (hs : s < 7) : fX6_shipIs σ (on s) 0 = some (f (33 + 5 * s)) := by
  obtain ⟨a1, a2⟩ := sh0 s hs
  unfold fX6_shipIs
  rw [gd_pos a2, a1, hr _ (by omega)]
theorem si1 {σ : ZS} {f : Nat → Int32} {s : Nat} (hr : isRow σ 1 f) (hs : s < 7) : fX6_shipIs σ (on s) 1 = some (f (34 + 5 * s)) := by
  obtain ⟨a1, a2⟩ := sh1 s hs
  unfold fX6_shipIs
  rw [gd_pos a2, a1, hr _ (by omega)]
theorem si2 {σ : ZS} {f : Nat → Int32} {s : Nat} (hr : isRow σ 1 f) (hs : s < 7) : fX6_shipIs σ (on s) 2 = some (f (35 + 5 * s)) := by
  obtain ⟨a1, a2⟩ := sh2 s hs
  unfold fX6_shipIs
  rw [gd_pos a2, a1, hr _ (by omega)]
theorem si3 {σ : ZS} {f : Nat → Int32} {s : Nat} (hr : isRow σ 1 f) (hs : s < 7) : fX6_shipIs σ (on s) 3 = some (f (36 + 5 * s)) := by
  obtain ⟨a1, a2⟩ := sh3 s hs
  unfold fX6_shipIs
  rw [gd_pos a2, a1, hr _ (by omega)]
theorem si4 {σ : ZS} {f : Nat → Int32} {s : Nat} (hr : isRow σ 1 f) (hs : s < 7) : fX6_shipIs σ (on s) 4 = some (f (37 + 5 * s)) := by
  obtain ⟨a1, a2⟩ := sh4 s hs
  unfold fX6_shipIs
  rw [gd_pos a2, a1, hr _ (by omega)]
set_option maxHeartbeats 2000000 in
theorem sails_ok {σ : ZS} {f : Nat → Int32} {s : Nat} (hr : isRow σ 1 f) (hI : FI f) (hk : cOK σ f) (hs : s < 7) (hl : on s < f 2) (h0 : f (37 + 5 * s) = 0) (hp : ¬ f (36 + 5 * s) ≤ 0) : ∃ σ', fX6_sails σ (on s) = some ((), σ') ∧ isRow σ' 1 (shp f s) ∧ cOK σ' f ∧ MF σ σ' := by
  obtain ⟨⟨nc, c1, c2, c3, c4, c5⟩, -, ⟨y0, y1⟩, ⟨b0, b1⟩, -, -, -, sh, x0, x1⟩ := hI
  obtain ⟨a, a1, a2⟩ := c5 s hs hl
  obtain ⟨-, kd, kd1, kd2⟩ := sh s hs hl
  have hp' := hp
  rw [a2] at hp'
  obtain ⟨k, rfl⟩ := on_pos (by omega) hp'
  have hkn : ((f (36 + 5 * s)).toNatClampNeg - 1) = k := by rw [a2, tn_ofNat (by omega)]; omega
  obtain ⟨σ1, g1, g2, g3⟩ := bel_ok hr x0 hk hs (show k < 8 by omega) y0 y1 b0 b1 (by rw [kd2]; exact ⟨on_ge (by omega), (on_le (b := 6) (by omega) (by omega)).mpr (by omega)⟩)
  have hr1 := hr.ms g2
  unfold fX6_sails shp
  rw [if_pos h0, if_neg hp, hkn]
  rw [si3 hr hs, a2, bo_some, on_s1, g1, bd_some]
  obtain ⟨j3, j3'⟩ := sh3 s hs
  obtain ⟨j4, j4'⟩ := sh4 s hs
  rw [si2 hr1 hs, bo_some, si1 hr1 hs]
  by_cases hb : bel f s k < f (35 + 5 * s)
  · obtain ⟨σ2, u1, u2, u3⟩ := given_ok (a := f (35 + 5 * s)) (b := f (34 + 5 * s)) (c := f 0) (show 1 < 2 by decide) hr1 x1
    have u1 : fX6_given σ1 1 (f (35 + 5 * s)) (f (34 + 5 * s)) (f 0) = _ := u1
    have hr2 := hr1.ms u2
    have k2 : cOK σ2 f := fun c y hc hy => by rw [u3]; exact g3 c y hc hy
    rw [if_pos hb, if_pos hb, bo_some, bo_some, show σ1.1 1 (0 : Int32).toNatClampNeg = f 0 from hr1 0 (by omega), u1, bd_some]
    by_cases hg : giv f 1 (f (35 + 5 * s)) (f (34 + 5 * s)) (f 0) = 1
    · rw [if_pos hg, if_pos hg]
      have hw : fX6_isCell σ2 (on (k + 1) + 1) = if on (k + 1) + 1 ≤ f 1 - 1 then 1 else 0 := by
        unfold fX6_isCell fX6_within
        rw [show σ2.1 1 (1 : Int32).toNatClampNeg = f 1 from hr2 1 (by omega), on_a1]
        simp only [nm]
        rw [if_neg (on_nn (by omega))]
        by_cases q : on (k + 1 + 1) ≤ f 1 - 1
        · rw [if_pos q, if_neg (by grind)]
        · rw [if_neg q, if_pos (by grind)]
      rw [hw]
      by_cases q : on (k + 1) + 1 ≤ f 1 - 1
      · rw [if_pos q, if_neg (by decide), if_pos q, nm_eq, gd_pos j3', bd_some, j3]
        refine ⟨_, rfl, ?_, k2.st (by decide), (g2.mf.tr u2.mf).st⟩
        exact hr2.st
      · rw [if_neg q, if_pos rfl, if_neg q, bd_some]
        exact ⟨σ2, rfl, hr2, k2, g2.mf.tr u2.mf⟩
    · rw [if_neg hg, if_neg hg, bd_some]
      exact ⟨σ2, rfl, hr2, k2, g2.mf.tr u2.mf⟩
  · rw [if_neg hb, if_neg hb, nm_eq, gd_pos j3', j3]
    have bd1 : sBed f (upd f (36 + 5 * s) (on k)) := sBed.upd (by omega)
    have hr2 : isRow (sI σ1 1 (36 + 5 * s) (on k)) 1 (upd f (36 + 5 * s) (on k)) := hr1.st
    obtain ⟨σ2, t1, t2, t3⟩ := tru_ok (c := k) hr2 (txOk_congr bd1 x0) (cOK_congr bd1 (g3.st (by decide))) (by omega) (by rw [upd_n (by omega)]; exact y1)
    have hr3 := hr2.ms t2
    rw [t1, bd_some, si2 hr3 hs, upd_n (by omega), bo_some, nm_eq, gd_pos j4', j4, bd_some]
    rw [← tru_congr bd1 (upd_n (by omega)).symm (show k < 8 by omega)]
    refine ⟨_, rfl, hr3.st, ?_, ((g2.mf.st).tr t2.mf).st⟩
    intro c y hc hy
    rw [sI_r (by decide), dpt_congr bd1 hc]
    exact t3 c y hc hy
theorem hour_L {f : Nat → Int32} {ns : Nat} (hI : FI f) (hn : f 2 = on ns) (h7 : ns ≤ 7) : ∀ (k i : Nat) (σ : ZS) (n : Nat), i + k = ns → k < n → isRow σ 1 (shps f i) → cOK σ f → ∃ σ', fX6_hour_L2 n (on i) σ = some (on ns, σ') ∧ isRow σ' 1 (shps f ns) ∧ cOK σ' f ∧ MF σ σ'
  | 0, i, σ, n, hi, hk, hr, hc => by
    obtain ⟨n, rfl⟩ : ∃ m, n = m + 1 := ⟨n - 1, by omega⟩
    have hii : i = ns := by omega
    subst hii
    have e : σ.1 1 (2 : Int32).toNatClampNeg = on i := by
      rw [show σ.1 1 (2 : Int32).toNatClampNeg = shps f i 2 from hr 2 (by omega), (shps_sHr h7).1 2 (by omega) (fun s hs => by omega), hn]
    rw [fX6_hour_L2, e, if_pos ((on_le (by omega) (by omega)).mpr (Nat.le_refl _))]
    exact ⟨σ, rfl, hr, hc, MF.rf⟩
  | k + 1, i, σ, n, hi, hk, hr, hc => by
    obtain ⟨n, rfl⟩ : ∃ m, n = m + 1 := ⟨n - 1, by omega⟩
    have hsh := (shps_sHr (f := f) (n := i) (by omega)).1
    have hFI := shps_FI hI (n := i) (by omega)
    have h2 : shps f i 2 = on ns := by rw [hsh 2 (by omega) (fun s hs => by omega), hn]
    have e : σ.1 1 (2 : Int32).toNatClampNeg = on ns := by
      rw [show σ.1 1 (2 : Int32).toNatClampNeg = shps f i 2 from hr 2 (by omega), h2]
    have hl : on i < shps f i 2 := by rw [h2]; exact (on_lt (by omega) (by omega)).mpr (by omega)
    rw [fX6_hour_L2, e, if_neg (by rw [on_le (by omega) (by omega)]; omega)]
    rw [si4 hr (by omega), bo_some]
    rw [si3 hr (by omega), bo_some]
    by_cases z : shps f i (37 + 5 * i) = 0
    · rw [if_pos z]
      by_cases q : shps f i (36 + 5 * i) ≤ 0
      · rw [if_pos q, bd_some, nm_eq, on_a1]
        refine hour_L hI hn h7 k (i + 1) σ n (by omega) (by omega) ?_ hc
        rw [shps, shp, if_pos z, if_pos q]
        exact hr
      · obtain ⟨σ1, a1, a2, a3, a4⟩ := sails_ok hr hFI (cOK_congr hsh.bed hc) (by omega) hl z q
        rw [if_neg q, a1, bd_some, bd_some, nm_eq, on_a1]
        obtain ⟨σ2, b1, b2, b3, b4⟩ := hour_L hI hn h7 k (i + 1) σ1 n (by omega) (by omega) a2 (fun c y hc' hy => by rw [dpt_congr hsh.bed hc']; exact a3 c y hc' hy)
        exact ⟨σ2, b1, b2, b3, a4.tr b4⟩
    · rw [if_neg z, bd_some, nm_eq, on_a1]
      refine hour_L hI hn h7 k (i + 1) σ n (by omega) (by omega) ?_ hc
      rw [shps, shp, if_neg z]
      exact hr
theorem hour_ok {σ : ZS} {f : Nat → Int32} (hr : isRow σ 1 f) (hI : FI f) (hk : cOK σ f) : ∃ σ', fX6_hour σ = some ((), σ') ∧ isRow σ' 1 (hr1 f) ∧ cOK σ' (hr1 f) ∧ MF σ σ' := by
  obtain ⟨ns, s1, s2, s3⟩ := hI.ns
  obtain ⟨σ1, a1, a2, a3, a4⟩ := hour_L hI s1 s2 ns 0 σ 10000 (by omega) (by omega) hr hk
  have hz : shps f ns 0 = f 0 := (shps_sHr s2).2
  unfold fX6_hour
  rw [show (0 : Int32) = on 0 from rfl, a1, bd_some, nm_eq, show σ1.1 1 (on 0).toNatClampNeg = f 0 from by rw [← hz]; exact a2 0 (by omega)]
  refine ⟨_, rfl, ?_, ?_, a4.st⟩
  · unfold hr1
    rw [s3]
    exact a2.st
  · exact cOK_congr (hr1_sHr hI).bed (a3.st (by decide))
theorem hoursGo_L {y : Nat} (hy : y < 9000) : ∀ (k i : Nat) (σ : ZS) (f : Nat → Int32) (n : Nat), i + k = y → k < n → isRow σ 1 f → FI f → cOK σ f → ∃ σ', fX6_hoursGo_L2 (on y) n (on i) σ = some (on y, σ') ∧ isRow σ' 1 (hrs f k) ∧ cOK σ' (hrs f k) ∧ MF σ σ'
  | 0, i, σ, f, n, hi, hk, hr, hI, hc => by
    obtain ⟨n, rfl⟩ : ∃ m, n = m + 1 := ⟨n - 1, by omega⟩
    have hii : i = y := by omega
    subst hii
    rw [fX6_hoursGo_L2, if_pos ((on_le (by omega) (by omega)).mpr (Nat.le_refl _))]
    exact ⟨σ, rfl, hr, hc, MF.rf⟩
  | k + 1, i, σ, f, n, hi, hk, hr, hI, hc => by
    obtain ⟨n, rfl⟩ : ∃ m, n = m + 1 := ⟨n - 1, by omega⟩
    obtain ⟨σ1, a1, a2, a3, a4⟩ := hour_ok hr hI hc
    obtain ⟨σ2, b1, b2, b3, b4⟩ := hoursGo_L hy k (i + 1) σ1 (hr1 f) n (by omega) (by omega) a2 (hr1_FI hI) a3
    rw [fX6_hoursGo_L2, if_neg (by rw [on_le (by omega) (by omega)]; omega), a1, bd_some, nm_eq, on_a1, b1]
    have e : ∀ k, hrs (hr1 f) k = hrs f (k + 1) := by
      intro k
      induction k with
      | zero => rfl
      | succ k ih => show hr1 (hrs (hr1 f) k) = hr1 (hrs f (k + 1)); rw [ih]
    rw [e] at b2 b3
    exact ⟨σ2, rfl, b2, b3, a4.tr b4⟩
theorem hoursGo_ok {σ : ZS} {f : Nat → Int32} {y : Nat} (hy : y < 9000) (hr : isRow σ 1 f) (hI : FI f) (hk : cOK σ f) : ∃ σ', fX6_hoursGo σ (on y) = some ((), σ') ∧ isRow σ' 1 (hrs f y) ∧ cOK σ' (hrs f y) ∧ MF σ σ' := by
  obtain ⟨σ1, a1, a2⟩ := hoursGo_L hy y 0 σ f 10000 (by omega) (by omega) hr hI hk
  unfold fX6_hoursGo
  rw [show (0 : Int32) = on 0 from rfl, a1]
  exact ⟨σ1, rfl, a2⟩
