/-! the plain law, 4: depths, what is shown, what a ship believes: in a row, and by the reference -/
/-- the depth of the cell c in the year y, y not negative -/
def dpt (f : Nat → Int32) (c : Nat) (y : Int32) : Int32 := if y < f (10 + 3 * c) then giv f 0 (on c) y (f (9 + 3 * c)) else if f (11 + 3 * c) < y then giv f 0 (on c) y (f (9 + 3 * c)) else 0
def dep (f : Nat → Int32) (c : Nat) (y : Int32) : Int32 := dpt f c (fJ3_max 0 y)
def tru (f : Nat → Int32) (c : Nat) : Int32 := dep f c (f 3)
def shw (f : Nat → Int32) (c : Nat) (back : Int32) : Int32 := dep f c (if fX6_hasBit (f 5) (on c) = 0 then f 3 else f 3 - back)
def bel (f : Nat → Int32) (s c : Nat) : Int32 :=
  if f (33 + 5 * s) = 1 then shw f c (f 4) + (f (34 + 5 * s) - f (34 + 5 * s) / 3 * 3) else if f (33 + 5 * s) = 2 then tru f c else if f (33 + 5 * s) = 3 then fJ3_min (shw f c (f 4)) (tru f c) else if f (33 + 5 * s) = 4 then shw f c (f 4) + (f (34 + 5 * s) - f (34 + 5 * s) / 3 * 3) - 1 else if f (33 + 5 * s) = 5 then fJ3_max (tru f c) (shw f c (f 4)) else if f (33 + 5 * s) = 6 then fJ3_min (shw f c (2 * f 4)) (tru f c) else shw f c (f 4)
/-- the depths that were found are right -/
def cOK (σ : ZS) (f : Nat → Int32) : Prop := ∀ c y : Nat, c < 8 → y < 1000 → σ.1 6 (1000 * c + y) = 0 ∨ σ.1 6 (1000 * c + y) = 1 + dpt f c (on y)
theorem held_rng {v hi : Int32} (h : 0 ≤ hi) : 0 ≤ fX6_held v 0 hi ∧ fX6_held v 0 hi ≤ hi := by
  unfold fX6_held fJ3_max fJ3_min
  simp only [nm]
  split <;> split at * <;> constructor <;> lia
theorem dpt_rng {f : Nat → Int32} {c : Nat} {y : Int32} : 0 ≤ dpt f c y ∧ dpt f c y ≤ 19 := by
  unfold dpt giv
  split
  · exact held_rng (by decide)
  · split
    · exact held_rng (by decide)
    · decide
theorem cell_tn : ∀ c, c < 8 → ((fX6_cellAt (on c) 0).toNatClampNeg = 9 + 3 * c ∧ ¬ (fX6_cellAt (on c) 0 < 0 ∨ 242 ≤ (fX6_cellAt (on c) 0).toNatClampNeg)) ∧ ((fX6_cellAt (on c) 1).toNatClampNeg = 10 + 3 * c ∧ ¬ (fX6_cellAt (on c) 1 < 0 ∨ 242 ≤ (fX6_cellAt (on c) 1).toNatClampNeg)) ∧ ((fX6_cellAt (on c) 2).toNatClampNeg = 11 + 3 * c ∧ ¬ (fX6_cellAt (on c) 2 < 0 ∨ 242 ≤ (fX6_cellAt (on c) 2).toNatClampNeg)) := by decide +kernel
theorem ship_tn : ∀ s, s < 7 → ∀ k, k < 5 → (fX6_shipAt (on s) (on k)).toNatClampNeg = 33 + 5 * s + k ∧ ¬ (fX6_shipAt (on s) (on k) < 0 ∨ 242 ≤ (fX6_shipAt (on s) (on k)).toNatClampNeg) := by decide +kernel
theorem cellIs_ok {σ : ZS} {f : Nat → Int32} {c : Nat} (hr : isRow σ 1 f) (hc : c < 8) : fX6_cellIs σ (on c) 0 = some (f (9 + 3 * c)) ∧ fX6_cellIs σ (on c) 1 = some (f (10 + 3 * c)) ∧ fX6_cellIs σ (on c) 2 = some (f (11 + 3 * c)) := by
  obtain ⟨⟨a1, a2⟩, ⟨b1, b2⟩, ⟨c1, c2⟩⟩ := cell_tn c hc
  unfold fX6_cellIs
  refine ⟨?_, ?_, ?_⟩
  · rw [gd_pos a2, a1, hr _ (by omega)]
  · rw [gd_pos b2, b1, hr _ (by omega)]
  · rw [gd_pos c2, c1, hr _ (by omega)]
theorem shipIs_ok {σ : ZS} {f : Nat → Int32} {s k : Nat} (hr : isRow σ 1 f) (hs : s < 7) (hk : k < 5) : fX6_shipIs σ (on s) (on k) = some (f (33 + 5 * s + k)) := by
  obtain ⟨a1, a2⟩ := ship_tn s hs k hk
  unfold fX6_shipIs
  rw [gd_pos a2, a1, hr _ (by omega)]
theorem depthFor_ok {σ : ZS} {f : Nat → Int32} {c : Nat} {y : Int32} (hr : isRow σ 1 f) (hx : txOk f 0) (hc : c < 8) : ∃ σ', fX6_depthFor σ (on c) y = some (dpt f c y, σ') ∧ MS σ σ' ∧ σ'.1 6 = σ.1 6 := by
  obtain ⟨i0, i1, i2⟩ := cellIs_ok hr hc
  obtain ⟨σ1, g1, g2, g3⟩ := given_ok (a := on c) (b := y) (c := f (9 + 3 * c)) (show 0 < 2 by decide) hr hx
  rw [show (on 0 : Int32) = 0 from rfl] at g1
  unfold fX6_depthFor dpt
  rw [i1, bo_some, i2, i0]
  by_cases h1 : y < f (10 + 3 * c)
  · rw [if_pos h1, if_pos h1]
    simp only [bo, bd, g1, if_true]
    exact ⟨σ1, rfl, g2, g3⟩
  · rw [if_neg h1, if_neg h1]
    by_cases h2 : f (11 + 3 * c) < y
    · simp only [bo, bd, g1, if_pos h2, if_true]
      exact ⟨σ1, rfl, g2, g3⟩
    · simp only [bo, bd, g1, if_neg h2]
      exact ⟨σ, rfl, MS.rf, rfl⟩
theorem max0 {y : Int32} (h : y ≤ 999) : ∃ n, n < 1000 ∧ fJ3_max 0 y = on n := by
  unfold fJ3_max
  simp only [nm]
  split
  · rename_i h1
    have h2 : y.toInt ≤ 999 := i_le.mp h
    exact on_ex (by lia) (by omega)
  · exact ⟨0, by omega, rfl⟩
theorem found_tn {c y : Nat} (hc : c < 8) (hy : y < 1000) : 1000 * on c + on y = on (1000 * c + y) := by
  rw [show (1000 : Int32) * on c = on (1000 * c) from (Int32.ofNat_mul 1000 c).symm, on_add]
set_option maxHeartbeats 1000000 in
theorem depthIn_ok {σ : ZS} {f : Nat → Int32} {c : Nat} {y : Int32} (hr : isRow σ 1 f) (hx : txOk f 0) (hk : cOK σ f) (hc : c < 8) (hy : y ≤ 999) : ∃ σ', fX6_depthIn σ (on c) y = some (dep f c y, σ') ∧ MS σ σ' ∧ cOK σ' f := by
  obtain ⟨n, hn, e⟩ := max0 hy
  unfold fX6_depthIn dep
  rw [e, nm_eq, nm_eq, found_tn hc hn, gd_pos (on_in (by omega) (by omega)), tn_ofNat (by omega)]
  by_cases h0 : σ.1 6 (1000 * c + n) = 0
  · obtain ⟨σ1, g1, g2, g3⟩ := depthFor_ok (y := on n) hr hx hc
    rw [if_pos h0, g1]
    simp only [bd, nm]
    refine ⟨sI σ1 6 (1000 * c + n) (1 + dpt f c (on n)), ?_, g2.tr ⟨rfl, fun r h _ _ => sI_r h⟩, ?_⟩
    · rw [sI_s]
      congr 2
      grind
    · intro c' y' hc' hy'
      by_cases e1 : 1000 * c' + y' = 1000 * c + n
      · have e2 : c' = c := by omega
        have e3 : y' = n := by omega
        subst e2
        subst e3
        right
        rw [sI_s]
      · rw [sI_n e1, g3]
        exact hk c' y' hc' hy'
  · rw [if_neg h0, bd_some]
    refine ⟨σ, ?_, MS.rf, hk⟩
    rcases hk c n hc hn with h | h
    · exact absurd h h0
    · rw [h]
      congr 2
      grind
theorem tru_ok {σ : ZS} {f : Nat → Int32} {c : Nat} (hr : isRow σ 1 f) (hx : txOk f 0) (hk : cOK σ f) (hc : c < 8) (hy : f 3 ≤ 999) : ∃ σ', fX6_trueDepth σ (on c) = some (tru f c, σ') ∧ MS σ σ' ∧ cOK σ' f := by
  have e : σ.1 1 (3 : Int32).toNatClampNeg = f 3 := hr 3 (by omega)
  unfold fX6_trueDepth tru
  rw [e]
  obtain ⟨σ1, g1, g2, g3⟩ := depthIn_ok hr hx hk hc hy
  exact ⟨σ1, by rw [g1]; rfl, g2, g3⟩
theorem shw_ok {σ : ZS} {f : Nat → Int32} {c : Nat} {back : Int32} (hr : isRow σ 1 f) (hx : txOk f 0) (hk : cOK σ f) (hc : c < 8) (hy0 : 0 ≤ f 3) (hy : f 3 ≤ 999) (hb0 : 0 ≤ back) (hb : back ≤ 1000) : ∃ σ', fX6_shown σ (on c) back = some (shw f c back, σ') ∧ MS σ σ' ∧ cOK σ' f := by
  have e3 : σ.1 1 (3 : Int32).toNatClampNeg = f 3 := hr 3 (by omega)
  have e5 : σ.1 1 (5 : Int32).toNatClampNeg = f 5 := hr 5 (by omega)
  unfold fX6_shown shw
  rw [e3, e5, nm_eq]
  obtain ⟨σ1, g1, g2, g3⟩ := depthIn_ok (y := if fX6_hasBit (f 5) (on c) = 0 then f 3 else f 3 - back) hr hx hk hc (by split <;> lia)
  exact ⟨σ1, by rw [g1]; rfl, g2, g3⟩
set_option maxHeartbeats 1000000 in
theorem bel_ok {σ : ZS} {f : Nat → Int32} {s c : Nat} (hr : isRow σ 1 f) (hx : txOk f 0) (hk : cOK σ f) (hs : s < 7) (hc : c < 8) (hy0 : 0 ≤ f 3) (hy : f 3 ≤ 999) (hb0 : 0 ≤ f 4) (hb : f 4 ≤ 99) (hkd : 0 ≤ f (33 + 5 * s) ∧ f (33 + 5 * s) ≤ 6) : ∃ σ', fX6_believes σ (on s) (on c) = some (bel f s c, σ') ∧ MS σ σ' ∧ cOK σ' f := by
  have e4 : σ.1 1 (4 : Int32).toNatClampNeg = f 4 := hr 4 (by omega)
  obtain ⟨σ1, g1, g2, g3⟩ := shw_ok (back := f 4) hr hx hk hc hy0 hy hb0 (by lia)
  have hr1 := hr.ms g2
  obtain ⟨σ2, t1, t2, t3⟩ := tru_ok hr1 hx g3 hc hy
  obtain ⟨σ3, u1, u2, u3⟩ := shw_ok (back := 2 * f 4) hr1 hx g3 hc hy0 hy (by lia) (by lia)
  obtain ⟨σ4, v1, v2, v3⟩ := tru_ok (hr1.ms u2) hx u3 hc hy
  have e41 : σ1.1 1 (4 : Int32).toNatClampNeg = f 4 := hr1 4 (by omega)
  unfold fX6_believes bel
  rw [e4, g1, bd_some, show fX6_shipIs σ1 (on s) 1 = some (f (34 + 5 * s)) from by rw [show (34 + 5 * s) = 33 + 5 * s + 1 by omega]; exact shipIs_ok hr1 hs (by decide), bo_some, show fX6_shipIs σ1 (on s) 0 = some (f (33 + 5 * s)) from shipIs_ok (k := 0) hr1 hs (by decide), bo_some, e41]
  simp only [t1, u1, bd_some, v1]
  repeat' split
  · exact ⟨σ1, rfl, g2, g3⟩
  · exact ⟨σ2, rfl, g2.tr t2, t3⟩
  · exact ⟨σ2, rfl, g2.tr t2, t3⟩
  · exact ⟨σ1, rfl, g2, g3⟩
  · exact ⟨σ2, rfl, g2.tr t2, t3⟩
  · exact ⟨σ4, rfl, (g2.tr u2).tr v2, v3⟩
  · rw [gd_pos]
    · exact ⟨σ1, rfl, g2, g3⟩
    · left
      have h0 : f (33 + 5 * s) = 0 := by grind
      rw [h0]
      decide
