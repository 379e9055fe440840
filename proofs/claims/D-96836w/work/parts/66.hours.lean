/-! the plain law, 17: hours go; tries -/
theorem RT.hr {w : ZW} {N : Nat} {σx σm σx' σm' : ZS} (hT : RT w N σx σm) (hx : XF 100 σx σx') (hm : MF σm σm') : RT w (N + 1) σx' σm' :=
  hT.congr (by omega) (fun r hr => hx.2 r (by omega) (by omega) (by omega) (by omega)) (fun r hr => by rw [hx.1]) (by rw [hx.1]) (fun r hr => hm.2 r (by omega) (by omega) (by omega) (by omega))
theorem mustGo_t {σ : ZS} {p q : Int32} (h1 : 1 ≤ p ∧ p ≤ q) (h2 : ¬ 9999 < σ.1 100 7 + p) : fX0_mustGo σ p q = some (.inl (), σ) := by
  unfold fX0_mustGo
  rw [xi, if_pos h1, nd1', bd_some, sc_inl, if_neg h2, nm_eq, nd1', bd_some, sc_inl]
theorem mustGo_1 {σ : ZS} {p q : Int32} (h1 : ¬ (1 ≤ p ∧ p ≤ q)) : fX0_mustGo σ p q = some (.inr (), sI σ 1 6 1) := by
  unfold fX0_mustGo
  rw [xi, if_neg h1, nd0, bd_some, sc_inr]
theorem mustGo_3 {σ : ZS} {p q : Int32} (h1 : 1 ≤ p ∧ p ≤ q) (h2 : 9999 < σ.1 100 7 + p) : fX0_mustGo σ p q = some (.inr (), sI σ 1 6 3) := by
  unfold fX0_mustGo
  rw [xi, if_pos h1, nd1', bd_some, sc_inl, if_pos h2, nm_eq, nd0, bd_some, sc_inr]
theorem on_rng {p : Int32} {lo hi : Nat} (hh : lo < 1000 ∧ hi < 1000) (h : on lo ≤ p ∧ p ≤ on hi) : ∃ k : Nat, lo ≤ k ∧ k ≤ hi ∧ p = on k := by
  have h1 := i_le.mp h.1
  have h2 := i_le.mp h.2
  rw [i_ofNat (by omega)] at h1
  rw [i_ofNat (by omega)] at h2
  obtain ⟨k, k1, k2⟩ := on_ex (x := p) (n := hi + 1) (by rw [i_le]; show (0 : Int) ≤ _; omega) (by omega)
  refine ⟨k, ?_, by omega, k2⟩
  rw [k2, i_ofNat (by omega)] at h1
  omega
theorem hours_act {w : ZW} {N : Nat} {σx σm : ZS} {p1 : Int32} (h : RR w N σx σm) : act w N σm (fX0_hours w σx p1) (fX6_hours σm p1) := by
  have h0 := h
  obtain ⟨⟨f, hf⟩, hT⟩ := h
  have hI := hf.2.2.1
  have e7 : σx.1 100 7 = f 0 := hf.1.1.1.symm
  unfold fX0_hours fX6_hours
  rw [wi, show σm.1 1 (0 : Int32).toNatClampNeg = f 0 from hf.2.1 0 (by omega)]
  by_cases q1 : 1 ≤ p1 ∧ p1 ≤ 60
  · by_cases q2 : f 0 + p1 ≤ 9999
    · obtain ⟨k, k1, k2, rfl⟩ := on_rng (lo := 1) (hi := 60) (by omega) q1
      obtain ⟨σ1, a1, a2, a3⟩ := goes_ok (y := k) (by omega) hf.1 zB1 hI
      obtain ⟨σ2, b1, b2, b3, b4⟩ := hoursGo_ok (y := k) (by omega) hf.2.1 hI hf.2.2.2
      have hI' := hrs_FI hI (n := k)
      refine act_mk (r := hom (hrs f k) (nsh (hrs f k))) ?_ ?_ ⟨⟨hrs f k, a2, b2, hI', b3⟩, hT.hr a3 b4⟩ b4.1
      · rw [mustGo_t q1 (by rw [e7]; grind), bd_some, sc_inl, a1, bd_some, xhom_ok a2 hI', bo_some]
      · rw [if_pos q1, if_neg (by decide), if_pos q2, b1, bd_some, manyIn_ok b2 hI', bo_some]
    · rw [mustGo_3 q1 (by rw [e7]; grind), bd_some, sc_inr, if_pos q1, if_neg (by decide), if_neg q2]
      exact err3 h0 bd_id bd_id
  · rw [mustGo_1 q1, bd_some, sc_inr, if_neg q1, if_pos rfl]
    exact err1 h0 bd_id bd_id
/-! tries -/
def XT (σ σ' : ZS) : Prop := σ'.2.2 = σ.2.2 ∧ (∀ r, r < 300 → σ'.1 r = σ.1 r) ∧ ∀ r, r < 300 → σ'.2.1 r = σ.2.1 r
theorem XT.rf {σ : ZS} : XT σ σ := ⟨rfl, fun _ _ => rfl, fun _ _ => rfl⟩
theorem XT.tr {σ σ1 σ2 : ZS} (h1 : XT σ σ1) (h2 : XT σ1 σ2) : XT σ σ2 := ⟨h2.1.trans h1.1, fun r h => (h2.2.1 r h).trans (h1.2.1 r h), fun r h => (h2.2.2 r h).trans (h1.2.2 r h)⟩
theorem XB.xt {σ σ' : ZS} (h : XB 300 σ σ') : XT σ σ' := ⟨h.1, fun r hr => h.2.1 r (by omega) (by omega) (by omega) (by omega) (by omega) (by omega) (by omega) (by omega) (by omega), fun r hr => h.2.2 r (by omega) (by omega)⟩
theorem XF.xt {σ σ' : ZS} (h : XF 300 σ σ') : XT σ σ' := ⟨by rw [h.1], fun r hr => h.2 r (by omega) (by omega) (by omega) (by omega), fun r hr => by rw [h.1]⟩
theorem XT.st {σ σ' : ZS} (h : XT σ σ') {r j : Nat} {v : Int32} (hr : 300 ≤ r) : XT σ (sI σ' r j v) := ⟨h.1, fun q hq => by rw [sI_r (by omega)]; exact h.2.1 q hq, fun q hq => h.2.2 q hq⟩
theorem BR.xt {w : ZW} {σ σ' : ZS} {b : Nat} {f : Nat → Int32} (h : BR w σ b f) (hb : b = 100 ∨ b = 200) (hx : XT σ σ') : BR w σ' b f :=
  h.congr (fun k hk => hx.2.1 _ (by omega)) (fun k hk => hx.2.2 _ (by omega)) (fun a ci vs h1 _ _ _ _ => by rw [hx.1]; exact h1)
def MT (σ σ' : ZS) : Prop := σ'.2 = σ.2 ∧ ∀ r, r ≠ 1 → r ≠ 3 → r ≠ 6 → r ≠ 14 → r ≠ 15 → σ'.1 r = σ.1 r
theorem MT.rf {σ : ZS} : MT σ σ := ⟨rfl, fun _ _ _ _ _ _ => rfl⟩
theorem MT.tr {σ σ1 σ2 : ZS} (h1 : MT σ σ1) (h2 : MT σ1 σ2) : MT σ σ2 := ⟨h2.1.trans h1.1, fun r a b c d e => (h2.2 r a b c d e).trans (h1.2 r a b c d e)⟩
theorem MF.mt {σ σ' : ZS} (h : MF σ σ') : MT σ σ' := ⟨h.1, fun r a _ c d e => h.2 r a c d e⟩
theorem MT.st {σ σ' : ZS} (h : MT σ σ') {j : Nat} {v : Int32} : MT σ (sI σ' 1 j v) := ⟨h.1, fun r a b c d e => by rw [sI_r a]; exact h.2 r a b c d e⟩
theorem RR.try {w : ZW} {N : Nat} {f : Nat → Int32} {σx σm σx' σm' : ZS} (hf : RM w f σx σm) (hT : RT w N σx σm) (hx : XT σx σx') (hm : MT σm σm') (hr : isRow σm' 1 f) (hc : cOK σm' f) : RR w (N + 1) σx' σm' :=
  ⟨⟨f, hf.1.xt (by omega) hx, hr, hf.2.2.1, hc⟩, hT.congr (by omega) (fun r hr => hx.2.1 r (by omega)) (fun r hr => hx.2.2 r (by omega)) hx.1 (fun r hr => hm.2 r (by omega) (by omega) (by omega) (by omega) (by omega))⟩
theorem xtry {w : ZW} {σ : ZS} {f : Nat → Int32} (h : BR w σ 100 f) : ∃ σ1, fX2_become σ 300 100 = some ((), σ1) ∧ BR w σ1 300 f ∧ BR w σ1 100 f ∧ XT σ σ1 := by
  obtain ⟨σ1, a1, a2, a3⟩ := become_ok h zB3 zB1 (by decide)
  exact ⟨σ1, a1, a2, h.xt (by omega) a3.xt, a3.xt⟩
theorem mtry {σ : ZS} {f : Nat → Int32} (h : isRow σ 1 f) (hc : cOK σ f) : ∃ σ1, fX6_copy σ 1 3 = some ((), σ1) ∧ isRow σ1 1 f ∧ isRow σ1 3 f ∧ cOK σ1 f ∧ MT σ σ1 := by
  obtain ⟨σ1, a1, a2, a3, a4⟩ := copy_ok (σ := σ) (q1 := 1) (q2 := 3) (by decide)
  exact ⟨σ1, a1, fun j hj => by rw [a3 1 (by decide)]; exact h j hj, a4 f h, fun c y hc' hy => by rw [a3 6 (by decide)]; exact hc c y hc' hy, a2, fun r _ b _ _ _ => a3 r b⟩
theorem mback {σ : ZS} {f g : Nat → Int32} (h : isRow σ 3 f) (hc : cOK σ g) (hb : sBed g f) : ∃ σ1, fX6_copy σ 3 1 = some ((), σ1) ∧ isRow σ1 1 f ∧ isRow σ1 3 f ∧ cOK σ1 f ∧ MT σ σ1 := by
  obtain ⟨σ1, a1, a2, a3, a4⟩ := copy_ok (σ := σ) (q1 := 3) (q2 := 1) (by decide)
  exact ⟨σ1, a1, a4 f h, fun j hj => by rw [a3 3 (by decide)]; exact h j hj, cOK_congr hb (fun c y hc' hy => by rw [a3 6 (by decide)]; exact hc c y hc' hy), a2, fun r b _ _ _ _ => a3 r b⟩
theorem mback' {σ : ZS} {f g : Nat → Int32} {v : Int32} (h : isRow σ 3 f) (hc : cOK σ g) (hb : sBed g f) : ∃ σ1, fX6_putBack σ v = some (v, σ1) ∧ isRow σ1 1 f ∧ isRow σ1 3 f ∧ cOK σ1 f ∧ MT σ σ1 := by
  obtain ⟨σ1, a1, a2⟩ := mback h hc hb
  unfold fX6_putBack
  rw [a1, bd_some]
  exact ⟨σ1, rfl, a2⟩
theorem isRow.mf {σ σ' : ZS} {r : Nat} {f : Nat → Int32} (h : isRow σ r f) (hm : MF σ σ') (h1 : r ≠ 1 := by decide) (h2 : r ≠ 6 := by decide) (h3 : r ≠ 14 := by decide) (h4 : r ≠ 15 := by decide) : isRow σ' r f := fun j hj => by rw [hm.2 r h1 h2 h3 h4]; exact h j hj
theorem sBed.symm {f g : Nat → Int32} (h : sBed f g) : sBed g f := fun j hj => (h j hj).symm
theorem hrs_2 {f : Nat → Int32} (h : FI f) {n : Nat} : nsh (hrs f n) = nsh f := by
  unfold nsh
  rw [hrs_sHr h 2 (by omega) (fun s hs => by omega)]
set_option maxHeartbeats 1000000 in
theorem then_act {w : ZW} {N : Nat} {σx σm : ZS} {p1 p2 p3 : Int32} (h : RR w N σx σm) : act w N σm (fX0_then w σx p1 p2 p3) (fX6_then σm p1 p2 p3) := by
  have h0 := h
  obtain ⟨⟨f, hf⟩, hT⟩ := h
  have hI := hf.2.2.1
  unfold fX0_then fX6_then
  rw [(hf.ships p2).1, (hf.ships p2).2]
  simp only [fX0_isAhead, fX6_isBehind, xi, wi]
  by_cases q1 : 0 ≤ p1 ∧ p1 ≤ 60
  · by_cases q2 : 0 ≤ p2 ∧ p2 ≤ f 2 - 1
    · by_cases q3 : 0 ≤ p3 ∧ p3 ≤ 1
      · simp only [if_pos q1, if_pos q2, if_pos q3, i10, eq_self, ↓reduceIte, nm_eq, nd1', bd_some, sc_inl]
        obtain ⟨k, k1, k2, rfl⟩ := on_rng (lo := 0) (hi := 60) (by omega) q1
        obtain ⟨s, hs, rfl, hl⟩ := hI.ship q2
        obtain ⟨σ1, a1, a2, a3, a4⟩ := xtry hf.1
        obtain ⟨σ2, b1, b2, b3⟩ := goes_ok (y := k) (by omega) a2 zB3 hI
        obtain ⟨τ1, c1, c2, c3, c4, c5⟩ := mtry hf.2.1 hf.2.2.2
        obtain ⟨τ2, d1, d2, d3, d4⟩ := hoursGo_ok (y := k) (by omega) c2 hI c4
        have hr3 := c3.mf d4
        obtain ⟨-, e2, e3⟩ := b2.2.2.1 s hs
        rw [a1, bd_some, b1, bd_some, c1, bd_some, d1, bd_some]
        have hin := on_in hs (show 7 < 2147483648 by decide)
        have htn := tn_ofNat (k := s) (by omega)
        by_cases z : p3 = 0
        · obtain ⟨τ3, f1, f2, f3, f4, f5⟩ := mback' (v := hrs f k (36 + 5 * s)) hr3 d3 (hrs_sHr hI).bed.symm
          refine act_mk (r := hrs f k (36 + 5 * s)) ?_ ?_ (RR.try hf hT (a4.tr b3.xt) ((c5.tr d4.mt).tr f5) f2 f4) ((c5.tr d4.mt).tr f5).1
          · rw [if_pos z, gd_pos hin, bo_some, htn, ← e2]
          · simp only [if_pos z, si3 d2 hs, bo_some, f1, bd_some]
        · obtain ⟨τ3, f1, f2, f3, f4, f5⟩ := mback' (v := hrs f k (37 + 5 * s)) hr3 d3 (hrs_sHr hI).bed.symm
          refine act_mk (r := hrs f k (37 + 5 * s)) ?_ ?_ (RR.try hf hT (a4.tr b3.xt) ((c5.tr d4.mt).tr f5) f2 f4) ((c5.tr d4.mt).tr f5).1
          · rw [if_neg z, gd_pos hin, bo_some, htn, ← e3]
          · simp only [if_neg z, si4 d2 hs, bo_some, f1, bd_some]
      · simp only [if_pos q1, if_pos q2, if_neg q3, i10, eq_self, ↓reduceIte, nm_eq, nd0, bd_some, sc_inr]
        exact err1 h0 bd_id bd_id
    · simp only [if_pos q1, if_neg q2, i10, eq_self, ↓reduceIte, nm_eq, nd0, bd_some, sc_inr]
      exact err1 h0 bd_id bd_id
  · simp only [if_neg q1, i10, eq_self, ↓reduceIte, nm_eq, nd0, bd_some, sc_inr]
    exact err1 h0 bd_id bd_id
theorem struck_act {w : ZW} {N : Nat} {σx σm : ZS} {p1 : Int32} (h : RR w N σx σm) : act w N σm (fX0_struck w σx p1) (fX6_struck σm p1) := by
  have h0 := h
  obtain ⟨⟨f, hf⟩, hT⟩ := h
  have hI := hf.2.2.1
  unfold fX0_struck fX6_struck
  rw [(hf.cells p1).1, (hf.cells p1).2]
  by_cases q1 : 0 ≤ p1 ∧ p1 ≤ f 1 - 1
  · simp only [if_pos q1, i10, eq_self, ↓reduceIte, nm_eq, nd1', bd_some, sc_inl]
    obtain ⟨σ1, a1, a2, a3, a4⟩ := xtry hf.1
    obtain ⟨σ2, b1, b2, b3⟩ := goes_ok (y := 60) (by omega) a2 zB3 hI
    obtain ⟨τ1, c1, c2, c3, c4, c5⟩ := mtry hf.2.1 hf.2.2.2
    obtain ⟨τ2, d1, d2, d3, d4⟩ := hoursGo_ok (y := 60) (by omega) c2 hI c4
    have hr3 := c3.mf d4
    have hI' := hrs_FI hI (n := 60)
    obtain ⟨τ3, f1, f2, f3, f4, f5⟩ := mback' (v := lst (hrs f 60) (nsh (hrs f 60)) &&& ats (hrs f 60) p1 (nsh (hrs f 60))) hr3 d3 (hrs_sHr hI).bed.symm
    refine act_mk (r := lst (hrs f 60) (nsh (hrs f 60)) &&& ats (hrs f 60) p1 (nsh (hrs f 60))) ?_ ?_ (RR.try hf hT (a4.tr b3.xt) ((c5.tr d4.mt).tr f5) f2 f4) ((c5.tr d4.mt).tr f5).1
    · rw [a1, bd_some, show fX2_goes w σ1 300 60 = _ from b1, bd_some]
      simp only [xlost_ok b2 hI', xats_ok b2 hI', bo_some]
    · rw [c1, bd_some, show fX6_hoursGo τ1 60 = _ from d1, bd_some]
      simp only [lostNow_ok d2 hI', shipsAt_ok d2 hI', bo_some, f1, bd_some]
  · simp only [if_neg q1, i10, eq_self, ↓reduceIte, nm_eq, nd0, bd_some, sc_inr]
    exact err1 h0 bd_id bd_id
