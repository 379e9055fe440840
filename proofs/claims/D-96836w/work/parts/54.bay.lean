/-! the plain law, 5: a bay of the class is a row; its depths -/
def bN (σ : ZS) (b : Nat) (f : Nat → Int32) : Prop := f 0 = σ.1 b 7 ∧ f 1 = σ.1 b 0 ∧ f 2 = σ.1 b 8 ∧ f 3 = σ.1 b 4 ∧ f 4 = σ.1 b 5 ∧ f 5 = σ.1 b 6 ∧ f 6 = σ.1 b 14 ∧ f 7 = σ.1 b 16 ∧ f 8 = σ.1 b 18
def bC (σ : ZS) (b : Nat) (f : Nat → Int32) : Prop := ∀ c, c < 8 → f (9 + 3 * c) = σ.1 (b + 2) c ∧ f (10 + 3 * c) = σ.1 (b + 3) c ∧ f (11 + 3 * c) = σ.1 (b + 4) c
def bS (σ : ZS) (b : Nat) (f : Nat → Int32) : Prop := ∀ s, s < 7 → f (35 + 5 * s) = σ.1 (b + 11) s ∧ f (36 + 5 * s) = σ.1 (b + 12) s ∧ f (37 + 5 * s) = σ.1 (b + 13) s
def bH (w : ZW) (σ : ZS) (b : Nat) (f : Nat → Int32) : Prop := ∀ s, s < 7 → (σ.2.1 (b + 10) s = none ∧ f 2 ≤ on s) ∨ ∃ a k : Nat, σ.2.1 (b + 10) s = some a ∧ k < 7 ∧ σ.2.2.1 a = some (.inr (8 + k, [.ref (w.2.2 4), .int (on s), .int (f (34 + 5 * s))])) ∧ f (33 + 5 * s) = on k
def bT (σ : ZS) (b : Nat) (f : Nat → Int32) : Prop := ∀ k, k < 50 → f (68 + k) = σ.1 (b + 16) k &&& 255 ∧ fits .byte (.int (σ.1 (b + 16) k)) = true
def bW (σ : ZS) (b : Nat) (f : Nat → Int32) : Prop := ∀ k, k < 20 → f (118 + k) = σ.1 (b + 18) k
def bX (σ : ZS) (b : Nat) (f : Nat → Int32) : Prop := ∀ u, u < 2 → (σ.2.1 (b + 14) u = none ∧ f (138 + 52 * u) = 0) ∨ ∃ a, σ.2.1 (b + 14) u = some a ∧ 0 < f (138 + 52 * u) ∧ f (138 + 52 * u) ≤ 50 ∧ TA σ.2.2.1 u 50 a (cds f u)
/-- the bay b is the row f -/
def BR (w : ZW) (σ : ZS) (b : Nat) (f : Nat → Int32) : Prop := bN σ b f ∧ bC σ b f ∧ bS σ b f ∧ bH w σ b f ∧ bT σ b f ∧ bW σ b f ∧ bX σ b f
/-- ships and terms in the pool stay -/
def pk (σ σ' : ZS) : Prop := ∀ a ci vs, σ.2.2.1 a = some (.inr (ci, vs)) → 7 ≤ ci → ci ≤ 19 → ci ≠ 15 → ci ≠ 17 → σ'.2.2.1 a = some (.inr (ci, vs))
theorem pk.rf {σ : ZS} : pk σ σ := fun _ _ _ h _ _ _ _ => h
theorem pk.tr {σ σ1 σ2 : ZS} (h1 : pk σ σ1) (h2 : pk σ1 σ2) : pk σ σ2 := fun a ci vs h i1 i2 i3 i4 => h2 a ci vs (h1 a ci vs h i1 i2 i3 i4) i1 i2 i3 i4
theorem TA.pk {σ σ' : ZS} (h : pk σ σ') {u d a : Nat} {cs : List Int32} (ht : TA σ.2.2.1 u d a cs) : TA σ'.2.2.1 u d a cs := ht.mono (fun a ci vs h1 h2 => h a ci vs h1 (by omega) (by omega) (by omega) (by omega))
theorem BR.congr {w : ZW} {σ σ' : ZS} {b : Nat} {f : Nat → Int32} (h : BR w σ b f) (h1 : ∀ k, k ≤ 18 → σ'.1 (b + k) = σ.1 (b + k)) (h2 : ∀ k, k ≤ 18 → σ'.2.1 (b + k) = σ.2.1 (b + k)) (hp : pk σ σ') : BR w σ' b f := by
  obtain ⟨n, c, s, hh, t, w', x⟩ := h
  have h0 : σ'.1 b = σ.1 b := h1 0 (by omega)
  refine ⟨?_, ?_, ?_, ?_, ?_, ?_, ?_⟩
  · unfold bN at *
    rw [h0]
    exact n
  · intro k hk
    rw [h1 2 (by omega), h1 3 (by omega), h1 4 (by omega)]
    exact c k hk
  · intro k hk
    rw [h1 11 (by omega), h1 12 (by omega), h1 13 (by omega)]
    exact s k hk
  · intro k hk
    rw [h2 10 (by omega)]
    rcases hh k hk with h | ⟨a, i, i1, i2, i3, i4⟩
    · exact Or.inl h
    · exact Or.inr ⟨a, i, i1, i2, hp _ _ _ i3 (by omega) (by omega) (by omega) (by omega), i4⟩
  · intro k hk
    rw [h1 16 (by omega)]
    exact t k hk
  · intro k hk
    rw [h1 18 (by omega)]
    exact w' k hk
  · intro u hu
    rw [h2 14 (by omega)]
    rcases x u hu with h | ⟨a, a1, a2, a3, a4⟩
    · exact Or.inl h
    · exact Or.inr ⟨a, a1, a2, a3, a4.pk hp⟩
theorem BR.tx {w : ZW} {σ : ZS} {b : Nat} {f : Nat → Int32} (h : BR w σ b f) {u : Nat} (hu : u < 2) : txOk f u := by
  rcases h.2.2.2.2.2.2 u hu with ⟨-, h⟩ | ⟨a, -, a2, a3, a4⟩
  · exact Or.inl h
  · exact Or.inr ⟨a2, a3, a4.pf⟩
/-- what the class writes beside its answers: the facts of a bay -/
def XS (b : Nat) (σ σ' : ZS) : Prop := σ'.2 = σ.2 ∧ ∀ r, r ≠ b + 21 → σ'.1 r = σ.1 r
theorem XS.rf {b : Nat} {σ : ZS} : XS b σ σ := ⟨rfl, fun _ _ => rfl⟩
theorem XS.tr {b : Nat} {σ σ1 σ2 : ZS} (h1 : XS b σ σ1) (h2 : XS b σ1 σ2) : XS b σ σ2 := ⟨h2.1.trans h1.1, fun r h => (h2.2 r h).trans (h1.2 r h)⟩
theorem BR.xs {w : ZW} {σ σ' : ZS} {b b' : Nat} {f : Nat → Int32} (h : BR w σ b f) (hb : zBay b) (hb' : zBay b') (hx : XS b' σ σ') : BR w σ' b f := by
  refine h.congr (fun k hk => hx.2 _ ?_) (fun k hk => by rw [hx.1]) (fun a ci vs h1 _ _ _ _ => by rw [hx.1]; exact h1)
  unfold zBay at hb hb'
  omega
theorem facts_ok {σ : ZS} {b u : Nat} {x y z : Int32} (hu : u < 2) : ∀ k, k < 3 → (sI (sI (sI σ (b + 21) (ltr u 0).toNatClampNeg x) (b + 21) (ltr u 1).toNatClampNeg y) (b + 21) (ltr u 2).toNatClampNeg z).1 (b + 21) (ltr u k).toNatClampNeg = nm3 x y z k := by
  intro k hk
  rcases (show u = 0 ∨ u = 1 by omega) with rfl | rfl <;> rcases (show k = 0 ∨ k = 1 ∨ k = 2 by omega) with rfl | rfl | rfl <;> simp [sI_1, ltr, nm3]
theorem depthBy_ok {w : ZW} {σ : ZS} {b : Nat} {f : Nat → Int32} {x y z : Int32} (h : BR w σ b f) : ∃ σ', fX2_depthBy σ b x y z = some (giv f 0 x y z, σ') ∧ XS b σ σ' := by
  unfold fX2_depthBy
  rcases h.2.2.2.2.2.2 0 (by decide) with ⟨h1, h2⟩ | ⟨a, a1, a2, a3, a4⟩
  · rw [show (0 : Int32).toNatClampNeg = 0 from rfl, h1]
    refine ⟨σ, ?_, XS.rf⟩
    unfold giv
    rw [if_pos (by rw [h2]; decide)]
    rfl
  · rw [show (0 : Int32).toNatClampNeg = 0 from rfl, a1]
    have hv : fV 60 (sI (sI (sI σ (b + 21) (99 : Int32).toNatClampNeg x) (b + 21) (121 : Int32).toNatClampNeg y) (b + 21) (98 : Int32).toNatClampNeg z) b a = some (val (nm3 x y z) (cds f 0)) := fV_ok (u := 0) (by decide) (facts_ok (u := 0) (by decide)) (a4.le (by decide))
    simp only [mo, fX3_with, bd]
    rw [gd_pos (by decide)]
    simp only
    rw [gd_pos (by decide)]
    simp only
    rw [gd_pos (by decide)]
    simp only
    rw [hv, bo_some]
    refine ⟨sI (sI (sI σ (b + 21) (99 : Int32).toNatClampNeg x) (b + 21) (121 : Int32).toNatClampNeg y) (b + 21) (98 : Int32).toNatClampNeg z, ?_, ⟨rfl, fun r hr => by rw [sI_r hr, sI_r hr, sI_r hr]⟩⟩
    unfold giv
    rw [if_neg (by lia)]
    rfl
theorem elseBy_ok {w : ZW} {σ : ZS} {b : Nat} {f : Nat → Int32} {x y z : Int32} (h : BR w σ b f) : ∃ σ', fX2_elseBy σ b x y z = some (giv f 1 x y z, σ') ∧ XS b σ σ' := by
  unfold fX2_elseBy
  rcases h.2.2.2.2.2.2 1 (by decide) with ⟨h1, h2⟩ | ⟨a, a1, a2, a3, a4⟩
  · rw [show (1 : Int32).toNatClampNeg = 1 from rfl, h1]
    refine ⟨σ, ?_, XS.rf⟩
    unfold giv
    rw [if_pos (by rw [h2]; decide)]
    rfl
  · rw [show (1 : Int32).toNatClampNeg = 1 from rfl, a1]
    have hv : fV 60 (sI (sI (sI σ (b + 21) (100 : Int32).toNatClampNeg x) (b + 21) (109 : Int32).toNatClampNeg y) (b + 21) (104 : Int32).toNatClampNeg z) b a = some (val (nm3 x y z) (cds f 1)) := fV_ok (u := 1) (by decide) (facts_ok (u := 1) (by decide)) (a4.le (by decide))
    simp only [mo, fX3_with, bd]
    rw [gd_pos (by decide)]
    simp only
    rw [gd_pos (by decide)]
    simp only
    rw [gd_pos (by decide)]
    simp only
    rw [hv, bo_some]
    refine ⟨sI (sI (sI σ (b + 21) (100 : Int32).toNatClampNeg x) (b + 21) (109 : Int32).toNatClampNeg y) (b + 21) (104 : Int32).toNatClampNeg z, ?_, ⟨rfl, fun r hr => by rw [sI_r hr, sI_r hr, sI_r hr]⟩⟩
    unfold giv
    rw [if_neg (by lia)]
    rfl
theorem xdep_ok {w : ZW} {σ : ZS} {b c : Nat} {f : Nat → Int32} {y : Int32} (h : BR w σ b f) (hc : c < 8) : ∃ σ', fX2_depthIn σ b (on c) y = some (dep f c y, σ') ∧ XS b σ σ' := by
  obtain ⟨c1, c2, c3⟩ := h.2.1 c hc
  obtain ⟨σ1, e1, e2⟩ := depthBy_ok (x := on c) (y := fJ3_max 0 y) (z := f (9 + 3 * c)) h
  unfold fX2_depthIn dep dpt
  rw [nm_eq, gd_pos (on_in hc (by decide)), tn_ofNat (by omega), ← c1, ← c2, ← c3, e1]
  by_cases h1 : fJ3_max 0 y < f (10 + 3 * c)
  · simp only [bd, if_pos h1]
    exact ⟨σ1, rfl, e2⟩
  · by_cases h2 : f (11 + 3 * c) < fJ3_max 0 y
    · simp only [bd, if_neg h1, if_pos h2]
      exact ⟨σ1, rfl, e2⟩
    · simp only [bd, if_neg h1, if_neg h2]
      exact ⟨σ, rfl, XS.rf⟩
theorem xtru_ok {w : ZW} {σ : ZS} {b c : Nat} {f : Nat → Int32} (h : BR w σ b f) (hc : c < 8) : ∃ σ', fX2_trueDepth σ b (on c) = some (tru f c, σ') ∧ XS b σ σ' := by
  obtain ⟨σ1, e1, e2⟩ := xdep_ok (y := f 3) h hc
  unfold fX2_trueDepth tru
  rw [← h.1.2.2.2.1, e1]
  exact ⟨σ1, rfl, e2⟩
theorem xshw_ok {w : ZW} {σ : ZS} {b c : Nat} {f : Nat → Int32} {back : Int32} (h : BR w σ b f) (hc : c < 8) : ∃ σ', fX2_shown σ b (on c) back = some (shw f c back, σ') ∧ XS b σ σ' := by
  obtain ⟨σ1, e1, e2⟩ := xdep_ok (y := f 3 - back) h hc
  obtain ⟨σ2, f1, f2⟩ := xtru_ok h hc
  unfold fX2_shown shw
  rw [← h.1.2.2.2.1, ← h.1.2.2.2.2.2.1, e1, f1, show fX0_hasBit (f 5) (on c) = fX6_hasBit (f 5) (on c) from rfl]
  by_cases e : fX6_hasBit (f 5) (on c) = 0
  · simp only [bd, if_pos e]
    exact ⟨σ2, rfl, f2⟩
  · simp only [bd, if_neg e]
    exact ⟨σ1, rfl, e2⟩
theorem oShip_of {w : ZW} {n m : Int32} {k : Nat} (hk : k < 7) : oShip w (some (.inr (8 + k, [.ref (w.2.2 4), .int n, .int m]))) = some (8 + k, n, m) := by
  rcases (show k = 0 ∨ k = 1 ∨ k = 2 ∨ k = 3 ∨ k = 4 ∨ k = 5 ∨ k = 6 by omega) with rfl | rfl | rfl | rfl | rfl | rfl | rfl <;> simp [oShip, zShipC]
set_option maxHeartbeats 2000000 in
/-- what a ship believes -/
theorem xbel_ok {w : ZW} {σ : ZS} {b s c a k : Nat} {f : Nat → Int32} (h : BR w σ b f) (hb : zBay b) (hc : c < 8) (hk : k < 7) (hP : σ.2.2.1 a = some (.inr (8 + k, [.ref (w.2.2 4), .int (on s), .int (f (34 + 5 * s))]))) (hf : f (33 + 5 * s) = on k) : ∃ σ', fS_Ship_believes w σ a (8 + k) (on s) (f (34 + 5 * s)) b (on c) = some (bel f s c, σ') ∧ XS b σ σ' := by
  have e5 : σ.1 b 5 = f 4 := h.1.2.2.2.2.1.symm
  obtain ⟨σ1, g1, g2⟩ := xshw_ok (back := f 4) h hc
  obtain ⟨σ2, t1, t2⟩ := xtru_ok h hc
  have h1 := h.xs hb hb g2
  have h2 := h.xs hb hb t2
  obtain ⟨σ3, u1, u2⟩ := xtru_ok h1 hc
  obtain ⟨σ4, v1, v2⟩ := xshw_ok (back := f 4) h2 hc
  obtain ⟨σ5, p1, p2⟩ := xshw_ok (back := 2 * f 4) h hc
  have h5 := h.xs hb hb p2
  obtain ⟨σ6, q1, q2⟩ := xtru_ok h5 hc
  have e52 : σ2.1 b 5 = f 4 := h2.1.2.2.2.2.1.symm
  have hP1 : oShip w (σ1.2.2.1 a) = some (8 + k, on s, f (34 + 5 * s)) := by rw [g2.1, hP]; exact oShip_of hk
  unfold fS_Ship_believes bel
  rw [hf]
  rcases (show k = 0 ∨ k = 1 ∨ k = 2 ∨ k = 3 ∨ k = 4 ∨ k = 5 ∨ k = 6 by omega) with rfl | rfl | rfl | rfl | rfl | rfl | rfl
  · refine ⟨σ1, ?_, g2⟩
    rw [if_pos rfl, if_neg (by decide), if_neg (by decide), if_neg (by decide), if_neg (by decide), if_neg (by decide), if_neg (by decide)]
    simp only [fX9_believes, e5, g1, bd]
  · refine ⟨σ1, ?_, g2⟩
    rw [if_neg (by decide), if_pos rfl, if_pos (by decide)]
    simp only [fX10_believes, fX9_believes, e5, g1, bd]
    rw [gd_pos hP1]
  · refine ⟨σ2, ?_, t2⟩
    rw [if_neg (by decide), if_neg (by decide), if_pos rfl, if_neg (by decide), if_pos (by decide)]
    simp only [fX11_believes, t1, bd]
  · refine ⟨σ3, ?_, g2.tr u2⟩
    rw [if_neg (by decide), if_neg (by decide), if_neg (by decide), if_pos rfl, if_neg (by decide), if_neg (by decide), if_pos (by decide)]
    simp only [fX12_believes, fX9_believes, e5, g1, bd, u1]
  · refine ⟨σ1, ?_, g2⟩
    rw [if_neg (by decide), if_neg (by decide), if_neg (by decide), if_neg (by decide), if_pos rfl, if_neg (by decide), if_neg (by decide), if_neg (by decide), if_pos (by decide)]
    simp only [fX13_believes, fX10_believes, fX9_believes, e5, g1, bd]
    rw [gd_pos hP1]
  · refine ⟨σ4, ?_, t2.tr v2⟩
    rw [if_neg (by decide), if_neg (by decide), if_neg (by decide), if_neg (by decide), if_neg (by decide), if_pos rfl, if_neg (by decide), if_neg (by decide), if_neg (by decide), if_neg (by decide), if_pos (by decide)]
    simp only [fX14_believes, fX11_believes, t1, bd, e52, v1]
  · refine ⟨σ6, ?_, p2.tr q2⟩
    rw [if_neg (by decide), if_neg (by decide), if_neg (by decide), if_neg (by decide), if_neg (by decide), if_neg (by decide), if_pos rfl, if_neg (by decide), if_neg (by decide), if_neg (by decide), if_neg (by decide), if_neg (by decide), if_pos (by decide)]
    simp only [fX15_believes, e5, p1, bd, q1]
