/-! the plain law, 8: a bay's numbers changed; an hour, by the class -/
theorem bX.up {σ : ZS} {b r j k : Nat} {f : Nat → Int32} {v v' : Int32} (h : bX σ b f) (hk : k < 9 ∨ (33 ≤ k ∧ k < 138)) : bX (sI σ r j v) b (upd f k v') := by
  intro u hu
  rw [← cds_congr (sBed.upd (f := f) (v := v') hk) u, upd_n (by omega)]
  exact h u hu
theorem BR.ship {w : ZW} {σ : ZS} {b s k : Nat} {f : Nat → Int32} {v : Int32} (h : BR w σ b f) (hs : s < 7) (hk : k < 3) : BR w (sI σ (b + (11 + k)) s v) b (upd f (35 + k + 5 * s) v) := by
  obtain ⟨hn, hc, hS, hh, ht, hw, hx⟩ := h
  refine ⟨?_, ?_, ?_, ?_, ?_, ?_, hx.up (by omega)⟩
  · unfold bN at *
    rw [sI_r (by omega), upd_n (by omega), upd_n (by omega), upd_n (by omega), upd_n (by omega), upd_n (by omega), upd_n (by omega), upd_n (by omega), upd_n (by omega), upd_n (by omega)]
    exact hn
  · intro c hc'
    rw [sI_r (by omega), sI_r (by omega), sI_r (by omega), upd_n (by omega), upd_n (by omega), upd_n (by omega)]
    exact hc c hc'
  · intro t ht'
    obtain ⟨a1, a2, a3⟩ := hS t ht'
    rcases (show k = 0 ∨ k = 1 ∨ k = 2 by omega) with rfl | rfl | rfl
    · refine ⟨?_, ?_, ?_⟩
      · by_cases e : t = s
        · subst e; rw [upd_s]; exact sI_s.symm
        · rw [upd_n (by omega), a1]; exact (sI_n (by omega)).symm
      · rw [upd_n (by omega), sI_r (by omega)]; exact a2
      · rw [upd_n (by omega), sI_r (by omega)]; exact a3
    · refine ⟨?_, ?_, ?_⟩
      · rw [upd_n (by omega), sI_r (by omega)]; exact a1
      · by_cases e : t = s
        · subst e; rw [upd_s]; exact sI_s.symm
        · rw [upd_n (by omega), a2]; exact (sI_n (by omega)).symm
      · rw [upd_n (by omega), sI_r (by omega)]; exact a3
    · refine ⟨?_, ?_, ?_⟩
      · rw [upd_n (by omega), sI_r (by omega)]; exact a1
      · rw [upd_n (by omega), sI_r (by omega)]; exact a2
      · by_cases e : t = s
        · subst e; rw [upd_s]; exact sI_s.symm
        · rw [upd_n (by omega), a3]; exact (sI_n (by omega)).symm
  · intro t ht'
    rw [upd_n (by omega), upd_n (by omega), upd_n (by omega)]
    exact hh t ht'
  · intro t ht'
    rw [upd_n (by omega), sI_r (by omega)]
    exact ht t ht'
  · intro t ht'
    rw [upd_n (by omega), sI_r (by omega)]
    exact hw t ht'
theorem BR.numb {w : ZW} {σ : ZS} {b i j : Nat} {f : Nat → Int32} {v : Int32} (h : BR w σ b f) (hij : (i = 0 ∧ j = 7) ∨ (i = 1 ∧ j = 0) ∨ (i = 3 ∧ j = 4) ∨ (i = 4 ∧ j = 5) ∨ (i = 5 ∧ j = 6) ∨ (i = 6 ∧ j = 14) ∨ (i = 7 ∧ j = 16) ∨ (i = 8 ∧ j = 18)) : BR w (sI σ b j v) b (upd f i v) := by
  obtain ⟨hn, hc, hS, hh, ht, hw, hx⟩ := h
  refine ⟨?_, ?_, ?_, ?_, ?_, ?_, hx.up (by omega)⟩
  · unfold bN at *
    obtain ⟨n0, n1, n2, n3, n4, n5, n6, n7, n8⟩ := hn
    rcases hij with ⟨rfl, rfl⟩ | ⟨rfl, rfl⟩ | ⟨rfl, rfl⟩ | ⟨rfl, rfl⟩ | ⟨rfl, rfl⟩ | ⟨rfl, rfl⟩ | ⟨rfl, rfl⟩ | ⟨rfl, rfl⟩ <;> simp [upd, sI_1, n0, n1, n2, n3, n4, n5, n6, n7, n8]
  · intro c hc'
    rw [sI_r (by omega), sI_r (by omega), sI_r (by omega), upd_n (by omega), upd_n (by omega), upd_n (by omega)]
    exact hc c hc'
  · intro t ht'
    rw [sI_r (by omega), sI_r (by omega), sI_r (by omega), upd_n (by omega), upd_n (by omega), upd_n (by omega)]
    exact hS t ht'
  · intro t ht'
    rw [upd_n (by omega), upd_n (by omega), upd_n (by omega)]
    exact hh t ht'
  · intro t ht'
    rw [upd_n (by omega), sI_r (by omega)]
    exact ht t ht'
  · intro t ht'
    rw [upd_n (by omega), sI_r (by omega)]
    exact hw t ht'
/-- what the class writes while hours go in the bay b -/
def XF (b : Nat) (σ σ' : ZS) : Prop := σ'.2 = σ.2 ∧ ∀ r, r ≠ b → r ≠ b + 12 → r ≠ b + 13 → r ≠ b + 21 → σ'.1 r = σ.1 r
theorem XF.rf {b : Nat} {σ : ZS} : XF b σ σ := ⟨rfl, fun _ _ _ _ _ => rfl⟩
theorem XF.tr {b : Nat} {σ σ1 σ2 : ZS} (h1 : XF b σ σ1) (h2 : XF b σ1 σ2) : XF b σ σ2 := ⟨h2.1.trans h1.1, fun r a c d e => (h2.2 r a c d e).trans (h1.2 r a c d e)⟩
theorem XS.xf {b : Nat} {σ σ' : ZS} (h : XS b σ σ') : XF b σ σ' := ⟨h.1, fun r _ _ _ e => h.2 r e⟩
theorem XF.st {b : Nat} {σ σ' : ZS} (h : XF b σ σ') {r j : Nat} {v : Int32} (hr : r = b ∨ r = b + 12 ∨ r = b + 13) : XF b σ (sI σ' r j v) := ⟨h.1, fun q a c d e => by rw [sI_r (by omega)]; exact h.2 q a c d e⟩
theorem BR.xf {w : ZW} {σ σ' : ZS} {b b' : Nat} {f : Nat → Int32} (h : BR w σ b f) (hb : zBay b) (hb' : zBay b') (hn : b ≠ b') (hx : XF b' σ σ') : BR w σ' b f := by
  unfold zBay at hb hb'
  exact h.congr (fun k hk => hx.2 _ (by omega) (by omega) (by omega) (by omega)) (fun k hk => by rw [hx.1]) (fun a ci vs h1 _ _ _ _ => by rw [hx.1]; exact h1)
theorem upd_id {f : Nat → Int32} {k : Nat} : upd f k (f k) = f := by
  funext j
  unfold upd
  split
  · rename_i e; rw [e]
  · rfl
theorem BR.shipAt {w : ZW} {σ : ZS} {b s : Nat} {f : Nat → Int32} (h : BR w σ b f) (hs : s < 7) (hl : on s < f 2) : ∃ a k, σ.2.1 (b + 10) s = some a ∧ k < 7 ∧ σ.2.2.1 a = some (.inr (8 + k, [.ref (w.2.2 4), .int (on s), .int (f (34 + 5 * s))])) ∧ f (33 + 5 * s) = on k := by
  rcases h.2.2.2.1 s hs with ⟨-, h2⟩ | h2
  · exact absurd h2 (by grind)
  · exact h2
set_option maxHeartbeats 2000000 in
theorem goesOn_ok {w : ZW} {σ : ZS} {b s : Nat} {f : Nat → Int32} (h : BR w σ b f) (hb : zBay b) (hI : FI f) (hs : s < 7) (hl : on s < f 2) (h0 : f (37 + 5 * s) = 0) (hp : ¬ f (36 + 5 * s) ≤ 0) : ∃ σ', fX2_goesOn w σ b (on s) = some ((), σ') ∧ BR w σ' b (shp f s) ∧ XF b σ σ' := by
  obtain ⟨⟨nc, c1, c2, c3, c4, c5⟩, -, -, -, -, -, -, sh, x0, x1⟩ := hI
  obtain ⟨a, a1, a2⟩ := c5 s hs hl
  have hp' := hp
  rw [a2] at hp'
  obtain ⟨k, rfl⟩ := on_pos (by omega) hp'
  have hkn : ((f (36 + 5 * s)).toNatClampNeg - 1) = k := by rw [a2, tn_ofNat (by omega)]; omega
  obtain ⟨q, kd, q1, q2, q3, q4⟩ := h.shipAt hs hl
  obtain ⟨σ1, g1, g2⟩ := xbel_ok (c := k) h hb (by omega) q2 q3 q4
  have h1 := h.xs hb hb g2
  have eat : σ.1 (b + 12) s = on (k + 1) := by rw [← a2]; exact (h.2.2.1 s hs).2.1.symm
  have edr : σ1.1 (b + 11) s = f (35 + 5 * s) := (h1.2.2.1 s hs).1.symm
  unfold fX2_goesOn shp
  rw [if_pos h0, if_neg hp, hkn, gd_pos (on_in hs (by decide)), tn_ofNat (by omega), q1, bo_some, q3, oShip_of q2, bo_some]
  simp only
  rw [eat, on_s1, g1, bd_some, edr]
  by_cases hlt : bel f s k < f (35 + 5 * s)
  · obtain ⟨σ2, u1, u2⟩ := elseBy_ok (x := f (35 + 5 * s)) (y := f (34 + 5 * s)) (z := f 0) h1
    have h2 := h1.xs hb hb u2
    rw [if_pos hlt, if_pos hlt, g2.1, q1, bo_some, q3, oShip_of q2, bo_some]
    simp only
    rw [show σ1.1 b 7 = f 0 from h1.1.1.symm, u1, bd_some]
    rcases giv1 (f := f) (a := f (35 + 5 * s)) (b := f (34 + 5 * s)) (c := f 0) with hg | hg
    · rw [hg, if_pos rfl, if_neg (by decide), bd_some]
      exact ⟨σ2, rfl, h2, g2.xf.tr u2.xf⟩
    · rw [hg, if_neg (by decide), if_pos rfl, nm_eq, bd_some]
      have eat2 : σ2.1 (b + 12) s = on (k + 1) := by rw [← a2]; exact (h2.2.2.1 s hs).2.1.symm
      have en2 : σ2.1 b 0 = f 1 := h2.1.2.1.symm
      rw [eat2, en2, a2]
      refine ⟨_, rfl, ?_, (g2.xf.tr u2.xf).st (by omega)⟩
      have hsh : ∀ v, BR w (sI σ2 (b + 12) s v) b (upd f (36 + 5 * s) v) := fun v => h2.ship (k := 1) hs (by decide)
      by_cases hle : on (k + 1) + 1 ≤ f 1 - 1
      · rw [if_pos hle]
        have e : fJ3_min (f 1 - 1) (on (k + 1) + 1) = on (k + 1) + 1 := by
          unfold fJ3_min
          simp only [nm]
          split
          · rfl
          · grind
        rw [e]
        exact hsh _
      · rw [if_neg hle]
        have e : fJ3_min (f 1 - 1) (on (k + 1) + 1) = f (36 + 5 * s) := by
          unfold fJ3_min
          simp only [nm]
          rw [c1, a2]
          rw [c1] at hle
          obtain ⟨nc, rfl⟩ : ∃ m, nc = m + 1 := ⟨nc - 1, by omega⟩
          rw [on_s1, on_a1] at hle ⊢
          rw [on_le (by omega) (by omega)] at hle
          rw [if_neg (by rw [on_lt (by omega) (by omega)]; omega)]
          congr 1
          omega
        rw [e]
        have := hsh (f (36 + 5 * s))
        rw [upd_id] at this
        exact this
  · rw [if_neg hlt, if_neg hlt]
    unfold fX2_comesIn
    rw [gd_pos (on_in hs (by decide)), tn_ofNat (by omega), g2.2 (b + 12) (by omega), eat, on_s1, nm_eq, sI_s]
    have h2 : BR w (sI σ1 (b + 12) s (on k)) b (upd f (36 + 5 * s) (on k)) := h1.ship (k := 1) hs (by decide)
    have bd1 : sBed f (upd f (36 + 5 * s) (on k)) := sBed.upd (by omega)
    obtain ⟨σ2, t1, t2⟩ := xtru_ok (c := k) h2 (by omega)
    have h3 := h2.xs hb hb t2
    rw [t1, bd_some, show σ2.1 (b + 11) s = f (35 + 5 * s) from by rw [← upd_n (f := f) (k := 36 + 5 * s) (v := on k) (show 35 + 5 * s ≠ 36 + 5 * s by omega)]; exact (h3.2.2.1 s hs).1.symm, nm_eq, bd_some, bd_some, ← tru_congr bd1 (upd_n (by omega)).symm (show k < 8 by omega), a2, on_s1]
    exact ⟨_, rfl, h3.ship (k := 2) hs (by decide), ((g2.xf.st (by omega)).tr t2.xf).st (by omega)⟩
theorem passes_L {w : ZW} {b : Nat} (hb : zBay b) {f : Nat → Int32} {ns : Nat} (hI : FI f) (hn : f 2 = on ns) (h7 : ns ≤ 7) : ∀ (k i : Nat) (σ : ZS) (n : Nat), i + k = ns → k < n → BR w σ b (shps f i) → ∃ σ', fX2_passes_L2 w b n (on i) σ = some (on ns, σ') ∧ BR w σ' b (shps f ns) ∧ XF b σ σ'
  | 0, i, σ, n, hi, hk, hr => by
    obtain ⟨n, rfl⟩ : ∃ m, n = m + 1 := ⟨n - 1, by omega⟩
    have hii : i = ns := by omega
    subst hii
    have e : σ.1 b 8 = on i := by rw [← hr.1.2.2.1, (shps_sHr h7).1 2 (by omega) (fun s hs => by omega), hn]
    rw [fX2_passes_L2, e, if_pos ((on_le (by omega) (by omega)).mpr (Nat.le_refl _))]
    exact ⟨σ, rfl, hr, XF.rf⟩
  | k + 1, i, σ, n, hi, hk, hr => by
    obtain ⟨n, rfl⟩ : ∃ m, n = m + 1 := ⟨n - 1, by omega⟩
    have hsh := (shps_sHr (f := f) (n := i) (by omega)).1
    have hFI := shps_FI hI (n := i) (by omega)
    have h2 : shps f i 2 = on ns := by rw [hsh 2 (by omega) (fun s hs => by omega), hn]
    have e : σ.1 b 8 = on ns := by rw [← hr.1.2.2.1, h2]
    have hl : on i < shps f i 2 := by rw [h2]; exact (on_lt (by omega) (by omega)).mpr (by omega)
    obtain ⟨-, s2, s3⟩ := hr.2.2.1 i (by omega)
    rw [fX2_passes_L2, e, if_neg (by rw [on_le (by omega) (by omega)]; omega), gd_pos (on_in (by omega) (by decide)), tn_ofNat (by omega), ← s2, ← s3]
    by_cases z : shps f i (37 + 5 * i) = 0
    · rw [if_pos z]
      by_cases q : shps f i (36 + 5 * i) ≤ 0
      · rw [if_pos q, bd_some, nm_eq, on_a1]
        refine passes_L hb hI hn h7 k (i + 1) σ n (by omega) (by omega) ?_
        rw [shps, shp, if_pos z, if_pos q]
        exact hr
      · obtain ⟨σ1, a1, a2, a4⟩ := goesOn_ok hr hb hFI (by omega) hl z q
        rw [if_neg q, a1, bd_some, bd_some, nm_eq, on_a1]
        obtain ⟨σ2, b1, b2, b4⟩ := passes_L hb hI hn h7 k (i + 1) σ1 n (by omega) (by omega) a2
        exact ⟨σ2, b1, b2, a4.tr b4⟩
    · rw [if_neg z, bd_some, nm_eq, on_a1]
      refine passes_L hb hI hn h7 k (i + 1) σ n (by omega) (by omega) ?_
      rw [shps, shp, if_neg z]
      exact hr
theorem passes_ok {w : ZW} {b : Nat} {σ : ZS} {f : Nat → Int32} (hr : BR w σ b f) (hb : zBay b) (hI : FI f) : ∃ σ', fX2_passes w σ b = some ((), σ') ∧ BR w σ' b (hr1 f) ∧ XF b σ σ' := by
  obtain ⟨ns, s1, s2, s3⟩ := hI.ns
  obtain ⟨σ1, a1, a2, a4⟩ := passes_L hb hI s1 s2 ns 0 σ 10000 (by omega) (by omega) hr
  have hz : shps f ns 0 = f 0 := (shps_sHr s2).2
  unfold fX2_passes
  rw [show (0 : Int32) = on 0 from rfl, a1, bd_some, nm_eq, show σ1.1 b 7 = f 0 from by rw [← hz]; exact a2.1.1.symm]
  refine ⟨_, rfl, ?_, a4.st (by omega)⟩
  unfold hr1
  rw [s3]
  exact a2.numb (by omega)
theorem hrs_hr1 {f : Nat → Int32} : ∀ k, hrs (hr1 f) k = hrs f (k + 1)
  | 0 => rfl
  | k + 1 => by show hr1 (hrs (hr1 f) k) = hr1 (hrs f (k + 1)); rw [hrs_hr1 k]
theorem goes_L {w : ZW} {b y : Nat} (hb : zBay b) (hy : y < 9000) : ∀ (k i : Nat) (σ : ZS) (f : Nat → Int32) (n : Nat), i + k = y → k < n → BR w σ b f → FI f → ∃ σ', fX2_goes_L2 w b (on y) n (on i) σ = some (on y, σ') ∧ BR w σ' b (hrs f k) ∧ XF b σ σ'
  | 0, i, σ, f, n, hi, hk, hr, hI => by
    obtain ⟨n, rfl⟩ : ∃ m, n = m + 1 := ⟨n - 1, by omega⟩
    have hii : i = y := by omega
    subst hii
    rw [fX2_goes_L2, if_pos ((on_le (by omega) (by omega)).mpr (Nat.le_refl _))]
    exact ⟨σ, rfl, hr, XF.rf⟩
  | k + 1, i, σ, f, n, hi, hk, hr, hI => by
    obtain ⟨n, rfl⟩ : ∃ m, n = m + 1 := ⟨n - 1, by omega⟩
    obtain ⟨σ1, a1, a2, a4⟩ := passes_ok hr hb hI
    obtain ⟨σ2, b1, b2, b4⟩ := goes_L hb hy k (i + 1) σ1 (hr1 f) n (by omega) (by omega) a2 (hr1_FI hI)
    rw [fX2_goes_L2, if_neg (by rw [on_le (by omega) (by omega)]; omega), a1, bd_some, nm_eq, on_a1, b1]
    rw [hrs_hr1] at b2
    exact ⟨σ2, rfl, b2, a4.tr b4⟩
theorem goes_ok {w : ZW} {b y : Nat} {σ : ZS} {f : Nat → Int32} (hy : y < 9000) (hr : BR w σ b f) (hb : zBay b) (hI : FI f) : ∃ σ', fX2_goes w σ b (on y) = some ((), σ') ∧ BR w σ' b (hrs f y) ∧ XF b σ σ' := by
  obtain ⟨σ1, a1, a2⟩ := goes_L hb hy y 0 σ f 10000 (by omega) (by omega) hr hI
  unfold fX2_goes
  rw [show (0 : Int32) = on 0 from rfl, a1]
  exact ⟨σ1, rfl, a2⟩
