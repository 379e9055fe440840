/-! the plain law, 16: a new bay; hours -/
theorem BR.ext {w : ZW} {σ : ZS} {b : Nat} {f g : Nat → Int32} (h : BR w σ b f) (e : ∀ j, j < 242 → g j = f j) : BR w σ b g := by
  obtain ⟨hn, hc, hS, hh, ht, hw, hx⟩ := h
  refine ⟨?_, ?_, ?_, ?_, ?_, ?_, ?_⟩
  · unfold bN at *
    rw [e 0 (by omega), e 1 (by omega), e 2 (by omega), e 3 (by omega), e 4 (by omega), e 5 (by omega), e 6 (by omega), e 7 (by omega), e 8 (by omega)]
    exact hn
  · intro c hc'
    rw [e _ (by omega), e _ (by omega), e _ (by omega)]
    exact hc c hc'
  · intro c hc'
    rw [e _ (by omega), e _ (by omega), e _ (by omega)]
    exact hS c hc'
  · intro c hc'
    rw [e _ (by omega), e _ (by omega), e _ (by omega)]
    exact hh c hc'
  · intro c hc'
    rw [e _ (by omega)]
    exact ht c hc'
  · intro c hc'
    rw [e _ (by omega)]
    exact hw c hc'
  · intro u hu
    rw [e _ (by omega)]
    rcases hx u hu with h | ⟨a, a1, a2, a3, a4⟩
    · exact Or.inl h
    · refine Or.inr ⟨a, a1, a2, a3, ?_⟩
      have h50 := i_le.mp a3
      have h0 := tn_le (show (0 : Int32) ≤ f (138 + 52 * u) by lia)
      have e50 : (50 : Int32).toInt = 50 := rfl
      have : cds g u = cds f u := by
        unfold cds
        rw [e _ (by omega)]
        apply List.map_congr_left
        intro k hk
        rw [List.mem_range] at hk
        exact e _ (by omega)
      rw [this]
      exact a4
/-- the first n cells flat -/
def fl (g : Nat → Int32) (n : Nat) : Nat → Int32 := fun j => if 9 ≤ j ∧ j < 9 + 3 * n then (if (j - 9) % 3 = 0 then 5 else if (j - 9) % 3 = 1 then 1 else 0) else g j
theorem fl0 {g : Nat → Int32} : fl g 0 = g := by
  funext j
  unfold fl
  rw [if_neg (by omega)]
theorem fl1 {g : Nat → Int32} {n : Nat} : upd (upd (upd (fl g n) (9 + 3 * n) 5) (10 + 3 * n) 1) (11 + 3 * n) 0 = fl g (n + 1) := by
  funext j
  by_cases e1 : j = 11 + 3 * n
  · subst e1
    rw [upd_s]
    unfold fl
    rw [if_pos (by omega), if_neg (by omega), if_neg (by omega)]
  · rw [upd_n e1]
    by_cases e2 : j = 10 + 3 * n
    · subst e2
      rw [upd_s]
      unfold fl
      rw [if_pos (by omega), if_neg (by omega), if_pos (by omega)]
    · rw [upd_n e2]
      by_cases e3 : j = 9 + 3 * n
      · subst e3
        rw [upd_s]
        unfold fl
        rw [if_pos (by omega), if_pos (by omega)]
      · rw [upd_n e3]
        unfold fl
        by_cases h : 9 ≤ j ∧ j < 9 + 3 * n
        · rw [if_pos h, if_pos (show 9 ≤ j ∧ j < 9 + 3 * (n + 1) by omega)]
        · rw [if_neg h, if_neg (show ¬ (9 ≤ j ∧ j < 9 + 3 * (n + 1)) by omega)]
theorem flat_L {y : Int32} {g : Nat → Int32} : ∀ (k i : Nat) (σ : ZS) (n : Nat), i + k = 8 → k < n → isRow σ 1 (fl g i) → ∃ σ', fX6_flat_L2 y n (on i) σ = some (on 8, σ') ∧ σ'.2 = σ.2 ∧ (∀ r, r ≠ 1 → σ'.1 r = σ.1 r) ∧ isRow σ' 1 (fl g 8)
  | 0, i, σ, n, hi, hk, hr => by
    obtain ⟨n, rfl⟩ : ∃ m, n = m + 1 := ⟨n - 1, by omega⟩
    have hii : i = 8 := by omega
    subst hii
    rw [fX6_flat_L2, if_pos (by decide)]
    exact ⟨σ, rfl, rfl, fun _ _ => rfl, hr⟩
  | k + 1, i, σ, n, hi, hk, hr => by
    obtain ⟨n, rfl⟩ : ∃ m, n = m + 1 := ⟨n - 1, by omega⟩
    obtain ⟨⟨a1, a2⟩, ⟨b1, b2⟩, ⟨c1, c2⟩⟩ := cell_tn i (by omega)
    obtain ⟨σ1, e1, e2, e3, e4⟩ := flat_L (y := y) (g := g) k (i + 1) (sI (sI (sI σ 1 (9 + 3 * i) 5) 1 (10 + 3 * i) 1) 1 (11 + 3 * i) 0) n (by omega) (by omega) (by rw [← fl1]; exact hr.st.st.st)
    rw [fX6_flat_L2, if_neg (by rw [show (8 : Int32) = on 8 from rfl, on_le (by omega) (by omega)]; omega), gd_pos a2, gd_pos b2, gd_pos c2, nm_eq, on_a1, a1, b1, c1, e1]
    exact ⟨σ1, rfl, e2, fun r hr => by rw [e3 r hr, sI_r hr, sI_r hr, sI_r hr], e4⟩
theorem xflat_L {w : ZW} {y y' : Int32} {g : Nat → Int32} : ∀ (k i : Nat) (σ : ZS) (n : Nat), i + k = 8 → k < n → BR w σ 100 (fl g i) → ∃ σ', fX0_bay_L58 y y' n (on i) σ = some (on 8, σ') ∧ σ'.2 = σ.2 ∧ (∀ r, r ≠ 102 → r ≠ 103 → r ≠ 104 → σ'.1 r = σ.1 r) ∧ BR w σ' 100 (fl g 8)
  | 0, i, σ, n, hi, hk, hr => by
    obtain ⟨n, rfl⟩ : ∃ m, n = m + 1 := ⟨n - 1, by omega⟩
    have hii : i = 8 := by omega
    subst hii
    rw [fX0_bay_L58, if_pos (by decide)]
    exact ⟨σ, rfl, rfl, fun _ _ _ _ => rfl, hr⟩
  | k + 1, i, σ, n, hi, hk, hr => by
    obtain ⟨n, rfl⟩ : ∃ m, n = m + 1 := ⟨n - 1, by omega⟩
    have h1 := ((hr.bed (c := i) (k := 0) (v := 5) (by omega) (by omega)).bed (c := i) (k := 1) (v := 1) (by omega) (by omega)).bed (c := i) (k := 2) (v := 0) (by omega) (by omega)
    obtain ⟨σ1, e1, e2, e3, e4⟩ := xflat_L (y := y) (y' := y') (g := g) k (i + 1) (sI (sI (sI σ (100 + 2) i 5) (100 + 3) i 1) (100 + 4) i 0) n (by omega) (by omega) (by rw [← fl1]; exact h1)
    rw [fX0_bay_L58, if_neg (by rw [show (8 : Int32) = on 8 from rfl, on_le (by omega) (by omega)]; omega), gd_pos (on_in (by omega) (by decide)), nm_eq, on_a1, tn_ofNat (by omega), e1]
    exact ⟨σ1, rfl, e2, fun r r2 r3 r4 => by rw [e3 r r2 r3 r4, sI_r (by omega), sI_r (by omega), sI_r (by omega)], e4⟩
set_option maxHeartbeats 1000000 in
theorem bay_act {w : ZW} {N : Nat} {σx σm : ZS} {p1 : Int32} (h : RR w N σx σm) : act w N σm (fX0_bay σx p1) (fX6_bay σm p1) := by
  have h0 := h
  obtain ⟨⟨f, hf⟩, hT⟩ := h
  have hI := hf.2.2.1
  obtain ⟨ns, s1, s2, -⟩ := hI.ns
  unfold fX0_bay fX6_bay
  rw [xi, wi, show σm.1 1 (2 : Int32).toNatClampNeg = f 2 from hf.2.1 2 (by omega)]
  by_cases q1 : 3 ≤ p1 ∧ p1 ≤ 8
  · simp only [if_pos q1, i10, eq_self, ↓reduceIte, nd1', bd_some, sc_inl]
    rw [← hf.1.1.2.2.1]
    by_cases q2 : f 2 = 0
    · rw [if_pos q2, if_pos (show f 2 ≤ 0 by rw [q2]; decide)]
      simp only [nm_eq, nd1', bd_some, sc_inl]
      rw [← hf.1.1.2.1]
      obtain ⟨nc, n1, n2⟩ : ∃ nc : Nat, (3 ≤ nc ∧ nc ≤ 8) ∧ p1 = on nc := by
        obtain ⟨k, k1, k2⟩ := on_ex (x := p1) (n := 9) (by grind) (by have := i_le.mp q1.2; have e : (8 : Int32).toInt = 8 := rfl; omega)
        refine ⟨k, ?_, k2⟩
        have := q1.1
        rw [k2, show (3 : Int32) = on 3 from rfl, on_le (by omega) (by omega)] at this
        omega
      have hx1 : BR w (sI (sI σx 100 0 p1) 100 6 0) 100 (upd (upd f 1 p1) 5 0) := (hf.1.numb (i := 1) (j := 0) (by omega)).numb (i := 5) (j := 6) (by omega)
      obtain ⟨σ1, a1, a2, a3, a4⟩ := xflat_L (y := p1) (y' := f 1) (g := upd (upd f 1 p1) 5 0) 8 0 (sI (sI σx 100 0 p1) 100 6 0) 10000 (by omega) (by omega) (by rw [fl0]; exact hx1)
      obtain ⟨σ2, b1, b2, b3, b4⟩ := flat_L (y := p1) (g := f) 8 0 σm 10000 (by omega) (by omega) (by rw [fl0]; exact hf.2.1)
      obtain ⟨σ3, c1, c2, c3, c4⟩ := forget_ok (σ := sI σ2 1 5 0)
      have hr3 : isRow σ3 1 (upd (fl f 8) 5 0) := fun j hj => by rw [c3 1 (by decide)]; exact b4.st j hj
      have hg : upd (upd (fl f 8) 5 0) 1 p1 2 = 0 := by
        rw [upd_n (by omega), upd_n (by omega), ← q2]
        unfold fl
        rw [if_neg (by omega)]
      refine act_mk (r := f 1) (σx' := σ1) (σm' := sI σ3 1 1 p1) ?_ ?_ ⟨⟨upd (upd (fl f 8) 5 0) 1 p1, ?_, hr3.st, ?_, (c4 _).st (by decide)⟩, ?_⟩ ?_
      · rw [show fX0_bay_L58 p1 (f 1) 10000 0 _ = _ from a1, bd_some]
      · unfold fX6_flat
        rw [show fX6_flat_L2 p1 10000 0 σm = _ from b1, bd_some, show (5 : Int32).toNatClampNeg = 5 from rfl, c1, bd_some, show (1 : Int32) = on 1 from rfl, turn_ok hr3 (by decide), bd_some, bd_some, bd_some, upd_n (by omega)]
        unfold fl
        rw [if_neg (by omega)]
      · refine a4.ext (fun j hj => ?_)
        unfold fl upd
        by_cases j1 : j = 1
        · subst j1; simp
        · by_cases j5 : j = 5
          · subst j5; simp
          · simp [j1, j5]
      · obtain ⟨⟨mc, -⟩, -, y, bk, bm, ⟨nt, t1, t2⟩, ⟨nw, w1, w2⟩, -, x0, x1⟩ := hI
        have hfl : ∀ j, j < 9 → j ≠ 1 → j ≠ 5 → upd (upd (fl f 8) 5 0) 1 p1 j = f j := by
          intro j h1 h2 h3
          rw [upd_n h2, upd_n h3]
          unfold fl
          rw [if_neg (by omega)]
        have htx : ∀ u, txOk f u → txOk (upd (upd (fl f 8) 5 0) 1 p1) u := by
          intro u hu
          refine txOk_lo (by omega) (txOk_lo (by omega) ?_)
          have hh : ∀ j, 33 ≤ j → fl f 8 j = f j := fun j hj => by unfold fl; rw [if_neg (by omega)]
          unfold txOk cds at *
          rw [hh _ (by omega)]
          rw [show (fun k => fl f 8 (139 + 52 * u + k)) = (fun k => f (139 + 52 * u + k)) from funext (fun k => hh _ (by omega))]
          exact hu
        have hno : ∀ s : Nat, s < 7 → ¬ on s < upd (upd (fl f 8) 5 0) 1 p1 2 := by
          intro s hs
          rw [hg]
          exact on_nn (by omega)
        refine ⟨⟨nc, by rw [upd_s]; exact n2, n1.1, n1.2, ?_, fun s hs hl => absurd hl (hno s hs)⟩, ⟨0, hg, by omega⟩, ?_, ?_, ?_, ⟨nt, by rw [hfl 7 (by omega) (by omega) (by omega)]; exact t1, t2⟩, ⟨nw, by rw [hfl 8 (by omega) (by omega) (by omega)]; exact w1, w2⟩, fun s hs hl => absurd hl (hno s hs), htx 0 x0, htx 1 x1⟩
        · rw [upd_n (by omega), upd_s]
          exact on_ge (Nat.lt_of_le_of_lt (Nat.sub_le _ _) (Nat.lt_of_le_of_lt (Nat.pow_le_pow_right (n := 2) (by decide) n1.2) (by decide)))
        · rw [hfl 3 (by omega) (by omega) (by omega)]; exact y
        · rw [hfl 4 (by omega) (by omega) (by omega)]; exact bk
        · rw [upd_n (by omega), upd_s]; decide
      · exact hT.congr (by omega) (fun r hr => by rw [a3 r (by omega) (by omega) (by omega), sI_r (by omega), sI_r (by omega)]) (fun r hr => by rw [a2]; rfl) (by rw [a2]; rfl) (fun r hr => by rw [sI_r (by omega), c3 r (by omega), sI_r (by omega), b3 r (by omega)])
      · show σ3.2 = σm.2
        rw [c2]
        show σ2.2 = σm.2
        rw [b2]
    · rw [if_neg q2, if_neg (by rw [s1] at q2 ⊢; intro h; exact q2 (by rw [show (0 : Int32) = on 0 from rfl, on_le (by omega) (by omega)] at h; rw [show ns = 0 by omega]; rfl))]
      simp only [nm_eq, nd0, bd_some, sc_inr, bd_id]
      exact err3 h0 rfl rfl
  · simp only [if_neg q1, eq_self, ↓reduceIte, nd0, bd_some, sc_inr, bd_id]
    exact err1 h0 rfl rfl
