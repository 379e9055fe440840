/-! the plain law, 32: ship, become -/
set_option maxHeartbeats 2000000 in
theorem ship_act {w : ZW} {N : Nat} {σx σm : ZS} {p1 p2 p3 : Int32} (hB1 : 4 ≤ σx.2.2.2.2.1) (hB2 : 1000 ≤ σx.2.2.2.2.2) (h : RR w N σx σm) : act w N σm (fX0_ship w σx p1 p2 p3) (fX6_ship σm p1 p2 p3) := by
  have h0 := h
  obtain ⟨⟨f, hf⟩, hT⟩ := h
  have hI := hf.2.2.1
  unfold fX0_ship fX6_ship fX6_isKindM fX6_isDigit
  rw [(hf.cells p3).1, (hf.cells p3).2]
  simp only [xi, wi]
  by_cases q1 : 0 ≤ p1 ∧ p1 ≤ 69
  · by_cases q2 : 0 ≤ p2 ∧ p2 ≤ 9
    · by_cases q3 : 0 ≤ p3 ∧ p3 ≤ f 1 - 1
      · simp only [if_pos q1, if_pos q2, if_pos q3, i10, eq_self, ↓reduceIte, nm_eq, nd1', bd_some, sc_inl, bd_id]
        obtain ⟨k, -, k2, rfl⟩ := on_rng (lo := 0) (hi := 69) (by omega) q1
        obtain ⟨c, hc, rfl, hcc⟩ := hI.cell q3
        obtain ⟨n, n1, n2⟩ := hI.2.1
        have e1 : σx.1 100 8 = on n := by rw [← n1]; exact hf.1.1.2.2.1.symm
        have e2 : σm.1 1 2 = on n := by rw [← n1]; exact hf.2.1 2 (by omega)
        rw [e1, show σm.1 1 (2 : Int32).toNatClampNeg = on n from e2]
        by_cases q4 : n = 7
        · subst q4
          rw [if_pos (show (7 : Int32) ≤ on 7 by decide), nd0, bd_some, sc_inr, if_pos (show on 7 = 7 by decide)]
          exact err4 h0 rfl rfl
        · rw [if_neg (show ¬ (7 : Int32) ≤ on n by rw [show (7 : Int32) = on 7 from rfl, on_le (by omega) (by omega)]; omega), nd1', bd_some, sc_inl, if_neg (show ¬ on n = 7 by rw [show (7 : Int32) = on 7 from rfl, on_eq (by omega) (by omega)]; exact q4), (ten k (by omega)).1, show on k - on (k / 10) * 10 = on (k % 10) by rw [← (ten k (by omega)).1]; exact (ten k (by omega)).2]
          obtain ⟨σ1, a1, a2⟩ := shipOf_ok (w := w) (σ := σx) (k := k / 10) (p3 := on n) (p4 := on (k % 10)) hB1 hB2 (by omega)
          obtain ⟨u1, u2⟩ := a2.up hT.2.2.2.2.2
          have a3 := a2.2.2.2.1
          have tn : (on n).toNatClampNeg = n := tn_ofNat (by omega)
          rw [e1, a1, bd_some, a3, oShip_of (by omega), bo_some, gd_pos (on_in (n := 7) (by omega) (by omega)), tn, show (sI (sI (sI (sG σ1 (100 + 10) n (some σx.2.2.2.1)) (100 + 11) n p2) (100 + 12) n (on c)) (100 + 13) n 0).1 100 8 = on n by rw [sI_r (by decide), sI_r (by decide), sI_r (by decide), sG_1, a2.1]; exact e1, on_a1]
          have e3 := shipAt_on n (show n < 7 by omega)
          unfold fX6_shipComes
          simp only [nm_eq]
          rw [show σm.1 1 (2 : Int32).toNatClampNeg = on n from e2, e3.1, e3.2.1, e3.2.2.1, e3.2.2.2.1, e3.2.2.2.2, gd_pos (on_in (n := 242) (by omega) (by omega)), gd_pos (on_in (n := 242) (by omega) (by omega)), gd_pos (on_in (n := 242) (by omega) (by omega)), gd_pos (on_in (n := 242) (by omega) (by omega)), gd_pos (on_in (n := 242) (by omega) (by omega)), tn_ofNat (show 33 + 5 * n < 2147483648 by omega), tn_ofNat (show 34 + 5 * n < 2147483648 by omega), tn_ofNat (show 35 + 5 * n < 2147483648 by omega), tn_ofNat (show 36 + 5 * n < 2147483648 by omega), tn_ofNat (show 37 + 5 * n < 2147483648 by omega), (ten k (by omega)).1, show on k - on (k / 10) * 10 = on (k % 10) by rw [← (ten k (by omega)).1]; exact (ten k (by omega)).2, show (2 : Int32).toNatClampNeg = 2 from rfl, show (sI (sI (sI (sI (sI σm 1 (33 + 5 * n) (on (k / 10))) 1 (34 + 5 * n) (on (k % 10))) 1 (35 + 5 * n) p2) 1 (36 + 5 * n) (on c)) 1 (37 + 5 * n) 0).1 1 2 = on n by rw [sI_n (by omega), sI_n (by omega), sI_n (by omega), sI_n (by omega), sI_n (by omega)]; exact e2, on_a1]
          have hx1 := hf.1.crew (s := n) (k := k / 10) (m := on (k % 10)) a2.1 a2.2.1 u1 (by omega) (by omega) a3
          have hx4 := ((hx1.ship (s := n) (k := 0) (v := p2) (by omega) (by omega)).ship (s := n) (k := 1) (v := on c) (by omega) (by omega)).ship (s := n) (k := 2) (v := 0) (by omega) (by omega)
          have g2 : (upd (upd (upd (upd (upd f (33 + 5 * n) (on (k / 10))) (34 + 5 * n) (on (k % 10))) (35 + 0 + 5 * n) p2) (35 + 1 + 5 * n) (on c)) (35 + 2 + 5 * n) 0) 2 = on n := by
            rw [upd_n (by omega), upd_n (by omega), upd_n (by omega), upd_n (by omega), upd_n (by omega)]; exact n1
          have hx5 := hx4.ships (a := σx.2.2.2.1) g2 (by omega) sG_s
          have hI5 : FI (upd (upd (upd (upd (upd f (33 + 5 * n) (on (k / 10))) (34 + 5 * n) (on (k % 10))) (35 + 0 + 5 * n) p2) (35 + 1 + 5 * n) (on c)) (35 + 2 + 5 * n) 0) := by
            refine FI.up (FI.up (FI.up (FI.up (FI.up hI ?_ ?_ ?_ ?_ ?_ ?_ ?_ ?_ ?_ ?_ ?_) ?_ ?_ ?_ ?_ ?_ ?_ ?_ ?_ ?_ ?_ ?_) ?_ ?_ ?_ ?_ ?_ ?_ ?_ ?_ ?_ ?_ ?_) ?_ ?_ ?_ ?_ ?_ ?_ ?_ ?_ ?_ ?_ ?_) ?_ ?_ ?_ ?_ ?_ ?_ ?_ ?_ ?_ ?_ ?_
            all_goals first | omega | (intro e; omega) | (intro s hs e; omega) | (intro s hs e hl nc h1 h8; omega) | skip
            · intro s hs e
              exact ⟨k / 10, by omega, rfl⟩
            · intro s hs e hl nc h1 h8
              rw [upd_n (by omega), upd_n (by omega), upd_n (by omega)] at h1
              exact ⟨c, hcc nc h1 h8, rfl⟩
            · intro s hs e
              exact Or.inl rfl
          have hI6 := hI5.ships (c := c) (kd := k / 10) g2 (by omega) (fun nc h1 h8 => hcc nc (by rw [upd_n (by omega), upd_n (by omega), upd_n (by omega), upd_n (by omega), upd_n (by omega)] at h1; exact h1) h8) (by rw [upd_n (by omega), show 35 + 1 + 5 * n = 36 + 5 * n by omega, upd_s]) (by rw [show 35 + 2 + 5 * n = 37 + 5 * n by omega, upd_s]) (by rw [upd_n (by omega), upd_n (by omega), upd_n (by omega), upd_n (by omega), upd_s]) (by omega)
          rw [show 35 + 0 + 5 * n = 35 + 5 * n by omega, show 35 + 1 + 5 * n = 36 + 5 * n by omega, show 35 + 2 + 5 * n = 37 + 5 * n by omega] at hx5 hI6
          refine act_mk rfl rfl ⟨⟨_, hx5, (((((hf.2.1.st).st).st).st).st).st, hI6, ?_⟩, ?_⟩ rfl
          · exact cOK_congr (sBed.upd (by omega)) (cOK_congr (sBed.upd (by omega)) (cOK_congr (sBed.upd (by omega)) (cOK_congr (sBed.upd (by omega)) (cOK_congr (sBed.upd (by omega)) (cOK_congr (sBed.upd (by omega)) ((((((hf.2.2.2.st (by decide)).st (by decide)).st (by decide)).st (by decide)).st (by decide)).st (by decide)))))))
          · exact hT.more (fun r hr => by rw [sI_r (by omega), sI_r (by omega), sI_r (by omega), sI_r (by omega), sG_1, a2.1]) (fun r hr => by
              show (sG σ1 (100 + 10) n (some σx.2.2.2.1)).2.1 r = _
              rw [sG_r (by omega), a2.2.1]) u1 u2 (fun r hr => by rw [sI_r (by omega), sI_r (by omega), sI_r (by omega), sI_r (by omega), sI_r (by omega), sI_r (by omega)])
      · simp only [if_pos q1, if_pos q2, if_neg q3, i10, eq_self, ↓reduceIte, nm_eq, nd0, bd_some, sc_inr, bd_id]
        exact err1 h0 rfl rfl
    · simp only [if_pos q1, if_neg q2, i10, eq_self, ↓reduceIte, nm_eq, nd0, bd_some, sc_inr, bd_id]
      exact err1 h0 rfl rfl
  · simp only [if_neg q1, eq_self, ↓reduceIte, nm_eq, nd0, bd_some, sc_inr, bd_id]
    exact err1 h0 rfl rfl
set_option maxHeartbeats 2000000 in
theorem become_act {w : ZW} {N : Nat} {σx σm : ZS} {p1 p2 : Int32} (hB1 : 4 ≤ σx.2.2.2.2.1) (hB2 : 1000 ≤ σx.2.2.2.2.2) (h : RR w N σx σm) : act w N σm (fX0_become w σx p1 p2) (fX6_become σm p1 p2) := by
  have h0 := h
  obtain ⟨⟨f, hf⟩, hT⟩ := h
  have hI := hf.2.2.1
  unfold fX0_become fX6_become fX6_isKindM
  rw [(hf.ships p1).2, xi, wi]
  by_cases q1 : 0 ≤ p1 ∧ p1 ≤ f 2 - 1
  · by_cases q2 : 0 ≤ p2 ∧ p2 ≤ 69
    · simp only [if_pos q1, if_pos q2, i10, eq_self, ↓reduceIte, nm_eq]
      obtain ⟨k, -, k2, rfl⟩ := on_rng (lo := 0) (hi := 69) (by omega) q2
      obtain ⟨s, hs, rfl, hl⟩ := hI.ship q1
      obtain ⟨a, j, a1, j1, a2, a3⟩ := hf.1.shipAt hs hl
      rw [xshipAt_t hf hs hl (by decide) a1, bd_some, sc_inl, (ten k (by omega)).1, show on k - on (k / 10) * 10 = on (k % 10) by rw [← (ten k (by omega)).1]; exact (ten k (by omega)).2]
      obtain ⟨σ1, b1, b2⟩ := shipOf_ok (w := w) (σ := σx) (k := k / 10) (p3 := on s) (p4 := on (k % 10)) hB1 hB2 (by omega)
      obtain ⟨u1, u2⟩ := b2.up hT.2.2.2.2.2
      have b3 := b2.2.2.2.1
      have ts : (on s).toNatClampNeg = s := tn_ofNat (by omega)
      have e3 := shipAt_on s hs
      rw [b1, bd_some, b3, oShip_of (by omega), bo_some, gd_pos (on_in (n := 7) (by omega) (by omega)), u1 _ _ a2, oShip_of j1, bo_some, ts]
      simp only
      rw [kind_ok j1, bo_some, e3.1, e3.2.1, gd_pos (on_in (n := 242) (by omega) (by omega)), tn_ofNat (show 34 + 5 * s < 2147483648 by omega)]
      have hm2 : isRow (sI σm 1 (34 + 5 * s) (on (k % 10))) 1 (upd f (34 + 5 * s) (on (k % 10))) := hf.2.1.st
      rw [turn_ok hm2 (show 33 + 5 * s < 242 by omega), bd_some, upd_n (by omega), a3]
      have hx1 := hf.1.crew (s := s) (k := k / 10) (m := on (k % 10)) b2.1 b2.2.1 u1 hs (by omega) b3
      have hI5 : FI (upd (upd f (33 + 5 * s) (on (k / 10))) (34 + 5 * s) (on (k % 10))) := by
        refine FI.up (FI.up hI ?_ ?_ ?_ ?_ ?_ ?_ ?_ ?_ ?_ ?_ ?_) ?_ ?_ ?_ ?_ ?_ ?_ ?_ ?_ ?_ ?_ ?_
        all_goals first | omega | (intro e; omega) | (intro s hs e; omega) | (intro s hs e hl nc h1 h8; omega) | skip
        intro s hs e
        exact ⟨k / 10, by omega, rfl⟩
      refine act_mk rfl rfl ⟨⟨_, hx1, ?_, hI5, ?_⟩, ?_⟩ rfl
      · rw [upd_comm (by omega)]
        exact hm2.st
      · exact cOK_congr (sBed.upd (by omega)) (cOK_congr (sBed.upd (by omega)) ((hf.2.2.2.st (by decide)).st (by decide)))
      · exact hT.more (fun r hr => by rw [sG_1, b2.1]) (fun r hr => by rw [sG_r (by omega), b2.2.1]) u1 u2 (fun r hr => by rw [sI_r (by omega), sI_r (by omega)])
    · simp only [if_pos q1, if_neg q2, xshipAt_f hf (Or.inr rfl), i10, eq_self, ↓reduceIte, nm_eq, bd_some, sc_inr]
      exact err1 h0 bd_id bd_id
  · simp only [if_neg q1, xshipAt_f hf (Or.inl q1), i10, eq_self, ↓reduceIte, nm_eq, bd_some, sc_inr]
    exact err1 h0 bd_id bd_id
