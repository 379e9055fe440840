/-! the plain law, 15: questions about cells and ships -/
theorem i10 : ((1 : Int32) = 0) = False := eq_false (by decide)
theorem RR.st0 {w : ZW} {N : Nat} {σx σm : ZS} (h : RR w N σx σm) : RR w (N + 1) σx σm := by
  obtain ⟨⟨f, hf⟩, hT⟩ := h
  exact ⟨⟨f, hf⟩, hT.congr (by omega) (fun _ _ => rfl) (fun _ _ => rfl) rfl (fun _ _ => rfl)⟩
theorem six {p : Int32} (h : 0 ≤ p ∧ p ≤ 5) : p = 0 ∨ p = 1 ∨ p = 2 ∨ p = 3 ∨ p = 4 ∨ p = 5 := by grind
set_option maxHeartbeats 1000000 in
theorem ofCell_act {w : ZW} {N : Nat} {σx σm : ZS} {p1 p2 : Int32} (h : RR w N σx σm) : act w N σm (fX0_ofCell σx p1 p2) (fX6_ofCell σm p1 p2) := by
  have h0 := h
  obtain ⟨⟨f, hf⟩, hT⟩ := h
  have hI := hf.2.2.1
  unfold fX0_ofCell fX6_ofCell
  rw [(hf.cells p1).1, (hf.cells p1).2, xi, wi]
  by_cases q1 : 0 ≤ p1 ∧ p1 ≤ f 1 - 1
  · by_cases q2 : 0 ≤ p2 ∧ p2 ≤ 5
    · simp only [if_pos q1, if_pos q2, i10, eq_self, ↓reduceIte, nm_eq, nd1', nd0, bd_some, sc_inl, sc_inr]
      obtain ⟨c, hc, rfl, -⟩ := hI.cell q1
      have hin := on_in hc (show 8 < 2147483648 by decide)
      have htn := tn_ofNat (k := c) (by omega)
      obtain ⟨b1, b2, b3⟩ := hf.1.2.1 c hc
      obtain ⟨i0, i1, i2⟩ := cellIs_ok hf.2.1 hc
      obtain ⟨y0, y1⟩ := hI.2.2.1
      obtain ⟨k0, k1⟩ := hI.2.2.2.1
      have x0 := hI.2.2.2.2.2.2.2.2.1
      rcases six q2 with rfl | rfl | rfl | rfl | rfl | rfl
      · refine act_mk (r := f (9 + 3 * c)) ?_ ?_ h0.st0 rfl
        · rw [if_neg (by decide), show fX0_cellRow σx 0 = 100 + 2 from rfl, if_pos rfl, gd_pos hin, htn, ← b1]
        · rw [if_neg (by decide), i0, bo_some, bd_some]
      · refine act_mk (r := f (10 + 3 * c)) ?_ ?_ h0.st0 rfl
        · rw [if_neg (by decide), show fX0_cellRow σx 1 = 100 + 3 from rfl, if_neg (by decide), if_pos rfl, gd_pos hin, htn, ← b2]
        · rw [if_neg (by decide), i1, bo_some, bd_some]
      · refine act_mk (r := f (11 + 3 * c)) ?_ ?_ h0.st0 rfl
        · rw [if_neg (by decide), show fX0_cellRow σx 2 = 100 + 4 from rfl, if_neg (by decide), if_neg (by decide), gd_pos rfl, gd_pos hin, htn, ← b3]
        · rw [if_neg (by decide), i2, bo_some, bd_some]
      · obtain ⟨σ1, a1, a2⟩ := xtru_ok hf.1 hc
        obtain ⟨σ2, d1, d2, d3⟩ := tru_ok hf.2.1 x0 hf.2.2.2 hc y1
        refine act_mk (r := tru f c) ?_ ?_ (RR.q hf hT zB1 a2 d2 d3) d2.1
        · rw [if_pos (by decide), if_pos rfl, a1, bd_some, bd_some]
        · rw [if_pos (by decide), if_pos rfl, d1, bd_some, bd_some]
      · obtain ⟨σ1, a1, a2⟩ := xshw_ok (back := f 4) hf.1 hc
        obtain ⟨σ2, d1, d2, d3⟩ := shw_ok (back := f 4) hf.2.1 x0 hf.2.2.2 hc y0 y1 k0 (by lia)
        refine act_mk (r := shw f c (f 4)) ?_ ?_ (RR.q hf hT zB1 a2 d2 d3) d2.1
        · rw [if_pos (by decide), if_neg (by decide), if_pos rfl, ← hf.1.1.2.2.2.2.1, a1, bd_some, bd_some]
        · rw [if_pos (by decide), if_neg (by decide), if_pos rfl, show σm.1 1 (4 : Int32).toNatClampNeg = f 4 from hf.2.1 4 (by omega), d1, bd_some, bd_some]
      · refine act_mk (r := ats f (on c) (nsh f)) ?_ ?_ h0.st0 rfl
        · rw [if_pos (by decide), if_neg (by decide), if_neg (by decide), xats_ok hf.1 hI, bo_some, bd_some]
        · rw [if_pos (by decide), if_neg (by decide), if_neg (by decide), shipsAt_ok hf.2.1 hI, bo_some, bd_some]
    · simp only [if_pos q1, if_neg q2, i10, eq_self, ↓reduceIte, nm_eq, nd1', nd0, bd_some, sc_inl, sc_inr]
      exact err1 h0 bd_id bd_id
  · simp only [if_neg q1, i10, eq_self, ↓reduceIte, nm_eq, nd1', nd0, bd_some, sc_inl, sc_inr]
    exact err1 h0 bd_id bd_id
/-- the class's ship at a place, as a function -/
theorem xshipAt_t {w : ZW} {f : Nat → Int32} {σx σm : ZS} {s a : Nat} {v : Int32} (hf : RM w f σx σm) (hs : s < 7) (hl : on s < f 2) (hv : ¬ v = 0) (ha : σx.2.1 (100 + 10) s = some a) : fX0_shipAt σx (on s) v = some (.inl a, σx) := by
  unfold fX0_shipAt
  have hq : 0 ≤ on s ∧ on s ≤ f 2 - 1 := by
    obtain ⟨ns, s1, s2, -⟩ := hf.2.2.1.ns
    rw [s1] at hl ⊢
    rw [on_lt (by omega) (by omega)] at hl
    obtain ⟨m, rfl⟩ : ∃ m, ns = m + 1 := ⟨ns - 1, by omega⟩
    rw [on_s1]
    exact ⟨on_ge (by omega), (on_le (by omega) (by omega)).mpr (by omega)⟩
  rw [(hf.ships (on s)).1, if_pos hq, if_neg (by decide), if_neg hv, nm_eq, nd1', bd_some, sc_inl, gd_pos (on_in hs (by decide)), tn_ofNat (by omega), ha, bo_some]
theorem xshipAt_f {w : ZW} {f : Nat → Int32} {σx σm : ZS} {p v : Int32} (hf : RM w f σx σm) (h : ¬ (0 ≤ p ∧ p ≤ f 2 - 1) ∨ v = 0) : fX0_shipAt σx p v = some (.inr (), sI σx 1 6 1) := by
  unfold fX0_shipAt
  rw [(hf.ships p).1]
  by_cases q : 0 ≤ p ∧ p ≤ f 2 - 1
  · rw [if_pos q, if_neg (by decide), if_pos (by rcases h with h | h; exact absurd q h; exact h), nm_eq, nd0, bd_some, sc_inr]
  · rw [if_neg q, if_pos rfl, nm_eq, nd0, bd_some, sc_inr]
theorem kind_ok {w : ZW} {σ : ZS} {a k : Nat} {n m : Int32} (hk : k < 7) : fS_Ship_kind w σ a (8 + k) n m = some (on k) := by
  rcases (show k = 0 ∨ k = 1 ∨ k = 2 ∨ k = 3 ∨ k = 4 ∨ k = 5 ∨ k = 6 by omega) with rfl | rfl | rfl | rfl | rfl | rfl | rfl <;> rfl
theorem isOf_ok {w : ZW} {σ : ZS} {a k : Nat} {n m : Int32} (hk : k < 7) (σm : ZS) : ∀ j, j < 7 → fS_Ship_isOf w σ a (8 + k) n m (on j) = fX6_isUnder σm (on k) (on j) := by
  intro j hj
  rcases (show k = 0 ∨ k = 1 ∨ k = 2 ∨ k = 3 ∨ k = 4 ∨ k = 5 ∨ k = 6 by omega) with rfl | rfl | rfl | rfl | rfl | rfl | rfl <;> rcases (show j = 0 ∨ j = 1 ∨ j = 2 ∨ j = 3 ∨ j = 4 ∨ j = 5 ∨ j = 6 by omega) with rfl | rfl | rfl | rfl | rfl | rfl | rfl <;> rfl
theorem under01 {σm : ZS} : ∀ k, k < 7 → ∀ j, j < 7 → fX6_isUnder σm (on k) (on j) = some 0 ∨ fX6_isUnder σm (on k) (on j) = some 1 := by
  intro k hk j hj
  rcases (show k = 0 ∨ k = 1 ∨ k = 2 ∨ k = 3 ∨ k = 4 ∨ k = 5 ∨ k = 6 by omega) with rfl | rfl | rfl | rfl | rfl | rfl | rfl <;> rcases (show j = 0 ∨ j = 1 ∨ j = 2 ∨ j = 3 ∨ j = 4 ∨ j = 5 ∨ j = 6 by omega) with rfl | rfl | rfl | rfl | rfl | rfl | rfl <;> first | exact Or.inl rfl | exact Or.inr rfl
set_option maxHeartbeats 1000000 in
theorem as_act {w : ZW} {N : Nat} {σx σm : ZS} {p1 p2 : Int32} (h : RR w N σx σm) : act w N σm (fX0_as w σx p1 p2) (fX6_as σm p1 p2) := by
  have h0 := h
  obtain ⟨⟨f, hf⟩, hT⟩ := h
  have hI := hf.2.2.1
  unfold fX0_as fX6_as
  rw [(hf.ships p1).2, xi, wi]
  by_cases q1 : 0 ≤ p1 ∧ p1 ≤ f 2 - 1
  · by_cases q2 : 0 ≤ p2 ∧ p2 ≤ 6
    · simp only [if_pos q1, if_pos q2, i10, eq_self, ↓reduceIte, nm_eq, nd1', nd0, bd_some, sc_inl, sc_inr]
      obtain ⟨s, hs, rfl, hl⟩ := hI.ship q1
      obtain ⟨a, k, a1, k1, a2, a3⟩ := hf.1.shipAt hs hl
      obtain ⟨j, hj, rfl⟩ := on_ex (n := 7) q2.1 (by have := i_le.mp q2.2; have e : (6 : Int32).toInt = 6 := rfl; omega)
      rw [xshipAt_t hf hs hl (by decide) a1, bd_some, sc_inl, a2, oShip_of k1, bo_some]
      simp only
      rw [isOf_ok k1 σm j hj, si0 hf.2.1 hs, bo_some, a3]
      rcases under01 (σm := σm) k k1 j hj with e | e
      · rw [e, bo_some, nd0, bd_some, sc_inr, bo_some, if_pos rfl]
        exact err5 h0 bd_id (by rw [bd_id, bd_id])
      · rw [e, bo_some, nd1', bd_some, sc_inl, bo_some, if_neg (by decide), si1 hf.2.1 hs, bo_some, bd_some, a2, oShip_of k1, gd_pos rfl]
        exact act_mk rfl rfl h0.st0 rfl
    · simp only [if_pos q1, if_neg q2, xshipAt_f hf (Or.inr rfl), i10, eq_self, ↓reduceIte, nm_eq, nd1', nd0, bd_some, sc_inl, sc_inr]
      exact err1 h0 bd_id bd_id
  · simp only [if_neg q1, xshipAt_f hf (Or.inl q1), i10, eq_self, ↓reduceIte, nm_eq, nd1', nd0, bd_some, sc_inl, sc_inr]
    exact err1 h0 bd_id bd_id
set_option maxHeartbeats 1000000 in
theorem ofShip_act {w : ZW} {N : Nat} {σx σm : ZS} {p1 p2 : Int32} (h : RR w N σx σm) : act w N σm (fX0_ofShip w σx p1 p2) (fX6_ofShip σm p1 p2) := by
  have h0 := h
  obtain ⟨⟨f, hf⟩, hT⟩ := h
  have hI := hf.2.2.1
  unfold fX0_ofShip fX6_ofShip
  rw [(hf.ships p1).2, xi, wi]
  by_cases q1 : 0 ≤ p1 ∧ p1 ≤ f 2 - 1
  · by_cases q2 : 0 ≤ p2 ∧ p2 ≤ 5
    · simp only [if_pos q1, if_pos q2, i10, eq_self, ↓reduceIte, nm_eq, nd1', nd0, bd_some, sc_inl, sc_inr]
      obtain ⟨s, hs, rfl, hl⟩ := hI.ship q1
      obtain ⟨a, k, a1, k1, a2, a3⟩ := hf.1.shipAt hs hl
      have hin := on_in hs (show 7 < 2147483648 by decide)
      have htn := tn_ofNat (k := s) (by omega)
      obtain ⟨b1, b2, b3⟩ := hf.1.2.2.1 s hs
      rw [xshipAt_t hf hs hl (by decide) a1, bd_some, sc_inl, si3 hf.2.1 hs, bo_some]
      rcases six q2 with rfl | rfl | rfl | rfl | rfl | rfl
      · refine act_mk (r := f (33 + 5 * s)) ?_ ?_ h0.st0 rfl
        · rw [if_pos rfl, a2, oShip_of k1, bo_some]
          simp only
          rw [kind_ok k1, bo_some, a3]
        · rw [if_neg (by decide), si0 hf.2.1 hs, bo_some, bd_some]
      · refine act_mk (r := f (34 + 5 * s)) ?_ ?_ h0.st0 rfl
        · rw [if_neg (by decide), if_pos rfl, a2, oShip_of k1, bo_some]
        · rw [if_neg (by decide), si1 hf.2.1 hs, bo_some, bd_some]
      · refine act_mk (r := f (35 + 5 * s)) ?_ ?_ h0.st0 rfl
        · rw [if_neg (by decide), if_neg (by decide), if_pos rfl, gd_pos hin, htn, ← b1]
        · rw [if_neg (by decide), si2 hf.2.1 hs, bo_some, bd_some]
      · refine act_mk (r := f (36 + 5 * s)) ?_ ?_ h0.st0 rfl
        · rw [if_neg (by decide), if_neg (by decide), if_neg (by decide), if_pos rfl, gd_pos hin, htn, ← b2]
        · rw [if_neg (by decide), si3 hf.2.1 hs, bo_some, bd_some]
      · refine act_mk (r := f (37 + 5 * s)) ?_ ?_ h0.st0 rfl
        · rw [if_neg (by decide), if_neg (by decide), if_neg (by decide), if_neg (by decide), if_pos rfl, gd_pos hin, htn, ← b3]
        · rw [if_neg (by decide), si4 hf.2.1 hs, bo_some, bd_some]
      · unfold fX0_believed
        rw [if_neg (by decide), if_neg (by decide), if_neg (by decide), if_neg (by decide), if_neg (by decide), gd_pos (by decide), gd_pos hin, htn, ← b2, if_pos (show (5 : Int32) ≤ 5 by decide)]
        by_cases z : f (36 + 5 * s) = 0
        · rw [if_pos z, if_pos z]
          exact act_mk rfl rfl h0.st0 rfl
        · rw [if_neg z, if_neg z]
          obtain ⟨⟨nc, c1, c2, c3, c4, c5⟩, -, ⟨y0, y1⟩, ⟨e0, e1⟩, -, -, -, sh, x0, x1⟩ := hI
          obtain ⟨q, d1, d2⟩ := c5 s hs hl
          cases q with
          | zero => exact absurd d2 z
          | succ m =>
            obtain ⟨σ1, g1, g2⟩ := xbel_ok (c := m) hf.1 zB1 (by omega) k1 a2 a3
            obtain ⟨σ2, u1, u2, u3⟩ := bel_ok hf.2.1 x0 hf.2.2.2 hs (show m < 8 by omega) y0 y1 e0 e1 (by rw [a3]; exact ⟨on_ge (by omega), (on_le (b := 6) (by omega) (by omega)).mpr (by omega)⟩)
            refine act_mk (r := bel f s m) ?_ ?_ (RR.q hf hT zB1 g2 u2 u3) u2.1
            · rw [a1, bo_some, a2, oShip_of k1, bo_some]
              simp only
              rw [d2, on_s1, g1, bd_some, bd_some, bd_some]
            · rw [d2, on_s1, u1, bd_some, bd_some]
    · simp only [if_pos q1, if_neg q2, xshipAt_f hf (Or.inr rfl), i10, eq_self, ↓reduceIte, nm_eq, nd1', nd0, bd_some, sc_inl, sc_inr]
      exact err1 h0 bd_id bd_id
  · simp only [if_neg q1, xshipAt_f hf (Or.inl q1), i10, eq_self, ↓reduceIte, nm_eq, nd1', nd0, bd_some, sc_inl, sc_inr]
    exact err1 h0 bd_id bd_id
