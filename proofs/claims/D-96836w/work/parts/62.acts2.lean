/-! the plain law, 13: acts on cells, numbers, ships -/
theorem nn {c : Prop} (h : c) : ¬ ¬ c := fun k => k h
theorem cds_lo {f : Nat → Int32} {j : Nat} {v : Int32} (hj : j < 138) (u : Nat) : cds (upd f j v) u = cds f u := by
  unfold cds
  rw [upd_n (by omega)]
  apply List.map_congr_left
  intro k _
  exact upd_n (by omega)
theorem txOk_lo {f : Nat → Int32} {j : Nat} {v : Int32} (hj : j < 138) {u : Nat} (h : txOk f u) : txOk (upd f j v) u := by
  unfold txOk at *
  rw [cds_lo hj, upd_n (by omega)]
  exact h
theorem FI.up {f : Nat → Int32} {j : Nat} {v : Int32} (h : FI f) (hj : j < 138) (h1 : j ≠ 1) (h2 : j ≠ 2) (h3 : j = 3 → 0 ≤ v ∧ v ≤ 999) (h4 : j = 4 → 0 ≤ v ∧ v ≤ 99) (h5 : j = 5 → 0 ≤ v ∧ ∀ nc, f 1 = on nc → nc ≤ 8 → v ≤ on (2 ^ nc - 1)) (h7 : j = 7 → ∃ nt : Nat, v = on nt ∧ nt ≤ 50) (h8 : j = 8 → ∃ nw : Nat, v = on nw ∧ nw ≤ 20) (h36 : ∀ s, s < 7 → j = 36 + 5 * s → on s < f 2 → ∀ nc, f 1 = on nc → nc ≤ 8 → ∃ a, a < nc ∧ v = on a) (h37 : ∀ s, s < 7 → j = 37 + 5 * s → v = 0 ∨ v = 1) (h33 : ∀ s, s < 7 → j = 33 + 5 * s → ∃ k : Nat, k < 7 ∧ v = on k) : FI (upd f j v) := by
  obtain ⟨⟨nc, c1, c2, c3, c4, c5⟩, ⟨ns, s1, s2⟩, y, bk, bm, ⟨nt, t1, t2⟩, ⟨nw, w1, w2⟩, sh, x0, x1⟩ := h
  have e1 : upd f j v 1 = f 1 := upd_n (fun e => h1 e.symm)
  have e2 : upd f j v 2 = f 2 := upd_n (fun e => h2 e.symm)
  refine ⟨⟨nc, by rw [e1]; exact c1, c2, c3, ?_, ?_⟩, ⟨ns, by rw [e2]; exact s1, s2⟩, ?_, ?_, ?_, ?_, ?_, ?_, txOk_lo hj x0, txOk_lo hj x1⟩
  · by_cases e : j = 5
    · subst e; rw [upd_s]; exact (h5 rfl).2 nc c1 c3
    · rw [upd_n (by omega)]; exact c4
  · intro s hs hl
    rw [e2] at hl
    by_cases e : j = 36 + 5 * s
    · subst e; rw [upd_s]; exact h36 s hs rfl hl nc c1 c3
    · rw [upd_n (by omega)]; exact c5 s hs hl
  · by_cases e : j = 3
    · subst e; rw [upd_s]; exact h3 rfl
    · rw [upd_n (by omega)]; exact y
  · by_cases e : j = 4
    · subst e; rw [upd_s]; exact h4 rfl
    · rw [upd_n (by omega)]; exact bk
  · by_cases e : j = 5
    · subst e; rw [upd_s]; exact (h5 rfl).1
    · rw [upd_n (by omega)]; exact bm
  · by_cases e : j = 7
    · subst e; rw [upd_s]; exact h7 rfl
    · rw [upd_n (by omega)]; exact ⟨nt, t1, t2⟩
  · by_cases e : j = 8
    · subst e; rw [upd_s]; exact h8 rfl
    · rw [upd_n (by omega)]; exact ⟨nw, w1, w2⟩
  · intro s hs hl
    rw [e2] at hl
    obtain ⟨a1, k, k1, k2⟩ := sh s hs hl
    constructor
    · by_cases e : j = 37 + 5 * s
      · subst e; rw [upd_s]; exact h37 s hs rfl
      · rw [upd_n (by omega)]; exact a1
    · by_cases e : j = 33 + 5 * s
      · subst e; rw [upd_s]; exact h33 s hs rfl
      · rw [upd_n (by omega)]; exact ⟨k, k1, k2⟩
theorem BR.bed {w : ZW} {σ : ZS} {b c k : Nat} {f : Nat → Int32} {v : Int32} (h : BR w σ b f) (hc : c < 8) (hk : k < 3) : BR w (sI σ (b + (2 + k)) c v) b (upd f (9 + k + 3 * c) v) := by
  obtain ⟨hn, hC, hS, hh, ht, hw, hx⟩ := h
  refine ⟨?_, ?_, ?_, ?_, ?_, ?_, ?_⟩
  · unfold bN at *
    rw [sI_r (by omega), upd_n (by omega), upd_n (by omega), upd_n (by omega), upd_n (by omega), upd_n (by omega), upd_n (by omega), upd_n (by omega), upd_n (by omega), upd_n (by omega)]
    exact hn
  · intro t ht'
    obtain ⟨a1, a2, a3⟩ := hC t ht'
    rcases (show k = 0 ∨ k = 1 ∨ k = 2 by omega) with rfl | rfl | rfl
    · refine ⟨?_, ?_, ?_⟩
      · by_cases e : t = c
        · subst e; rw [upd_s]; exact sI_s.symm
        · rw [upd_n (by omega), a1]; exact (sI_n (by omega)).symm
      · rw [upd_n (by omega), sI_r (by omega)]; exact a2
      · rw [upd_n (by omega), sI_r (by omega)]; exact a3
    · refine ⟨?_, ?_, ?_⟩
      · rw [upd_n (by omega), sI_r (by omega)]; exact a1
      · by_cases e : t = c
        · subst e; rw [upd_s]; exact sI_s.symm
        · rw [upd_n (by omega), a2]; exact (sI_n (by omega)).symm
      · rw [upd_n (by omega), sI_r (by omega)]; exact a3
    · refine ⟨?_, ?_, ?_⟩
      · rw [upd_n (by omega), sI_r (by omega)]; exact a1
      · rw [upd_n (by omega), sI_r (by omega)]; exact a2
      · by_cases e : t = c
        · subst e; rw [upd_s]; exact sI_s.symm
        · rw [upd_n (by omega), a3]; exact (sI_n (by omega)).symm
  · intro t ht'
    rw [sI_r (by omega), sI_r (by omega), sI_r (by omega), upd_n (by omega), upd_n (by omega), upd_n (by omega)]
    exact hS t ht'
  · intro t ht'
    rw [upd_n (by omega), upd_n (by omega), upd_n (by omega)]
    exact hh t ht'
  · intro t ht'
    rw [upd_n (by omega), sI_r (by omega)]
    exact ht t ht'
  · intro t ht'
    rw [upd_n (by omega), sI_r (by omega)]
    exact hw t ht'
  · intro u hu
    rw [cds_lo (by omega), upd_n (by omega)]
    exact hx u hu
theorem cellAt_on : ∀ c, c < 8 → fX6_cellAt (on c) 0 = on (9 + 3 * c) ∧ fX6_cellAt (on c) 1 = on (10 + 3 * c) ∧ fX6_cellAt (on c) 2 = on (11 + 3 * c) := by decide +kernel
theorem shipAt_on : ∀ s, s < 7 → fX6_shipAt (on s) 0 = on (33 + 5 * s) ∧ fX6_shipAt (on s) 1 = on (34 + 5 * s) ∧ fX6_shipAt (on s) 2 = on (35 + 5 * s) ∧ fX6_shipAt (on s) 3 = on (36 + 5 * s) ∧ fX6_shipAt (on s) 4 = on (37 + 5 * s) := by decide +kernel
theorem three {p : Int32} (h : 0 ≤ p ∧ p ≤ 2) : p = 0 ∨ p = 1 ∨ p = 2 := by grind
theorem lay_one {w : ZW} {N c k : Nat} {f : Nat → Int32} {σx σm : ZS} {v : Int32} (hf : RM w f σx σm) (hT : RT w N σx σm) (hc : c < 8) (hk : k < 3) : ∃ σm', bd (fX6_forgetDepths σm) (fun _ s => bd (fX6_turn s (on (9 + k + 3 * c)) v) (fun r s => some (r, s))) = some (f (9 + k + 3 * c), σm') ∧ RR w (N + 1) (sI σx (100 + (2 + k)) c v) σm' ∧ σm'.2 = σm.2 := by
  obtain ⟨σ1, a1, a2, a3, a4⟩ := forget_ok (σ := σm)
  have hr : isRow σ1 1 f := fun j hj => by rw [a3 1 (by decide)]; exact hf.2.1 j hj
  rw [a1, bd_some, turn_ok hr (by omega), bd_some]
  refine ⟨_, rfl, ⟨⟨upd f (9 + k + 3 * c) v, hf.1.bed hc hk, hr.st, ?_, (a4 _).st (by decide)⟩, hT.st (by omega) (fun r h1 h6 => by rw [sI_r h1, a3 r h6])⟩, a2⟩
  exact hf.2.2.1.up (by omega) (by omega) (by omega) (by intros; omega) (by intros; omega) (by intros; omega) (by intros; omega) (by intros; omega) (by intros; omega) (by intros; omega) (by intros; omega)
set_option maxHeartbeats 1000000 in
theorem lay_act {w : ZW} {N : Nat} {σx σm : ZS} {p1 p2 p3 : Int32} (h : RR w N σx σm) : act w N σm (fX0_lay σx p1 p2 p3) (fX6_lay σm p1 p2 p3) := by
  have h0 := h
  obtain ⟨⟨f, hf⟩, hT⟩ := h
  unfold fX0_lay fX6_lay
  rw [(hf.cells p1).1, (hf.cells p1).2]
  simp only [xi, wi, nm, b10]
  by_cases q1 : 0 ≤ p1 ∧ p1 ≤ f 1 - 1
  · by_cases q2 : 0 ≤ p2 ∧ p2 ≤ 2
    · by_cases q3 : 0 ≤ p3 ∧ p3 ≤ (if p2 = 0 then 9 else 999)
      · obtain ⟨c, hc, rfl, -⟩ := hf.2.2.1.cell q1
        obtain ⟨i0, i1, i2⟩ := cellAt_on c hc
        have hin := on_in hc (show 8 < 2147483648 by decide)
        have htn := tn_ofNat (k := c) (by omega)
        obtain ⟨b1, b2, b3⟩ := hf.1.2.1 c hc
        rcases three q2 with rfl | rfl | rfl
        · obtain ⟨σ1, e1, e2, e3⟩ := lay_one (k := 0) (v := p3) hf hT hc (by decide)
          refine act_mk (r := f (9 + 3 * c)) ?_ ?_ e2 e3
          · rw [if_neg (nn q1), if_neg (nn q2), if_neg (nn q3), nd1', bd_some, sc_inl]
            rw [show fX0_cellRow σx 0 = 100 + 2 from rfl, if_pos rfl, gd_pos hin, if_pos rfl, htn, ← b1]
          · rw [if_neg (nn q1), if_neg (nn q2), if_neg (nn q3), i0]
            exact e1
        · obtain ⟨σ1, e1, e2, e3⟩ := lay_one (k := 1) (v := p3) hf hT hc (by decide)
          refine act_mk (r := f (10 + 3 * c)) ?_ ?_ e2 e3
          · rw [if_neg (nn q1), if_neg (nn q2), if_neg (nn q3), nd1', bd_some, sc_inl]
            rw [show fX0_cellRow σx 1 = 100 + 3 from rfl, if_neg (by decide), if_pos rfl, gd_pos hin, if_neg (by decide), if_pos rfl, htn, ← b2]
          · rw [if_neg (nn q1), if_neg (nn q2), if_neg (nn q3), i1]
            exact e1
        · obtain ⟨σ1, e1, e2, e3⟩ := lay_one (k := 2) (v := p3) hf hT hc (by decide)
          refine act_mk (r := f (11 + 3 * c)) ?_ ?_ e2 e3
          · rw [if_neg (nn q1), if_neg (nn q2), if_neg (nn q3), nd1', bd_some, sc_inl]
            rw [show fX0_cellRow σx 2 = 100 + 4 from rfl, if_neg (by decide), if_neg (by decide), gd_pos rfl, gd_pos hin, if_neg (by decide), if_neg (by decide), gd_pos rfl, htn, ← b3]
          · rw [if_neg (nn q1), if_neg (nn q2), if_neg (nn q3), i2]
            exact e1
      · simp only [if_neg (nn q1), if_neg (nn q2), if_pos q3]
        exact act_err h0 (k := 1) (by decide) rfl rfl rfl rfl
    · simp only [if_neg (nn q1), if_pos q2]
      exact act_err h0 (k := 1) (by decide) rfl rfl rfl rfl
  · simp only [if_pos q1]
    exact act_err h0 (k := 1) (by decide) rfl rfl rfl rfl
