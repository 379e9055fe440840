/-! the plain law, 24: trace, told, count, tell, image, restore -/
theorem trace_act {w : ZW} {N : Nat} {σx σm : ZS} {p1 : Int32} (h : RR w N σx σm) : act w N σm (fX0_trace σx p1) (fX6_trace σm p1) := by
  have h0 := h
  obtain ⟨⟨f, hf⟩, hT⟩ := h
  obtain ⟨-, -, -, ⟨t, t1, t2, t3, t4⟩, -⟩ := hT
  unfold fX0_trace fX6_trace
  simp only [xi, wi, t2, t3]
  by_cases q1 : 0 ≤ p1 ∧ p1 ≤ on t - 1
  · simp only [if_pos q1, i10, eq_self, ↓reduceIte, nm_eq, nd1', nd0, bd_some, sc_inl, sc_inr]
    cases t with
    | zero => exact absurd (show (0 : Int32) ≤ 0 - 1 by exact Int32.le_trans q1.1 q1.2) (by decide)
    | succ t =>
      rw [on_s1] at q1
      obtain ⟨k, -, k2, rfl⟩ := on_rng (lo := 0) (hi := t) (by omega) q1
      rw [gd_pos (on_in (n := 40) (by omega) (by omega)), gd_pos (on_in (n := 40) (by omega) (by omega)), tn_ofNat (by omega), t4 k (by omega)]
      exact act_mk rfl rfl h0.st0 rfl
  · simp only [if_neg q1, eq_self, ↓reduceIte, nd0, bd_some, sc_inr, bd_id]
    exact err2 h0 rfl rfl
theorem told_act {w : ZW} {N : Nat} {σx σm : ZS} {p1 : Int32} (h : RR w N σx σm) : act w N σm (fX0_told σx p1) (fX6_told σm p1) := by
  have h0 := h
  obtain ⟨⟨f, hf⟩, hT⟩ := h
  obtain ⟨-, -, t4, -⟩ := hT
  unfold fX0_told fX6_told
  simp only [xi, wi]
  by_cases q1 : 1 ≤ p1 ∧ p1 ≤ 5
  · simp only [if_pos q1, i10, eq_self, ↓reduceIte, nm_eq, nd1', nd0, bd_some, sc_inl, sc_inr]
    obtain ⟨k, -, k2, rfl⟩ := on_rng (lo := 1) (hi := 5) (by omega) q1
    rw [gd_pos (on_in (n := 6) (by omega) (by omega)), gd_pos (on_in (n := 6) (by omega) (by omega)), tn_ofNat (by omega), t4 k (by omega)]
    exact act_mk rfl rfl h0.st0 rfl
  · simp only [if_neg q1, eq_self, ↓reduceIte, nd0, bd_some, sc_inr, bd_id]
    exact err1 h0 rfl rfl
theorem count_act {w : ZW} {N : Nat} {σx σm : ZS} {p1 : Int32} (h : RR w N σx σm) : act w N σm (fX0_count σx p1) (fX6_count σm p1) := by
  have h0 := h
  obtain ⟨⟨f, hf⟩, hT⟩ := h
  obtain ⟨-, -, -, ⟨t, t1, t2, t3, t4⟩, -⟩ := hT
  have hI := hf.2.2.1
  obtain ⟨b0, b1, b2, b3, b4, b5, b6, b7, b8⟩ := hf.1.1
  have hm := hf.2.1
  unfold fX0_count fX6_count
  simp only [xi]
  by_cases q1 : 0 ≤ p1 ∧ p1 ≤ 11
  · simp only [if_pos q1, nd1', bd_some, sc_inl]
    obtain ⟨k, -, k2, rfl⟩ := on_rng (lo := 0) (hi := 11) (by omega) q1
    obtain ⟨m0, l1, l2⟩ := lst_on (f := f) (nsh7 hI) hI.l01
    have hp7 := pow7 (nsh7 hI)
    rcases (show k = 0 ∨ k = 1 ∨ k = 2 ∨ k = 3 ∨ k = 4 ∨ k = 5 ∨ k = 6 ∨ k = 7 ∨ k = 8 ∨ k = 9 ∨ k = 10 ∨ k = 11 by omega) with rfl | rfl | rfl | rfl | rfl | rfl | rfl | rfl | rfl | rfl | rfl | rfl
    · exact act_mk (r := f 1) (by rw [b1]; rfl) (by rw [← hm 1 (by omega)]; rfl) h0.st0 rfl
    · exact act_mk (r := f 2) (by rw [b2]; rfl) (by rw [← hm 2 (by omega)]; rfl) h0.st0 rfl
    · exact act_mk (r := f 0) (by rw [b0]; rfl) (by rw [← hm 0 (by omega)]; rfl) h0.st0 rfl
    · exact act_mk (r := f 3) (by rw [b3]; rfl) (by rw [← hm 3 (by omega)]; rfl) h0.st0 rfl
    · exact act_mk (r := f 4) (by rw [b4]; rfl) (by rw [← hm 4 (by omega)]; rfl) h0.st0 rfl
    · exact act_mk (r := f 5) (by rw [b5]; rfl) (by rw [← hm 5 (by omega)]; rfl) h0.st0 rfl
    · refine act_mk (r := hom f (nsh f)) (σx' := σx) (σm' := σm) ?_ ?_ h0.st0 rfl
      · rw [xhom_ok hf.1 hI, bo_some]; rfl
      · rw [manyIn_ok hm hI, bo_some]; rfl
    · refine act_mk (r := on (pc m0)) (σx' := σx) (σm' := σm) ?_ ?_ h0.st0 rfl
      · rw [xlost_ok hf.1 hI, bo_some, l2, bitCount_ok m0 (by omega)]; rfl
      · rw [lostNow_ok hm hI, bo_some, l2, bits_ok (by omega), bo_some]; rfl
    · exact act_mk (r := f 7) (by rw [b7]; rfl) (by rw [← hm 7 (by omega)]; rfl) h0.st0 rfl
    · exact act_mk (r := f 8) (by rw [b8]; rfl) (by rw [← hm 8 (by omega)]; rfl) h0.st0 rfl
    · exact act_mk (r := on t) (by rw [t2]; rfl) (by rw [t3]; rfl) h0.st0 rfl
    · refine act_mk (r := f 6) (σx' := σx) (σm' := σm) ?_ ?_ h0.st0 rfl
      · rw [b6, gd_pos (show (on 11).toInt < 0 ∨ 10 < (on 11).toInt by decide)]; rfl
      · rw [← hm 6 (by omega)]; rfl
  · simp only [if_neg q1, nd0, bd_some, sc_inr, bd_id]
    have n0 : ¬ p1 = 0 := fun e => q1 (by rw [e]; decide)
    have n1 : ¬ p1 = 1 := fun e => q1 (by rw [e]; decide)
    have n2 : ¬ p1 = 2 := fun e => q1 (by rw [e]; decide)
    have n3 : ¬ p1 = 3 := fun e => q1 (by rw [e]; decide)
    have n4 : ¬ p1 = 4 := fun e => q1 (by rw [e]; decide)
    have n5 : ¬ p1 = 5 := fun e => q1 (by rw [e]; decide)
    have n6 : ¬ p1 = 6 := fun e => q1 (by rw [e]; decide)
    have n7 : ¬ p1 = 7 := fun e => q1 (by rw [e]; decide)
    have n8 : ¬ p1 = 8 := fun e => q1 (by rw [e]; decide)
    have n9 : ¬ p1 = 9 := fun e => q1 (by rw [e]; decide)
    have n10 : ¬ p1 = 10 := fun e => q1 (by rw [e]; decide)
    have n11 : ¬ p1 = 11 := fun e => q1 (by rw [e]; decide)
    have hg : p1.toInt < 0 ∨ 11 < p1.toInt := by
      rw [i_le, i_le] at q1
      have e1 : (0 : Int32).toInt = 0 := rfl
      have e2 : (11 : Int32).toInt = 11 := rfl
      omega
    rw [if_neg n0, if_neg n1, if_neg n2, if_neg n3, if_neg n4, if_neg n5, if_neg n6, if_neg n7, if_neg n8, if_neg n9, if_neg n10, if_neg n11, gd_pos hg]
    exact err1 h0 rfl rfl
theorem BR.wait {w : ZW} {σ : ZS} {b k : Nat} {f : Nat → Int32} {v : Int32} (h : BR w σ b f) (hk : k < 20) : BR w (sI σ (b + 18) k v) b (upd f (118 + k) v) := by
  obtain ⟨hn, hc, hS, hh, ht, hw, hx⟩ := h
  refine ⟨?_, ?_, ?_, ?_, ?_, ?_, hx.up (by omega)⟩
  · unfold bN at *
    rw [sI_r (by omega), upd_n (by omega), upd_n (by omega), upd_n (by omega), upd_n (by omega), upd_n (by omega), upd_n (by omega), upd_n (by omega), upd_n (by omega), upd_n (by omega)]
    exact hn
  · intro c hc'
    rw [upd_n (by omega), upd_n (by omega), upd_n (by omega), sI_r (by omega), sI_r (by omega), sI_r (by omega)]
    exact hc c hc'
  · intro c hc'
    rw [upd_n (by omega), upd_n (by omega), upd_n (by omega), sI_r (by omega), sI_r (by omega), sI_r (by omega)]
    exact hS c hc'
  · intro c hc'
    rw [upd_n (by omega), upd_n (by omega), upd_n (by omega), sI_2]
    exact hh c hc'
  · intro c hc'
    rw [upd_n (by omega), sI_r (by omega)]
    exact ht c hc'
  · intro c hc'
    by_cases e : c = k
    · subst e
      rw [upd_s, sI_s]
    · rw [upd_n (by omega), sI_n e]
      exact hw c hc'
theorem FI.wait {f : Nat → Int32} (h : FI f) {k : Nat} {v : Int32} (hk : k < 20) : FI (upd f (118 + k) v) :=
  h.up (by omega) (by omega) (by omega) (fun e => by omega) (fun e => by omega) (fun e => by omega) (fun e => by omega) (fun e => by omega) (fun s _ e => by omega) (fun s _ e => by omega) (fun s _ e => by omega)
theorem tell_act {w : ZW} {N : Nat} {σx σm : ZS} {p1 : Int32} (h : RR w N σx σm) : act w N σm (fX0_tell σx p1) (fX6_tell σm p1) := by
  have h0 := h
  obtain ⟨⟨f, hf⟩, hT⟩ := h
  have hI := hf.2.2.1
  obtain ⟨-, -, -, -, -, -, ⟨nw, w1, w2⟩, -⟩ := hf.2.2.1
  have e1 : σx.1 100 18 = on nw := by rw [← w1]; exact hf.1.1.2.2.2.2.2.2.2.2.symm
  have e2 : σm.1 1 8 = on nw := by rw [← w1]; exact hf.2.1 8 (by omega)
  unfold fX0_tell fX6_tell
  simp only [show (8 : Int32).toNatClampNeg = 8 from rfl, e1, e2]
  by_cases q1 : nw = 20
  · subst q1
    exact err4 h0 (by rw [if_pos (show (20 : Int32) ≤ on 20 by decide), nm_eq, nd0, bd_some, sc_inr]; exact bd_id) (by rw [if_pos (show on 20 = 20 by decide)]; exact bd_id)
  · rw [if_neg (show ¬ (20 : Int32) ≤ on nw by rw [show (20 : Int32) = on 20 from rfl, on_le (by omega) (by omega)]; omega), if_neg (show ¬ on nw = 20 by rw [show (20 : Int32) = on 20 from rfl, on_eq (by omega) (by omega)]; omega)]
    have e3 : (118 : Int32) + on nw = on (118 + nw) := on_add 118 nw
    simp only [nm_eq, nd1', bd_some, sc_inl, e1, e3]
    have ta : (on nw).toNatClampNeg = nw := tn_ofNat (by omega)
    have tb : (on (118 + nw)).toNatClampNeg = 118 + nw := tn_ofNat (by omega)
    rw [gd_pos (on_in (n := 20) (by omega) (by omega)), gd_pos (on_in (n := 242) (by omega) (by omega))]
    simp only [ta, tb]
    rw [show (sI σx (100 + 18) nw p1).1 100 18 = on nw by rw [sI_r (by omega)]; exact e1, show (sI σm 1 (118 + nw) p1).1 1 8 = on nw by rw [sI_n (by omega)]; exact e2, on_a1]
    have hx2 : BR w (sI (sI σx (100 + 18) nw p1) 100 18 (on (nw + 1))) 100 (upd (upd f (118 + nw) p1) 8 (on (nw + 1))) := (hf.1.wait (by omega)).numb (by omega)
    have hI2 : FI (upd (upd f (118 + nw) p1) 8 (on (nw + 1))) := (hI.wait (by omega)).waits (by omega)
    refine act_mk (r := on (nw + 1)) (by rw [sI_s]) (by rw [sI_s]) ⟨⟨_, hx2, (hf.2.1.st).st, hI2, cOK_congr (sBed.upd (by omega)) (cOK_congr (sBed.upd (by omega)) ((hf.2.2.2.st (by decide)).st (by decide)))⟩, ?_⟩ rfl
    exact hT.congr (by omega) (fun r hr => by rw [sI_r (by omega), sI_r (by omega)]) (fun r hr => rfl) rfl (fun r hr => by rw [sI_r (by omega), sI_r (by omega)])
theorem image_act {w : ZW} {N : Nat} {σx σm : ZS} (hN : N < 1000) (h : RR w N σx σm) : act w N σm (fX0_image σx) (fX6_image σm) := by
  obtain ⟨⟨f, hf⟩, ⟨-, ⟨n, n1, n2, n3⟩, t2, ⟨t, t3, t4, t5, t6⟩, t7, t8⟩⟩ := h
  obtain ⟨σ1, a1, a2, a3⟩ := become_ok (b := 200) hf.1 zB2 zB1 (by decide)
  obtain ⟨τ1, b1, b2, b3, b4⟩ := copy_ok (σ := σm) (q1 := 1) (q2 := 2) (by decide)
  unfold fX0_image fX6_image
  rw [a1, b1, bd_some, bd_some, nm_eq, nm_eq, a3.2.1 0 (by decide) (by decide) (by decide) (by decide) (by decide) (by decide) (by decide) (by decide) (by decide), b3 0 (by decide), n2, n3, on_a1]
  have hx1 : BR w σ1 100 f := hf.1.xb zB1 zB2 (by decide) a3
  have xr : ∀ r, r < 200 → σ1.1 r = σx.1 r := fun r hr => a3.2.1 r (by omega) (by omega) (by omega) (by omega) (by omega) (by omega) (by omega) (by omega) (by omega)
  refine act_mk (r := on (n + 1)) (σx' := sI σ1 0 4 (on (n + 1))) (σm' := sI τ1 0 3 (on (n + 1))) (by rw [sI_s]) (by rw [sI_s]) ⟨⟨f, hx1.congr (fun k hk => by rw [sI_r (by omega)]) (fun k hk => rfl) pk.rf, fun j hj => by rw [sI_r (by decide), b3 1 (by decide)]; exact hf.2.1 j hj, hf.2.2.1, fun c y hc hy => by rw [sI_r (by decide), b3 6 (by decide)]; exact hf.2.2.2 c y hc hy⟩, ⟨f, a2.congr (fun k hk => by rw [sI_r (by omega)]) (fun k hk => rfl) pk.rf, fun j hj => Or.inr (by rw [sI_r (by decide)]; exact b4 f hf.2.1 j hj), hf.2.2.1⟩, ⟨n + 1, by omega, by rw [sI_s], by rw [sI_s]⟩, fun k hk => by rw [sI_r (by decide), sI_r (by decide), xr 6 (by decide), b3 5 (by decide)]; exact t2 k hk, ⟨t, t3, by rw [sI_r (by decide), xr 4 (by decide)]; exact t4, by rw [sI_n (by decide), b3 0 (by decide)]; exact t5, fun k hk => by rw [sI_r (by decide), sI_r (by decide), xr 5 (by decide), b3 16 (by decide)]; exact t6 k hk⟩, t7.congr (by rw [sI_2]; exact a3.2.2 7 (by decide) (by decide)) (by rw [sI_2, a3.1]) (by rw [sI_r (by decide)]; exact b3 21 (by decide)) (by rw [sI_r (by decide)]; exact b3 22 (by decide)) (by rw [sI_r (by decide)]; exact b3 23 (by decide)), ?_⟩ (by rw [sI_2]; exact b2)
  intro a x
  rw [sI_2, a3.1]
  exact t8 a x
theorem restore_act {w : ZW} {N : Nat} {σx σm : ZS} (hN : N < 1000) (h : RR w N σx σm) : act w N σm (fX0_restore σx) (fX6_restore σm) := by
  have h0 := h
  obtain ⟨⟨f, hf⟩, hT⟩ := h
  obtain ⟨⟨g, g1, g2, g3⟩, ⟨n, n1, n2, n3⟩, -⟩ := hT
  unfold fX0_restore fX6_restore
  rw [n2, n3]
  by_cases q : n = 0
  · subst q
    exact err2 h0 (by rw [if_pos (show on 0 ≤ 0 by decide), nm_eq, nd0, bd_some, sc_inr]; exact bd_id) (by rw [if_pos (show on 0 = 0 by decide)]; exact bd_id)
  · rw [if_neg (show ¬ on n ≤ 0 by rw [show (0 : Int32) = on 0 from rfl, on_le (by omega) (by omega)]; omega), if_neg (show ¬ on n = 0 by rw [show (0 : Int32) = on 0 from rfl, on_eq (by omega) (by omega)]; omega), nm_eq, nd1', bd_some, sc_inl]
    obtain ⟨σ1, a1, a2, a3⟩ := become_ok (b := 100) g1 zB1 zB2 (by decide)
    obtain ⟨τ1, b1, b2, b3, b4⟩ := copy_ok (σ := σm) (q1 := 2) (q2 := 1) (by decide)
    obtain ⟨τ2, c1, c2, c3, c4⟩ := forget_ok (σ := τ1)
    have g2' : isRow σm 2 g := fun j hj => (g2 j hj).resolve_left (by rw [n3, show (0 : Int32) = on 0 from rfl, on_eq (by omega) (by omega)]; exact q)
    have hm2 : isRow τ2 1 g := fun j hj => by rw [c3 1 (by decide)]; exact b4 g g2' j hj
    rw [a1, bd_some, b1, bd_some, c1, bd_some]
    refine act_mk (r := g 0) (σx' := σ1) (σm' := τ2) (by rw [a2.1.1]) (by rw [← hm2 0 (by omega)]; rfl) ⟨⟨g, a2, hm2, g3, c4 g⟩, ?_⟩ (c2.trans b2)
    exact h0.2.congr (by omega) (fun r hr => a3.2.1 r (by omega) (by omega) (by omega) (by omega) (by omega) (by omega) (by omega) (by omega) (by omega)) (fun r hr => a3.2.2 r (by omega) (by omega)) a3.1 (fun r hr => by rw [c3 r (by omega), b3 r (by omega)])
