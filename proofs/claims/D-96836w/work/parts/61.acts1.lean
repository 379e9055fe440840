/-! the plain law, 12: acts on cells and numbers -/
theorem zB1 : zBay 100 := Or.inl rfl
theorem zB2 : zBay 200 := Or.inr (Or.inl rfl)
theorem zB3 : zBay 300 := Or.inr (Or.inr rfl)
theorem RR.q {w : ZW} {N b : Nat} {f : Nat → Int32} {σx σm σx' σm' : ZS} (h : RM w f σx σm) (hT : RT w N σx σm) (hb : zBay b) (hx : XS b σx σx') (hm : MS σm σm') (hc : cOK σm' f) : RR w (N + 1) σx' σm' := by
  refine ⟨⟨f, h.1.xs zB1 hb hx, h.2.1.ms hm, h.2.2.1, hc⟩, hT.congr (by omega) (fun r hr => hx.2 r (by unfold zBay at hb; omega)) (fun r hr => by rw [hx.1]) (by rw [hx.1]) (fun r hr => hm.2 r (by omega) (by omega) (by omega))⟩
/-- a number of the row is turned on both sides -/
theorem RT.st {w : ZW} {N : Nat} {σx σm σm' : ZS} (hT : RT w N σx σm) {r j : Nat} {v : Int32} (hr : 100 ≤ r ∧ r ≤ 118) (hm : ∀ r, r ≠ 1 → r ≠ 6 → σm'.1 r = σm.1 r) : RT w (N + 1) (sI σx r j v) σm' :=
  hT.congr (by omega) (fun q hq => sI_r (by omega)) (fun q hq => rfl) rfl (fun q hq => hm q (by omega) (by omega))
theorem turn_ok {σ : ZS} {f : Nat → Int32} {j : Nat} {v : Int32} (hr : isRow σ 1 f) (hj : j < 242) : fX6_turn σ (on j) v = some (f j, sI σ 1 j v) := by
  unfold fX6_turn
  rw [gd_pos (on_in hj (by decide)), tn_ofNat (by omega), hr j hj]
  rfl
theorem seed_act {w : ZW} {N : Nat} {σx σm : ZS} {v : Int32} (h : RR w N σx σm) : act w N σm (fX0_seed σx v) (fX6_seed σm v) := by
  obtain ⟨⟨f, hf⟩, hT⟩ := h
  unfold fX0_seed fX6_seed
  rw [show (6 : Int32) = on 6 from rfl, turn_ok hf.2.1 (by decide), ← hf.1.1.2.2.2.2.2.2.1]
  refine act_mk rfl rfl ⟨⟨upd f 6 v, hf.1.numb (by omega), hf.2.1.st, ?_, cOK_congr (sBed.upd (by omega)) (hf.2.2.2.st (by decide))⟩, hT.st (by omega) (fun r h1 _ => sI_r h1)⟩ rfl
  obtain ⟨⟨nc, c1, c2, c3, c4, c5⟩, ⟨ns, s1, s2⟩, y, bk, bm, ⟨nt, t1, t2⟩, ⟨nw, w1, w2⟩, sh, x0, x1⟩ := hf.2.2.1
  have bd := sBed.upd (f := f) (k := 6) (v := v) (by omega)
  refine ⟨⟨nc, ?_, c2, c3, ?_, ?_⟩, ⟨ns, ?_, s2⟩, ?_, ?_, ?_, ⟨nt, ?_, t2⟩, ⟨nw, ?_, w2⟩, ?_, txOk_congr bd x0, txOk_congr bd x1⟩
  all_goals (repeat rw [upd_n (by omega)])
  all_goals first | assumption | skip
  · intro s hs
    rw [upd_n (by omega)]
    exact c5 s hs
  · intro s hs
    rw [upd_n (by omega), upd_n (by omega)]
    exact sh s hs
theorem depth_act {w : ZW} {N : Nat} {σx σm : ZS} {p1 p2 : Int32} (h : RR w N σx σm) : act w N σm (fX0_depth σx p1 p2) (fX6_depth σm p1 p2) := by
  have h0 := h
  obtain ⟨⟨f, hf⟩, hT⟩ := h
  unfold fX0_depth fX6_depth
  rw [(hf.cells p1).1, (hf.cells p1).2, xi, wi]
  by_cases q1 : 0 ≤ p1 ∧ p1 ≤ f 1 - 1
  · rw [if_pos q1]
    by_cases q2 : -99 ≤ p2 ∧ p2 ≤ 999
    · rw [if_pos q2]
      obtain ⟨c, hc, rfl, -⟩ := hf.2.2.1.cell q1
      obtain ⟨σ1, a1, a2⟩ := xdep_ok (y := p2) hf.1 hc
      obtain ⟨σ2, b1, b2, b3⟩ := depthIn_ok (y := p2) hf.2.1 hf.2.2.1.2.2.2.2.2.2.2.2.1 hf.2.2.2 hc q2.2
      refine act_mk (σx' := σ1) (σm' := σ2) (r := dep f c p2) ?_ ?_ (RR.q hf hT zB1 a2 b2 b3) b2.1
      · simp [nm, nd1', bd, sc, a1]
      · simp [bd, b1]
    · rw [if_neg q2]
      exact act_err h0 (k := 1) (by decide) rfl rfl rfl rfl
  · rw [if_neg q1]
    exact act_err h0 (k := 1) (by decide) rfl rfl rfl rfl
theorem law_act {w : ZW} {N : Nat} {σx σm : ZS} {p1 p2 p3 p4 : Int32} (h : RR w N σx σm) : act w N σm (fX0_law σx p1 p2 p3 p4) (fX6_law σm p1 p2 p3 p4) := by
  have h0 := h
  obtain ⟨⟨f, hf⟩, hT⟩ := h
  unfold fX0_law fX6_law
  rw [xi, wi]
  by_cases q1 : 0 ≤ p1 ∧ p1 ≤ 1
  · rw [if_pos q1]
    have hk : ∀ {σ' : ZS}, σ'.1 6 = σm.1 6 → cOK σ' f := fun e c y hc hy => by rw [e]; exact hf.2.2.2 c y hc hy
    by_cases z : p1 = 0
    · subst z
      obtain ⟨σ1, a1, a2⟩ := depthBy_ok (x := p2) (y := p3) (z := p4) hf.1
      obtain ⟨σ2, b1, b2, b3⟩ := given_ok (u := 0) (a := p2) (b := p3) (c := p4) (by decide) hf.2.1 hf.2.2.1.2.2.2.2.2.2.2.2.1
      have b1 : fX6_given σm 0 p2 p3 p4 = _ := b1
      refine act_mk (σx' := σ1) (σm' := σ2) (r := giv f 0 p2 p3 p4) ?_ ?_ (RR.q hf hT zB1 a2 b2 (hk b3)) b2.1
      · simp [nd1', bd, sc, a1]
      · simp [bd, b1]
    · have z1 : p1 = 1 := by grind
      subst z1
      obtain ⟨σ1, a1, a2⟩ := elseBy_ok (x := p2) (y := p3) (z := p4) hf.1
      obtain ⟨σ2, b1, b2, b3⟩ := given_ok (u := 1) (a := p2) (b := p3) (c := p4) (by decide) hf.2.1 hf.2.2.1.2.2.2.2.2.2.2.2.2
      have b1 : fX6_given σm 1 p2 p3 p4 = _ := b1
      refine act_mk (σx' := σ1) (σm' := σ2) (r := giv f 1 p2 p3 p4) ?_ ?_ (RR.q hf hT zB1 a2 b2 (hk b3)) b2.1
      · simp [nd1', bd, sc, a1]
      · simp [bd, b1]
  · rw [if_neg q1]
    exact act_err h0 (k := 1) (by decide) rfl rfl rfl rfl
