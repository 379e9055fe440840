/-! the plain law, 42: text, both sides -/
/-- the reader made for a text -/
def rds (w : ZW) (σ : ZS) (u : Nat) (n : Int32) : ZS := sP (sN (sI σ 100 16 0) (.inr (15, [.null, .null, .int 0, .int 0, .int 0])) 5) σ.2.2.2.1 (.inr (15, [.ref (zsK w u), .ref (w.2.2 (100 + 16)), .int n, .int 0, .int 0]))
theorem xtext_ok {w : ZW} {σ : ZS} {u : Nat} {n : Int32} (hu : u < 2) (hn : σ.1 100 16 = n) (h1 : 100 ≤ σ.2.2.2.2.1) (h2 : 1000 ≤ σ.2.2.2.2.2) : fX0_text w σ (on u) = bd (fX16_read w (rds w σ u n) σ.2.2.2.1 u (sets.getD u [])) (fun r s => sc r (fun (r : Nat) => bo (oTm (s.2.2.1 r)) (fun _ => some (1, sG s (100 + 14) u (some r)))) (fun (t : Nat) => bo (oFt (s.2.2.1 t)) (fun v => some ((-10) - v, s)))) := by
  unfold fX0_text
  have hin : (0 ≤ on u ∧ on u ≤ 1) := ⟨on_ge (by omega), by rw [show (1 : Int32) = on 1 from rfl, on_le (by omega) (by omega)]; omega⟩
  have hq : (sN (sI σ 100 16 0) (.inr (15, [.null, .null, .int 0, .int 0, .int 0])) 5).2.2.1 σ.2.2.2.1 = some (.inr (15, [.null, .null, .int 0, .int 0, .int 0])) := sN_s (σ := sI σ 100 16 0)
  rw [xi, if_pos hin, nd1', bd_some, sc_inl, nm_eq, hn, gd_pos (show 1 ≤ (sI σ 100 16 0).2.2.2.2.1 by show 1 ≤ σ.2.2.2.2.1; omega), gd_pos (show 5 ≤ (sI σ 100 16 0).2.2.2.2.2 by show 5 ≤ σ.2.2.2.2.2; omega), nm_eq, nm_eq]
  rcases (show u = 0 ∨ u = 1 by omega) with rfl | rfl
  · rw [if_pos (show on 0 = 0 from rfl), show (sI σ 100 16 0).2.2.2.1 = σ.2.2.2.1 from rfl, init16_ok hq, bd_some, sP_s, oRd_of, bo_some, show (on 0).toNatClampNeg = 0 from rfl]
    simp only [gd_pos (show ¬ (on 0 < 0 ∨ 2 ≤ 0) by decide)]
    rfl
  · rw [if_neg (show ¬ on 1 = 0 by decide), show (sI σ 100 16 0).2.2.2.1 = σ.2.2.2.1 from rfl, init16_ok hq, bd_some, sP_s, oRd_of, bo_some, show (on 1).toNatClampNeg = 1 from rfl]
    simp only [gd_pos (show ¬ (on 1 < 0 ∨ 2 ≤ 1) by decide)]
    rfl
theorem oTm_of {P : Nat → Option va_E} {u d a : Nat} {cs : List Int32} (h : TA P u d a cs) : ∃ x, oTm (P a) = some x := by
  obtain ⟨ci, vs, h1, h2⟩ := h.cls
  rw [h1]
  refine ⟨(ci, vs), ?_⟩
  show (if ci = 7 ∨ ci = 16 ∨ ci = 18 ∨ ci = 19 then some (ci, vs) else none) = _
  rw [if_pos h2]
set_option maxHeartbeats 4000000 in
theorem text_act {w : ZW} {N : Nat} {σx σm : ZS} {p1 : Int32} (hB1 : 100 ≤ σx.2.2.2.2.1) (hB2 : 1000 ≤ σx.2.2.2.2.2) (h : RR w N σx σm) : act w N σm (fX0_text w σx p1) (fX6_text σm p1) := by
  have h0 := h
  obtain ⟨⟨f, hf⟩, hT⟩ := h
  have hI := hf.2.2.1
  by_cases q1 : 0 ≤ p1 ∧ p1 ≤ 1
  · obtain ⟨u, -, u2, rfl⟩ := on_rng (lo := 0) (hi := 1) (by omega) q1
    obtain ⟨-, -, -, -, -, ⟨n, w1, w2⟩, -⟩ := hf.2.2.1
    have e1 : σx.1 100 16 = on n := by rw [← w1]; exact hf.1.1.2.2.2.2.2.2.2.1.symm
    have e2 : σm.1 1 7 = on n := by rw [← w1]; exact hf.2.1 7 (by omega)
    have hw := hT.2.2.2.2.2
    have mono1 : ∀ b x, σx.2.2.1 b = some x → b ≠ σx.2.2.2.1 ∧ (rds w σx u (on n)).2.2.1 b = some x := by
      intro b x hb
      have l := hw b x hb
      refine ⟨by omega, ?_⟩
      unfold rds
      rw [sP_n (by omega), sN_n (show b ≠ (sI σx 100 16 0).2.2.2.1 by show b ≠ σx.2.2.2.1; omega)]
      exact hb
    have hPS : PS w σx.2.2.2.1 u n (rds w σx u (on n)) (sI (sI (sI (sI (sI σm 0 9 (on u)) 0 7 0) 0 8 0) 0 10 0) 0 12 0) 0 0 0 := by
      refine ⟨sP_s, ?_, ?_, ?_, sI_s, ?_, ?_, ⟨by omega, w2, by omega, by omega, by omega⟩, ?_, ?_, ?_, fun k hk => ?_⟩
      · rw [sI_n (by decide), sI_n (by decide), sI_n (by decide), sI_s]; rfl
      · rw [sI_n (by decide), sI_n (by decide), sI_s]; rfl
      · rw [sI_n (by decide), sI_s]
      · rw [sI_n (by decide), sI_n (by decide), sI_n (by decide), sI_n (by decide), sI_s]
      · rw [sI_r (by decide), sI_r (by decide), sI_r (by decide), sI_r (by decide), sI_r (by decide)]; exact e2
      · intro b x hb
        show b < σx.2.2.2.1 + 1
        by_cases e : b = σx.2.2.2.1
        · omega
        · unfold rds at hb
          rw [sP_n e, sN_n (show b ≠ (sI σx 100 16 0).2.2.2.1 from e)] at hb
          have := hw b x hb
          omega
      · show 60 + 0 ≤ σx.2.2.2.2.1 - 1 + 0
        omega
      · show 300 + 3 * 0 ≤ σx.2.2.2.2.2 - 5 + 3 * 0
        omega
      · have hbt := hf.1.2.2.2.2.1 k hk
        rw [sI_r (by decide), sI_r (by decide), sI_r (by decide), sI_r (by decide), sI_r (by decide), hf.2.1 (68 + k) (by omega), hbt.1]
        show σx.1 (100 + 16) k &&& 255 = (sI σx 100 16 0).1 116 k &&& 255 ∧ fits .byte (.int ((sI σx 100 16 0).1 116 k)) = true
        rw [sI_r (by decide)]
        exact ⟨rfl, hbt.2⟩
    obtain ⟨σ1, τ1, k1, k2, k3, k4, k5⟩ := read_ok hPS
    have xr : ∀ r, r ≠ 100 → σ1.1 r = σx.1 r := fun r hr => by
      rw [k1.1]
      show (sI σx 100 16 0).1 r = _
      rw [sI_r hr]
    have xg : σ1.2.1 = σx.2.1 := k1.2.1
    have mono : ∀ b x, σx.2.2.1 b = some x → σ1.2.2.1 b = some x := fun b x hb => k1.2.2.2 b x (mono1 b x hb).1 (mono1 b x hb).2
    have mr : ∀ r, r ≠ 0 → r ≠ 12 → τ1.1 r = σm.1 r := fun r h1 h2 => by rw [k2.2.1 r h1 h2, sI_r h1, sI_r h1, sI_r h1, sI_r h1, sI_r h1]
    have m0 : ∀ j, j ≠ 7 → j ≠ 8 → j ≠ 9 → j ≠ 10 → j ≠ 12 → τ1.1 0 j = σm.1 0 j := fun j h1 h2 h3 h4 h5 => by rw [k2.2.2 j h1 h2 h4 h5, sI_n h5, sI_n h4, sI_n h2, sI_n h1, sI_n h3]
    have m9 : τ1.1 0 9 = on u := by rw [k2.2.2 9 (by decide) (by decide) (by decide) (by decide), sI_n (by decide), sI_n (by decide), sI_n (by decide), sI_n (by decide), sI_s]
    have hBR1 : BR w σ1 100 (upd f 7 0) := by
      have a1 : BR w (sI σx 100 16 0) 100 (upd f 7 0) := hf.1.numb (by omega)
      exact a1.congr (fun k hk => by rw [k1.1]; rfl) (fun k hk => by rw [xg]; rfl) (fun a ci vs hx _ _ _ _ => mono _ _ hx)
    have hRT : ∀ (σ2 τ2 : ZS), σ2.1 = σ1.1 → (∀ r, r ≠ 114 → σ2.2.1 r = σ1.2.1 r) → σ2.2.2 = σ1.2.2 → (∀ r, r = 2 ∨ r = 5 ∨ r = 16 ∨ r = 21 ∨ r = 22 ∨ r = 23 → τ2.1 r = τ1.1 r) → τ2.1 0 3 = τ1.1 0 3 → τ2.1 0 16 = τ1.1 0 16 → RT w (N + 1) σ2 τ2 := by
      intro σ2 τ2 c1 c2 c3 c4 c5 c6
      have hT0 := hT
      obtain ⟨⟨g, g1, g2, g3⟩, ⟨m, n1, n2, n3⟩, e, ⟨t, t1, t2, t3, t4⟩, s, p⟩ := hT0
      have hTm : RT w (N + 1) σ2 σm := hT.more (fun r hr => by rw [c1, xr r (by omega)]) (fun r hr => by rw [c2 r (by omega), xg]) (fun b y hb => by rw [c3]; exact mono b y hb) (by intro a x hx; rw [c3] at hx ⊢; exact k4 a x hx) (fun r _ => rfl)
      obtain ⟨⟨g', g1', g2', g3'⟩, ⟨m', n1', n2', n3'⟩, e', ⟨t', t1', t2', t3', t4'⟩, s', p'⟩ := hTm
      exact ⟨⟨g', g1', fun j hj => by rw [c4 2 (by omega), mr 2 (by decide) (by decide), c5, m0 3 (by decide) (by decide) (by decide) (by decide) (by decide)]; exact g2' j hj, g3'⟩, ⟨m', n1', n2', by rw [c5, m0 3 (by decide) (by decide) (by decide) (by decide) (by decide)]; exact n3'⟩, fun k hk => by rw [c4 5 (by omega), mr 5 (by decide) (by decide)]; exact e' k hk, ⟨t', t1', t2', by rw [c6, m0 16 (by decide) (by decide) (by decide) (by decide) (by decide)]; exact t3', fun k hk => by rw [c4 16 (by omega), mr 16 (by decide) (by decide)]; exact t4' k hk⟩, s'.congr rfl rfl (by rw [c4 21 (by omega), mr 21 (by decide) (by decide)]) (by rw [c4 22 (by omega), mr 22 (by decide) (by decide)]) (by rw [c4 23 (by omega), mr 23 (by decide) (by decide)]), p'⟩
    have hcOK : cOK τ1 f := fun c y hc hy => by rw [mr 6 (by decide) (by decide)]; exact hf.2.2.2 c y hc hy
    have hrow : isRow τ1 1 f := fun j hj => by rw [mr 1 (by decide) (by decide)]; exact hf.2.1 j hj
    have t17 : τ1.1 1 7 = on n := by rw [mr 1 (by decide) (by decide)]; exact e2
    have hm0 : ∀ j5, (if τ1.1 0 10 = 0 then (if on n ≤ τ1.1 0 7 then (0 : Int32) else 1) else 1) = j5 → fX6_text σm (on u) = (if j5 = 0 then (gd (¬ ((138 + (52 * on u)) < 0 ∨ 242 ≤ (138 + (52 * on u)).toNatClampNeg)) (bd (fX6_text_L120 (on u) 10000 0 (sI (sI (sI τ1 0 10 j5) 1 7 0) 1 ((138 + (52 * on u)).toNatClampNeg) (τ1.1 0 12))) (fun x2_14 σ_15 => bd (fX6_forgetDepths σ_15) (fun _ σ_19 => some (1, σ_19))))) else (some ((-10) - (τ1.1 0 7), sI (sI τ1 0 10 j5) 1 7 0))) := by
      intro j5 hj
      unfold fX6_text
      rw [wi, if_pos q1, if_neg (show ¬ (1 : Int32) = 0 by decide), k3, bd_some, show τ1.1 1 (7 : Int32).toNatClampNeg = on n from t17, hj, nm_eq, show (7 : Int32).toNatClampNeg = 7 from rfl]
      have r10 : (sI (sI τ1 0 10 j5) 1 7 0).1 0 10 = j5 := by rw [sI_r (by decide), sI_s]
      have r12 : (sI (sI τ1 0 10 j5) 1 7 0).1 0 12 = τ1.1 0 12 := by rw [sI_r (by decide), sI_n (by decide)]
      have r9 : (sI (sI τ1 0 10 j5) 1 7 0).1 0 9 = on u := by rw [sI_r (by decide), sI_n (by decide)]; exact m9
      have r7 : (sI (sI τ1 0 10 j5) 1 7 0).1 0 7 = τ1.1 0 7 := by rw [sI_r (by decide), sI_n (by decide)]
      rw [r10, r12, r9, r7, nm_eq]
    rw [xtext_ok (by omega) e1 hB1 hB2]
    rcases k5 with ⟨r, cs, x1, x2, x3, x4, x5, x6, x7, x8⟩ | ⟨t, pos, x1, x2, x3, x4⟩
    · have e138 : (138 : Int32) + 52 * on u = on (138 + 52 * u) := by
        rw [show (52 : Int32) = on 52 from rfl, show on 52 * on u = on (52 * u) from (Int32.ofNat_mul 52 u).symm, show (138 : Int32) = on 138 from rfl, on_add]
      rw [hm0 0 (by rw [x2, if_pos rfl, x3, if_pos (Int32.le_refl _)]), if_pos rfl, e138, gd_pos (on_in (n := 242) (by omega) (by omega)), tn_ofNat (show 138 + 52 * u < 2147483648 by omega), x4]
      obtain ⟨τ2, a1, a2, a3, a4, a5⟩ := text_L (u := u) (L := cs.length) (y1 := on u) (by omega) x6 cs.length 0 10000 (sI (sI (sI τ1 0 10 0) 1 7 0) 1 (138 + 52 * u) (on cs.length)) (by omega) (by omega) (by rw [sI_r (by decide), sI_r (by decide), sI_n (by decide)]; exact x4) (by rw [sI_r (by decide), sI_r (by decide), sI_n (by decide)]; exact m9)
      obtain ⟨τ3, b1, b2, b3, b4⟩ := forget_ok (σ := τ2)
      obtain ⟨tm, ht⟩ := oTm_of x7
      rw [show fX6_text_L120 (on u) 10000 0 (sI (sI (sI τ1 0 10 0) 1 7 0) 1 (138 + 52 * u) (on cs.length)) = _ from a1, bd_some, b1, bd_some, x1, bd_some, sc_inl, ht, bo_some]
      have tr : ∀ r, r ≠ 0 → r ≠ 1 → r ≠ 6 → τ3.1 r = τ1.1 r := fun r h0 h1 h6 => by rw [b3 r h6, a3 r h1, sI_r h1, sI_r h1, sI_r h0]
      have t0 : ∀ j, j ≠ 10 → τ3.1 0 j = τ1.1 0 j := fun j hj => by rw [b3 0 (by decide), a3 0 (by decide), sI_r (by decide), sI_r (by decide), sI_n hj]
      have hrow3 : isRow τ3 1 (tg (upd f 7 0) u cs) := by
        intro j hj
        rw [b3 1 (by decide)]
        unfold tg
        by_cases z1 : 139 + 52 * u ≤ j ∧ j < 139 + 52 * u + cs.length
        · rw [if_pos z1]
          obtain ⟨i, rfl⟩ : ∃ i, j = 139 + 52 * u + i := ⟨j - (139 + 52 * u), by omega⟩
          rw [a4 i (by omega) (by omega), sI_r (by decide), sI_r (by decide), sI_r (by decide), x8 i (by omega), show 139 + 52 * u + i - (139 + 52 * u) = i by omega]
        · rw [if_neg z1, a5 j z1]
          by_cases z2 : j = 138 + 52 * u
          · subst z2
            rw [sI_s, if_pos rfl]
          · rw [sI_n z2, if_neg z2]
            by_cases z3 : j = 7
            · subst z3
              rw [sI_s, upd_s]
            · rw [sI_n z3, sI_r (by decide), upd_n z3]
              exact hrow j hj
      refine act_mk rfl rfl ⟨⟨tg (upd f 7 0) u cs, hBR1.tg (by omega) x5 x6 x7, hrow3, FI.tg (hI.nbyte (k := 0) (by omega)) (by omega) x5 x6 x7, b4 _⟩, ?_⟩ (by rw [b2, a2]; exact k2.1)
      exact hRT _ _ rfl (fun r hr => sG_r hr) rfl (fun r hr => tr r (by omega) (by omega) (by omega)) (t0 3 (by decide)) (t0 16 (by decide))
    · have hj : (if τ1.1 0 10 = 0 then (if on n ≤ τ1.1 0 7 then (0 : Int32) else 1) else 1) = 1 := by
        rcases x4 with x4 | ⟨x4, x5⟩
        · rw [x4, if_neg (show ¬ (1 : Int32) = 0 by decide)]
        · rw [x4, if_pos rfl, x3, if_neg (show ¬ on n ≤ on pos by rw [on_le (by omega) (by omega)]; omega)]
      rw [hm0 1 hj, if_neg (show ¬ (1 : Int32) = 0 by decide), x1, bd_some, sc_inr, x2, bo_some, x3]
      refine act_mk rfl rfl ⟨⟨upd f 7 0, hBR1, ?_, hI.nbyte (k := 0) (by omega), ?_⟩, ?_⟩ k2.1
      · have : isRow (sI τ1 0 10 1) 1 f := fun j hj => by rw [sI_r (by decide)]; exact hrow j hj
        exact this.st
      · exact cOK_congr (sBed.upd (by omega)) (fun c y hc hy => by rw [sI_r (by decide), sI_r (by decide)]; exact hcOK c y hc hy)
      · exact hRT _ _ rfl (fun r hr => rfl) rfl (fun r hr => by rw [sI_r (by omega), sI_r (by omega)]) (by rw [sI_r (by decide), sI_n (by decide)]) (by rw [sI_r (by decide), sI_n (by decide)])
  · unfold fX0_text fX6_text
    rw [xi, wi, if_neg q1, nd0, bd_some, sc_inr, if_pos rfl]
    exact err1 h0 bd_id bd_id
