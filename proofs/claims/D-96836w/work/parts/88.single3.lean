/-! the plain law, 39: the two readers: figures, not, brackets -/
theorem fig_lv {w : ZW} {a u n : Nat} {rx : Nat → ZS → Option ((Nat ⊕ Nat) × ZS)} {rm : Nat → ZS → Option (Unit × ZS)} {o : Nat} {σ τ : ZS} {pos c : Nat} (h : PS w a u n σ τ pos o c) (m1 : ¬ ch σ n pos ∈ sets.getD u []) (m2 : fX16_isOne w σ a u (sets.getD u []) (sets.getD u []) = some 0) (n1 : ¬ ch σ n pos = 33) (n2 : fX16_isOne w σ a u (sets.getD u []) [33] = some 0) (o1 : ¬ ch σ n pos = 40) (o2 : fX16_isOne w σ a u (sets.getD u []) [40] = some 0) : PO w a u n σ τ pos o c (fX16_single rx w σ a u (sets.getD u [])) (fX6_one rm τ) := by
  have hb := h.2.2.2.2.2.2.2.1
  have hb1 := h.2.2.2.2.2.2.2.2.2.1
  have hb2 := h.2.2.2.2.2.2.2.2.2.2.1
  by_cases q : 48 ≤ ch σ n pos ∧ ch σ n pos ≤ 57
  · obtain ⟨σ1, τ1, pos', V, z, z', a1, a2, a3, a4, a5, a6, a7, a8, a9, a10⟩ := fig_L (rx := rx) (rm := rm) (bn := sets.getD u []) (y := ch σ n pos) 4 0 10000 10000 0 σ τ pos (by omega) (by omega) (by omega) (by decide) h
    have hpos := a10 q (by omega)
    have hS2 : PS w a u n σ1 (sI (sI τ1 12 c (on V)) 0 12 (on (c + 1))) pos' o (c + 1) := a5.mk rfl a5.1 (by rw [sI_r (by decide), sI_r (by decide)]) (by rw [sI_n (by decide), sI_r (by decide)]) (by rw [sI_n (by decide), sI_r (by decide)]; exact a5.2.1) (by rw [sI_n (by decide), sI_r (by decide)]; exact a5.2.2.1) (by rw [sI_n (by decide), sI_r (by decide)]; exact a5.2.2.2.1) sI_s ⟨a5.2.2.2.2.2.2.2.1.1, by omega, by omega⟩ a5.2.2.2.2.2.2.2.2.1 a5.2.2.2.2.2.2.2.2.2.1 a5.2.2.2.2.2.2.2.2.2.2.1
    obtain ⟨t1, t2, t3, t4, t5, t6⟩ := hS2.mk1 (p := pos) (x0 := .inr (19, [.int 0])) (x := .inr (19, [.int (on V)])) hpos (by rw [a9]; exact hb1) (by rw [a9]; exact hb2)
    have hm : fX6_one rm τ = some ((), sI (sI τ1 12 c (on V)) 0 12 (on (c + 1))) := by
      unfold fX6_one
      rw [h.here, bo_some, bd_u, if_neg n1, if_neg o1, wi, if_pos q, if_neg (show ¬ (1 : Int32) = 0 by decide), show fX6_one_L131 rm (ch σ n pos) 10000 0 0 τ = _ from a2, bd_some, a5.codes, bd_some]
    refine ⟨_, _, a3.tr t2, a4.tr ((KM.rf.st12).st (by omega)), hm, Or.inl ⟨σ1.2.2.2.1, pos', [on V], ?_, PG.one t1 hpos ?_ ?_ ?_⟩⟩
    · unfold fX16_single
      rw [h.rd, bo_some, m2, bo_some, if_pos rfl, n2, bo_some, if_pos rfl, o2, bo_some, if_pos rfl, h.look, bo_some, xi, if_pos q, fault_1, bd_some, sc_inl, show fX16_single_L154 rx w a u (sets.getD u []) 10000 0 0 σ = _ from a1, bd_some, gd_pos (show 1 ≤ σ1.2.2.2.2.1 by rw [a9]; omega), gd_pos (show 1 ≤ σ1.2.2.2.2.2 by rw [a9]; omega), nm_eq, nm_eq, (init1_ok (r := 0)).2.2 t4, bd_some]
    · exact Or.inl ⟨on V, t3, on_ge (by omega), by rw [show (10000 : Int32) = on 10000 from rfl, on_lt (by omega) (by omega)]; exact a7, rfl⟩
    · intro j hj
      rw [sI_r (by decide), sI_n (by omega), a8]
    · rw [sI_r (by decide), sI_s]
  · obtain ⟨σ1, t, f1, f2, f3, f4⟩ := fault_ok (bn := sets.getD u []) h
    have hm : fX6_one rm τ = some ((), sI τ 0 10 1) := by
      unfold fX6_one
      rw [h.here, bo_some, bd_u, if_neg n1, if_neg o1, wi, if_neg q, if_pos rfl]
      rcases ch_rng (σ := σ) (n := n) (pos := pos) with ⟨hp, v, hv, e⟩ | ⟨-, e⟩
      · rw [e] at m1 ⊢
        rw [if_pos (on_ge (by omega)), nameOf_ok h.2.2.2.2.2.1 (by omega) hv, bo_some, bo_some, (bn_mem u (by omega) v hv).2 m1, h.2.2.2.1, if_pos rfl, if_neg (show ¬ (0 : Int32) ≤ -1 by decide), nm_eq, sI_s, if_neg (show ¬ (1 : Int32) = 0 by decide)]
      · rw [e, if_neg (show ¬ (0 : Int32) ≤ -1 by decide), bo_some, h.2.2.2.1, if_pos rfl, if_neg (show ¬ (0 : Int32) ≤ -1 by decide), nm_eq, sI_s, if_neg (show ¬ (1 : Int32) = 0 by decide)]
    refine ⟨σ1, _, f2, KM.rf.st (by omega), hm, Or.inr ⟨t, ?_, ⟨pos, f3, by rw [sI_n (by decide)]; exact h.2.1⟩, sI_s, f4⟩⟩
    unfold fX16_single
    rw [h.rd, bo_some, m2, bo_some, if_pos rfl, n2, bo_some, if_pos rfl, o2, bo_some, if_pos rfl, h.look, bo_some, xi, if_neg q, f1, bd_some, sc_inr]
/-- what opens: both sides a step deeper -/
theorem deeper {w : ZW} {a u n o : Nat} {σ τ : ZS} {pos c : Nat} (h : PS w a u n σ τ pos o c) (ho : o < 5) (hp : pos < n) : PS w a u n (sP σ a (.inr (15, [.ref (zsK w u), .ref (w.2.2 (100 + 16)), .int (on n), .int (on (pos + 1)), .int (on (o + 1))]))) (sI (sI τ 0 8 (on (o + 1))) 0 7 (on (pos + 1))) (pos + 1) (o + 1) c ∧ KP a σ (sP σ a (.inr (15, [.ref (zsK w u), .ref (w.2.2 (100 + 16)), .int (on n), .int (on (pos + 1)), .int (on (o + 1))]))) := by
  have hb := h.2.2.2.2.2.2.2.1
  exact h.rdr (by rw [sI_r (by decide), sI_r (by decide)]) (by rw [sI_n (by decide), sI_n (by decide)]) sI_s (by rw [sI_n (by decide), sI_s]) (by rw [sI_n (by decide), sI_n (by decide)]; exact h.2.2.2.1) (by rw [sI_n (by decide), sI_n (by decide)]; exact h.2.2.2.2.1) ⟨by omega, by omega, by omega, by omega⟩
theorem not_lv {w : ZW} {a u n : Nat} {rx : Nat → ZS → Option ((Nat ⊕ Nat) × ZS)} {rm : Nat → ZS → Option (Unit × ZS)} {o : Nat} (h5 : o < 5 → RC w a u n rx rm 5 (o + 1)) {σ τ : ZS} {pos c : Nat} (h : PS w a u n σ τ pos o c) (m2 : fX16_isOne w σ a u (sets.getD u []) (sets.getD u []) = some 0) (n1 : ch σ n pos = 33) (n2 : fX16_isOne w σ a u (sets.getD u []) [33] = some 1) : PO w a u n σ τ pos o c (fX16_single rx w σ a u (sets.getD u [])) (fX6_one rm τ) := by
  have hb := h.2.2.2.2.2.2.2.1
  have hb1 := h.2.2.2.2.2.2.2.2.2.1
  have hb2 := h.2.2.2.2.2.2.2.2.2.2.1
  have hp := ch_lt n1 (by decide)
  have e10 : sI τ 0 10 0 = τ := sI_id h.2.2.2.1.symm
  by_cases q5 : o = 5
  · subst q5
    obtain ⟨σ1, t, f1, f2, f3, f4⟩ := opens_5 (bn := sets.getD u []) h
    have hm : fX6_one rm τ = some ((), sI τ 0 10 1) := by
      unfold fX6_one
      rw [h.here, bo_some, bd_u, n1, if_pos rfl, h.2.2.1, if_pos (show on 5 = 5 by decide), nm_eq, sI_s, if_neg (show ¬ (1 : Int32) = 0 by decide)]
    refine ⟨σ1, _, f2, KM.rf.st (by omega), hm, Or.inr ⟨t, ?_, ⟨pos, f3, by rw [sI_n (by decide)]; exact h.2.1⟩, sI_s, f4⟩⟩
    unfold fX16_single
    rw [h.rd, bo_some, m2, bo_some, if_pos rfl, n2, bo_some, if_neg (show ¬ (1 : Int32) = 0 by decide), f1, bd_some, sc_inr]
  · have ho : o < 5 := by omega
    obtain ⟨s1, s2⟩ := deeper h ho hp
    obtain ⟨σ2, τ2, k1, k2, k3, k4⟩ := h5 ho _ _ _ _ s1
    have no5 : ¬ on o = 5 := by rw [show (5 : Int32) = on 5 from rfl, on_eq (by omega) (by omega)]; exact q5
    have hm0 : fX6_one rm τ = bd (fX6_codes τ2 20010) (fun _ s => some ((), sI s 0 8 (s.1 0 8 - 1))) := by
      unfold fX6_one
      rw [h.here, bo_some, bd_u, n1, if_pos rfl, h.2.2.1, if_neg no5, nm_eq, e10, h.2.2.2.1, if_pos rfl, h.2.2.1, on_a1, nm_eq, sI_n (by decide), h.2.1, on_a1, nm_eq, if_pos rfl, k3, bd_some, bd_u]
      rfl
    have hx0 : fX16_single rx w σ a u (sets.getD u []) = bd (rx 5 (sP σ a (.inr (15, [.ref (zsK w u), .ref (w.2.2 (100 + 16)), .int (on n), .int (on (pos + 1)), .int (on (o + 1))])))) (fun r_100 σ_102 => sc r_100 (fun (r_103 : Nat) => bo (oRd w u (σ_102.2.2.1 a)) (fun rd105 => nm ((rd105.2.2) - 1) (fun (f_110 : Int32) => nm (sP σ_102 a (.inr (15, [.ref (zsK w u), .ref (w.2.2 (100 + 16)), .int (rd105.1), .int (rd105.2.1), .int f_110]))) (fun (σ_111 : ZS) => gd (1 ≤ σ_111.2.2.2.2.1) (gd (1 ≤ σ_111.2.2.2.2.2) (nm (σ_111.2.2.2.1) (fun (a_116 : Nat) => nm (sN σ_111 (.inr (18, [.null])) 1) (fun (σ_115 : ZS) => bd (fX19_init σ_115 a_116 r_103) (fun _ σ_120 => some (.inl a_116, σ_120)))))))))) (fun (t_104 : Nat) => some (.inr t_104, σ_102))) := by
      unfold fX16_single
      rw [h.rd, bo_some, m2, bo_some, if_pos rfl, n2, bo_some, if_neg (show ¬ (1 : Int32) = 0 by decide), opens_ok h ho, bd_some, sc_inl, sP_s, oRd_of, bo_some]
    have hKM : KM τ τ2 := ((KM.rf.st (by omega)).st (by omega)).tr k2
    rcases k4 with ⟨r, pos', cs, x1, x2⟩ | ⟨t, x1, x2⟩
    · obtain ⟨y, y1, y2, y3, y4, y5, y6⟩ := x2
      have yb := y.2.2.2.2.2.2.2.1
      have yb1 := y.2.2.2.2.2.2.2.2.2.1
      have yb2 := y.2.2.2.2.2.2.2.2.2.2.1
      have yw := y.2.2.2.2.2.2.2.2.1
      obtain ⟨z1, z2⟩ := y.rdr (pos' := pos') (o' := o) (c' := c + cs.length + 1) (τ' := sI (sI (sI τ2 12 (c + cs.length) 20010) 0 12 (on (c + cs.length + 1))) 0 8 (on o)) (by rw [sI_r (by decide), sI_r (by decide), sI_r (by decide)]) (by rw [sI_n (by decide), sI_n (by decide), sI_r (by decide)]) (by rw [sI_n (by decide), sI_n (by decide), sI_r (by decide)]; exact y.2.1) sI_s (by rw [sI_n (by decide), sI_n (by decide), sI_r (by decide)]; exact y.2.2.2.1) (by rw [sI_n (by decide), sI_s]) ⟨by omega, by omega, by omega, by omega⟩
      obtain ⟨t1, t2, t3, t4, t5, t6⟩ := z1.mk1 (p := pos' - 1) (x0 := .inr (18, [.null])) (x := .inr (18, [.ref r])) (by omega) (by show 60 + o ≤ σ2.2.2.2.2.1 + (pos' - 1); omega) (by show 300 + 3 * o ≤ σ2.2.2.2.2.2 + 3 * (pos' - 1); omega)
      have hm : fX6_one rm τ = some ((), sI (sI (sI τ2 12 (c + cs.length) 20010) 0 12 (on (c + cs.length + 1))) 0 8 (on o)) := by
        rw [hm0, y.codes, bd_some, sI_n (by decide), sI_r (by decide), y.2.2.1, on_s1]
      have hlen : (cs ++ [(20010 : Int32)]).length = cs.length + 1 := by rw [List.length_append]; rfl
      refine ⟨_, _, s2.tr (k1.tr (z2.tr t2)), ((hKM.st12).st (by omega)).st (by omega), hm, Or.inl ⟨σ2.2.2.2.1, pos', cs ++ [20010], ?_, ?_⟩⟩
      · rw [hx0, x1, bd_some, sc_inl, y.rd, bo_some]
        simp only [nm_eq, on_s1]
        rw [gd_pos, gd_pos, (init1_ok (v := 0)).2.1 t4, bd_some]
        · rfl
        · show 1 ≤ σ2.2.2.2.2.2
          omega
        · show 1 ≤ σ2.2.2.2.2.1
          omega
      · unfold PG
        rw [hlen]
        refine ⟨t1, by omega, by omega, by omega, ?_, ?_, ?_⟩
        · refine Or.inr (Or.inr (Or.inl ⟨r, cs, t3, ?_, rfl⟩))
          exact y4.mono (fun b ci vs hb hc => by
            have l := yw _ _ hb
            have hba : b ≠ a := fun e => by rw [e, y.1] at hb; cases hb; omega
            rw [t6 b (show b ≠ σ2.2.2.2.1 by omega), sP_n hba]
            exact hb)
        · intro j hj
          rw [sI_r (by decide), sI_r (by decide), sI_n (by omega), y5 j hj, sI_r (by decide), sI_r (by decide)]
        · intro j hj
          rw [sI_r (by decide), sI_r (by decide)]
          by_cases e : j = cs.length
          · subst e
            rw [sI_s]
            have := getD_r (l := cs) (m := [20010]) (j := 0)
            rw [Nat.add_zero] at this
            rw [this]
            rfl
          · rw [sI_n (by omega), getD_l (by omega)]
            exact y6 j (by omega)
    · obtain ⟨⟨p, p1, p2⟩, p3, p4⟩ := x2
      have hm : fX6_one rm τ = some ((), sI τ2 0 8 (τ2.1 0 8 - 1)) := by
        rw [hm0, wrong_codes p3, bd_some]
      refine ⟨σ2, _, s2.tr k1, hKM.st (by omega), hm, Or.inr ⟨t, ?_, ⟨p, p1, by rw [sI_n (by decide)]; exact p2⟩, by rw [sI_n (by decide)]; exact p3, p4⟩⟩
      rw [hx0, x1, bd_some, sc_inr]
