/-! the plain law, 40: the two readers: brackets; all levels -/
theorem open_lv {w : ZW} {a u n : Nat} {rx : Nat → ZS → Option ((Nat ⊕ Nat) × ZS)} {rm : Nat → ZS → Option (Unit × ZS)} {o : Nat} (h5 : o < 5 → RC w a u n rx rm 0 (o + 1)) {σ τ : ZS} {pos c : Nat} (h : PS w a u n σ τ pos o c) (m2 : fX16_isOne w σ a u (sets.getD u []) (sets.getD u []) = some 0) (n2 : fX16_isOne w σ a u (sets.getD u []) [33] = some 0) (o1 : ch σ n pos = 40) (o2 : fX16_isOne w σ a u (sets.getD u []) [40] = some 1) : PO w a u n σ τ pos o c (fX16_single rx w σ a u (sets.getD u [])) (fX6_one rm τ) := by
  have hb := h.2.2.2.2.2.2.2.1
  have hp := ch_lt o1 (by decide)
  have e10 : sI τ 0 10 0 = τ := sI_id h.2.2.2.1.symm
  by_cases q5 : o = 5
  · subst q5
    obtain ⟨σ1, t, f1, f2, f3, f4⟩ := opens_5 (bn := sets.getD u []) h
    have hm : fX6_one rm τ = some ((), sI τ 0 10 1) := by
      unfold fX6_one
      rw [h.here, bo_some, bd_u, o1, if_neg (show ¬ (40 : Int32) = 33 by decide), if_pos rfl, h.2.2.1, if_pos (show on 5 = 5 by decide), nm_eq, sI_s, if_neg (show ¬ (1 : Int32) = 0 by decide)]
    refine ⟨σ1, _, f2, KM.rf.st (by omega), hm, Or.inr ⟨t, ?_, ⟨pos, f3, by rw [sI_n (by decide)]; exact h.2.1⟩, sI_s, f4⟩⟩
    unfold fX16_single
    rw [h.rd, bo_some, m2, bo_some, if_pos rfl, n2, bo_some, if_pos rfl, o2, bo_some, if_neg (show ¬ (1 : Int32) = 0 by decide), f1, bd_some, sc_inr]
  · have ho : o < 5 := by omega
    obtain ⟨s1, s2⟩ := deeper h ho hp
    obtain ⟨σ2, τ2, k1, k2, k3, k4⟩ := h5 ho _ _ _ _ s1
    have no5 : ¬ on o = 5 := by rw [show (5 : Int32) = on 5 from rfl, on_eq (by omega) (by omega)]; exact q5
    have hm0 : fX6_one rm τ = bd (bd (fX6_takes τ2 41) (fun r_17 σ_19 => nm (if r_17 = 0 then 1 else 0) (fun (j_20 : Int32) => some ((), sI σ_19 0 10 j_20)))) (fun _ s => some ((), sI s 0 8 (s.1 0 8 - 1))) := by
      unfold fX6_one
      rw [h.here, bo_some, bd_u, o1, if_neg (show ¬ (40 : Int32) = 33 by decide), if_pos rfl, h.2.2.1, if_neg no5, nm_eq, e10, h.2.2.2.1, if_pos rfl, h.2.2.1, on_a1, nm_eq, sI_n (by decide), h.2.1, on_a1, nm_eq, if_neg (show ¬ (40 : Int32) = 33 by decide), k3, bd_some]
      rfl
    have hx0 : fX16_single rx w σ a u (sets.getD u []) = bd (rx 0 (sP σ a (.inr (15, [.ref (zsK w u), .ref (w.2.2 (100 + 16)), .int (on n), .int (on (pos + 1)), .int (on (o + 1))])))) (fun r_60 σ_62 => sc r_60 (fun (r_63 : Nat) => bo (oRd w u (σ_62.2.2.1 a)) (fun rd65 => bo (fX16_look w σ_62 a u (sets.getD u []) ) (fun r_70 => nm (if r_70 = 41 then 1 else 0) (fun (j_72 : Int32) => bd (fX16_fault w σ_62 a u (sets.getD u []) j_72) (fun r_73 σ_75 => sc r_73 (fun _ => bo (oRd w u (σ_75.2.2.1 a)) (fun rd78 => nm ((rd78.2.1) + 1) (fun (f_83 : Int32) => nm (sP σ_75 a (.inr (15, [.ref (zsK w u), .ref (w.2.2 (100 + 16)), .int (rd78.1), .int f_83, .int (rd78.2.2)]))) (fun (σ_84 : ZS) => nm ((rd78.2.2) - 1) (fun (f_86 : Int32) => nm (sP σ_84 a (.inr (15, [.ref (zsK w u), .ref (w.2.2 (100 + 16)), .int (rd78.1), .int f_83, .int f_86]))) (fun (σ_87 : ZS) => some (.inl r_63, σ_87))))))) (fun (t_77 : Nat) => some (.inr t_77, σ_75))))))) (fun (t_64 : Nat) => some (.inr t_64, σ_62))) := by
      unfold fX16_single
      rw [h.rd, bo_some, m2, bo_some, if_pos rfl, n2, bo_some, if_pos rfl, o2, bo_some, if_neg (show ¬ (1 : Int32) = 0 by decide), opens_ok h ho, bd_some, sc_inl, sP_s, oRd_of, bo_some]
    have hKM : KM τ τ2 := ((KM.rf.st (by omega)).st (by omega)).tr k2
    rcases k4 with ⟨r, pos', cs, x1, x2⟩ | ⟨t, x1, x2⟩
    · obtain ⟨y, y1, y2, y3, y4, y5, y6⟩ := x2
      have yb := y.2.2.2.2.2.2.2.1
      by_cases q : ch σ2 n pos' = 41
      · have hp' := ch_lt q (by decide)
        obtain ⟨z1, z2⟩ := y.rdr (pos' := pos' + 1) (o' := o) (c' := c + cs.length) (τ' := sI (sI (sI τ2 0 7 (on (pos' + 1))) 0 10 0) 0 8 (on o)) (by rw [sI_r (by decide), sI_r (by decide), sI_r (by decide)]) (by rw [sI_n (by decide), sI_n (by decide), sI_n (by decide)]) (by rw [sI_n (by decide), sI_n (by decide), sI_s]) sI_s (by rw [sI_n (by decide), sI_s]) (by rw [sI_n (by decide), sI_n (by decide), sI_n (by decide)]; exact y.2.2.2.2.1) ⟨by omega, by omega, by omega, by omega⟩
        have hm : fX6_one rm τ = some ((), sI (sI (sI τ2 0 7 (on (pos' + 1))) 0 10 0) 0 8 (on o)) := by
          rw [hm0, y.takes, if_pos q, bd_some, if_neg (show ¬ (1 : Int32) = 0 by decide), nm_eq, bd_some, sI_n (by decide), sI_n (by decide), y.2.2.1, on_s1]
        refine ⟨_, _, s2.tr (k1.tr z2), ((hKM.st (by omega)).st (by omega)).st (by omega), hm, Or.inl ⟨r, pos' + 1, cs, ?_, ?_⟩⟩
        · rw [hx0, x1, bd_some, sc_inl, y.rd, bo_some, y.look, bo_some, if_pos q, nm_eq, fault_1, bd_some, sc_inl, y.rd, bo_some]
          simp only [nm_eq, sPP, on_a1, on_s1]
        · refine ⟨z1, by omega, by omega, y3, ?_, ?_, ?_⟩
          · exact y4.mono (fun b ci vs hb hc => by
              have hba : b ≠ a := fun e => by rw [e, y.1] at hb; cases hb; omega
              rw [sP_n hba]
              exact hb)
          · intro j hj
            rw [sI_r (by decide), sI_r (by decide), sI_r (by decide), y5 j hj, sI_r (by decide), sI_r (by decide)]
          · intro j hj
            rw [sI_r (by decide), sI_r (by decide), sI_r (by decide)]
            exact y6 j hj
      · obtain ⟨σ3, t, f1, f2, f3, f4⟩ := fault_ok (bn := sets.getD u []) y
        have hm : fX6_one rm τ = some ((), sI (sI τ2 0 10 1) 0 8 (on o)) := by
          rw [hm0, y.takes, if_neg q, bd_some, if_pos rfl, nm_eq, bd_some, sI_n (by decide), y.2.2.1, on_s1]
        refine ⟨σ3, _, s2.tr (k1.tr f2), (hKM.st (by omega)).st (by omega), hm, Or.inr ⟨t, ?_, ⟨pos', f3, by rw [sI_n (by decide), sI_n (by decide)]; exact y.2.1⟩, by rw [sI_n (by decide), sI_s], f4⟩⟩
        rw [hx0, x1, bd_some, sc_inl, y.rd, bo_some, y.look, bo_some, if_neg q, nm_eq, f1, bd_some, sc_inr]
    · obtain ⟨⟨p, p1, p2⟩, p3, p4⟩ := x2
      have hm : fX6_one rm τ = some ((), sI (sI τ2 0 10 1) 0 8 (τ2.1 0 8 - 1)) := by
        rw [hm0, wrong_takes p3 (by decide), bd_some, if_pos rfl, nm_eq, bd_some, sI_n (by decide)]
      refine ⟨σ2, _, s2.tr k1, (hKM.st (by omega)).st (by omega), hm, Or.inr ⟨t, ?_, ⟨p, p1, by rw [sI_n (by decide), sI_n (by decide)]; exact p2⟩, by rw [sI_n (by decide), sI_s], p4⟩⟩
      rw [hx0, x1, bd_some, sc_inr]
theorem single_lv {w : ZW} {a u n : Nat} {rx : Nat → ZS → Option ((Nat ⊕ Nat) × ZS)} {rm : Nat → ZS → Option (Unit × ZS)} {o : Nat} (h0 : o < 5 → RC w a u n rx rm 0 (o + 1)) (h5 : o < 5 → RC w a u n rx rm 5 (o + 1)) {σ τ : ZS} {pos c : Nat} (h : PS w a u n σ τ pos o c) : PO w a u n σ τ pos o c (fX16_single rx w σ a u (sets.getD u [])) (fX6_one rm τ) := by
  have hb := h.2.2.2.2.2.2.2.1
  rcases h.isOne (i := u) (bn := sets.getD u []) (by omega) with ⟨m1, m2⟩ | ⟨m1, m2⟩
  · exact name_lv h m1 m2
  · rcases h.isOne (i := 2) (bn := sets.getD u []) (by omega) with ⟨n1, n2⟩ | ⟨n1, n2⟩
    · exact not_lv h5 h m2 (List.mem_singleton.mp n1) n2
    · rcases h.isOne (i := 3) (bn := sets.getD u []) (by omega) with ⟨o1, o2⟩ | ⟨o1, o2⟩
      · exact open_lv h0 h m2 n2 (List.mem_singleton.mp o1) o2
      · exact fig_lv h m1 m2 (fun e => n1 (List.mem_singleton.mpr e)) n2 (fun e => o1 (List.mem_singleton.mpr e)) o2
theorem P_ok {w : ZW} {a u n : Nat} : ∀ (d j o : Nat), j ≤ 5 → o ≤ 5 → (6 - j) + 6 * (5 - o) ≤ d → RC w a u n (fX16_P w a u (sets.getD u []) d) (fX6_P d) j o
  | 0, j, o, hj, ho, hd => by omega
  | d + 1, 0, o, hj, ho, hd => fun σ τ pos c h => either_lv (P_ok d 1 o (by omega) ho (by omega)) h
  | d + 1, 1, o, hj, ho, hd => fun σ τ pos c h => both_lv (P_ok d 2 o (by omega) ho (by omega)) h
  | d + 1, 2, o, hj, ho, hd => fun σ τ pos c h => relation_lv (P_ok d 3 o (by omega) ho (by omega)) h
  | d + 1, 3, o, hj, ho, hd => fun σ τ pos c h => sum_lv (P_ok d 4 o (by omega) ho (by omega)) h
  | d + 1, 4, o, hj, ho, hd => fun σ τ pos c h => product_lv (P_ok d 5 o (by omega) ho (by omega)) h
  | d + 1, 5, o, hj, ho, hd => fun σ τ pos c h => single_lv (fun h5 => P_ok d 0 (o + 1) (by omega) (by omega) (by omega)) (fun h5 => P_ok d 5 (o + 1) (by omega) (by omega) (by omega)) h
  | d + 1, j + 6, o, hj, ho, hd => by omega
