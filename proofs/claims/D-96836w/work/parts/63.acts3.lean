/-! the plain law, 14: more acts -/
theorem bd_id {α : Type} {x : Option (α × ZS)} : bd x (fun r s => some (r, s)) = x := by
  cases x with
  | none => rfl
  | some y => rfl
theorem bo_id {α : Type} {x : Option α} : bo x (fun r => some r) = x := by
  cases x with
  | none => rfl
  | some y => rfl
theorem err1 {w : ZW} {N : Nat} {σx σm : ZS} {x m : Option (Int32 × ZS)} (h : RR w N σx σm) (hx : x = fX0_finds (sI σx 1 6 1)) (hm : m = fX6_finding σm (-1000000001)) : act w N σm x m := act_err h (k := 1) (by decide) rfl rfl (by rw [bd_id]; exact hx) (by rw [bd_id]; exact hm)
theorem err2 {w : ZW} {N : Nat} {σx σm : ZS} {x m : Option (Int32 × ZS)} (h : RR w N σx σm) (hx : x = fX0_finds (sI σx 1 6 2)) (hm : m = fX6_finding σm (-1000000002)) : act w N σm x m := act_err h (k := 2) (by decide) rfl rfl (by rw [bd_id]; exact hx) (by rw [bd_id]; exact hm)
theorem err3 {w : ZW} {N : Nat} {σx σm : ZS} {x m : Option (Int32 × ZS)} (h : RR w N σx σm) (hx : x = fX0_finds (sI σx 1 6 3)) (hm : m = fX6_finding σm (-1000000003)) : act w N σm x m := act_err h (k := 3) (by decide) rfl rfl (by rw [bd_id]; exact hx) (by rw [bd_id]; exact hm)
theorem err4 {w : ZW} {N : Nat} {σx σm : ZS} {x m : Option (Int32 × ZS)} (h : RR w N σx σm) (hx : x = fX0_finds (sI σx 1 6 4)) (hm : m = fX6_finding σm (-1000000004)) : act w N σm x m := act_err h (k := 4) (by decide) rfl rfl (by rw [bd_id]; exact hx) (by rw [bd_id]; exact hm)
theorem err5 {w : ZW} {N : Nat} {σx σm : ZS} {x m : Option (Int32 × ZS)} (h : RR w N σx σm) (hx : x = fX0_finds (sI σx 1 6 5)) (hm : m = fX6_finding σm (-1000000005)) : act w N σm x m := act_err h (k := 5) (by decide) rfl rfl (by rw [bd_id]; exact hx) (by rw [bd_id]; exact hm)
theorem numb_one {w : ZW} {N i j : Nat} {f : Nat → Int32} {σx σm : ZS} {v : Int32} (hf : RM w f σx σm) (hT : RT w N σx σm) (hij : (i = 0 ∧ j = 7) ∨ (i = 3 ∧ j = 4) ∨ (i = 4 ∧ j = 5) ∨ (i = 5 ∧ j = 6) ∨ (i = 6 ∧ j = 14) ∨ (i = 7 ∧ j = 16) ∨ (i = 8 ∧ j = 18)) (hI : FI (upd f i v)) : fX6_turn σm (on i) v = some (f i, sI σm 1 i v) ∧ RR w (N + 1) (sI σx 100 j v) (sI σm 1 i v) := by
  refine ⟨turn_ok hf.2.1 (by omega), ⟨upd f i v, hf.1.numb (by omega), hf.2.1.st, hI, cOK_congr (sBed.upd (by omega)) (hf.2.2.2.st (by decide))⟩, hT.st (by omega) (fun r h1 _ => sI_r h1)⟩
theorem sI_id {σ : ZS} {r j : Nat} {v : Int32} (h : v = σ.1 r j) : sI σ r j v = σ := by
  obtain ⟨X, G⟩ := σ
  unfold sI
  congr 1
  funext a b
  simp only at h ⊢
  split
  · rename_i e
    split
    · rename_i e2
      rw [h, e, e2]
    · rfl
  · rfl
theorem shl1 : ∀ n, n ≤ 8 → ((1 : Int32) <<< (on n &&& 31)) - 1 = on (2 ^ n - 1) := by
  intro n hn
  rcases (show n = 0 ∨ n = 1 ∨ n = 2 ∨ n = 3 ∨ n = 4 ∨ n = 5 ∨ n = 6 ∨ n = 7 ∨ n = 8 by omega) with rfl | rfl | rfl | rfl | rfl | rfl | rfl | rfl | rfl <;> decide
set_option maxHeartbeats 1000000 in
theorem set_act {w : ZW} {N : Nat} {σx σm : ZS} {p1 p2 : Int32} (h : RR w N σx σm) : act w N σm (fX0_set σx p1 p2) (fX6_set σm p1 p2) := by
  have h0 := h
  obtain ⟨⟨f, hf⟩, hT⟩ := h
  have hI := hf.2.2.1
  have e4 : σx.1 100 4 = f 3 := hf.1.1.2.2.2.1.symm
  have e5 : σx.1 100 5 = f 4 := hf.1.1.2.2.2.2.1.symm
  have e6 : σx.1 100 6 = f 5 := hf.1.1.2.2.2.2.2.1.symm
  by_cases q0 : 0 ≤ p1 ∧ p1 ≤ 2
  · rcases three q0 with rfl | rfl | rfl
    · by_cases q : 0 ≤ p2 ∧ p2 ≤ 999
      · obtain ⟨a1, a2⟩ := numb_one (i := 3) (j := 4) (v := p2) hf hT (by omega) (hI.up (by omega) (by omega) (by omega) (fun _ => q) (by intros; omega) (by intros; omega) (by intros; omega) (by intros; omega) (by intros; omega) (by intros; omega) (by intros; omega))
        refine act_mk (r := f 3) ?_ ?_ a2 rfl
        · simp [fX0_set, fX0_isOfBay, xi, nm_eq, bo_some, bo_id, q, gd, nd1', bd_some, bd_id, sc_inl, sc_inr, e4]
          rw [sI_id (v := (sI σx 100 4 p2).1 100 5) rfl, sI_id rfl]
        · simp [fX6_set, fX6_isYear, wi, nm_eq, q, bd_some, bd_id]
          rw [show (3 : Int32) = on 3 from rfl, a1]
      · refine err1 h0 ?_ ?_
        · simp [fX0_set, fX0_isOfBay, xi, nm_eq, bo_some, bo_id, q, gd, nd0, bd_some, bd_id, sc_inl, sc_inr]
        · simp [fX6_set, fX6_isYear, wi, nm_eq, q, bd_some, bd_id]
    · by_cases q : 0 ≤ p2 ∧ p2 ≤ 99
      · obtain ⟨a1, a2⟩ := numb_one (i := 4) (j := 5) (v := p2) hf hT (by omega) (hI.up (by omega) (by omega) (by omega) (by intros; omega) (fun _ => q) (by intros; omega) (by intros; omega) (by intros; omega) (by intros; omega) (by intros; omega) (by intros; omega))
        refine act_mk (r := f 4) ?_ ?_ a2 rfl
        · simp [fX0_set, fX0_isOfBay, xi, nm_eq, bo_some, bo_id, q, gd, nd1', bd_some, bd_id, sc_inl, sc_inr, e5]
          rw [sI_id (σ := σx) rfl, sI_id rfl]
        · simp [fX6_set, fX6_isYear, wi, nm_eq, q, bd_some, bd_id]
          rw [show (4 : Int32) = on 4 from rfl, a1]
      · refine err1 h0 ?_ ?_
        · simp [fX0_set, fX0_isOfBay, xi, nm_eq, bo_some, bo_id, q, gd, nd0, bd_some, bd_id, sc_inl, sc_inr]
        · simp [fX6_set, fX6_isYear, wi, nm_eq, q, bd_some, bd_id]
    · obtain ⟨nc, c1, c2, c3, -⟩ := hI.1
      have ex : fX0_areCells σx p2 = if 0 ≤ p2 ∧ p2 ≤ on (2 ^ nc - 1) then 1 else 0 := by
        unfold fX0_areCells
        rw [xi, ← hf.1.1.2.1, c1, shl1 nc c3]
      have em : fX6_within p2 0 ((1 <<< ((σm.1 1 (1 : Int32).toNatClampNeg) &&& 31)) - 1) = if 0 ≤ p2 ∧ p2 ≤ on (2 ^ nc - 1) then 1 else 0 := by
        rw [wi, show σm.1 1 (1 : Int32).toNatClampNeg = f 1 from hf.2.1 1 (by omega), c1, shl1 nc c3]
      by_cases q : 0 ≤ p2 ∧ p2 ≤ on (2 ^ nc - 1)
      · obtain ⟨a1, a2⟩ := numb_one (i := 5) (j := 6) (v := p2) hf hT (by omega) (hI.up (by omega) (by omega) (by omega) (by intros; omega) (by intros; omega) (fun _ => ⟨q.1, fun n hn h8 => by rw [c1] at hn; rw [← (on_eq (by omega) (by omega)).mp hn]; exact q.2⟩) (by intros; omega) (by intros; omega) (by intros; omega) (by intros; omega) (by intros; omega))
        rw [if_pos q] at ex em
        refine act_mk (r := f 5) ?_ ?_ a2 rfl
        · simp [fX0_set, fX0_isOfBay, xi, nm_eq, bo_some, bo_id, ex, gd, nd1', bd_some, bd_id, sc_inl, sc_inr, e6]
          rw [sI_id (σ := σx) rfl, sI_id rfl]
        · simp only [fX6_set, em, nm_eq]
          simp [bd_some, bd_id]
          rw [show (5 : Int32) = on 5 from rfl, a1]
      · rw [if_neg q] at ex em
        refine err1 h0 ?_ ?_
        · simp [fX0_set, fX0_isOfBay, xi, nm_eq, bo_some, bo_id, ex, gd, nd0, bd_some, bd_id, sc_inl, sc_inr]
        · simp only [fX6_set, em, nm_eq]
          simp [bd_some, bd_id]
  · refine err1 h0 ?_ ?_
    · simp [fX0_set, xi, nm_eq, bo_some, bo_id, q0, nd0, bd_some, bd_id, sc_inl, sc_inr]
    · have z0 : ¬ p1 = 0 := by grind
      have z1 : ¬ p1 = 1 := by grind
      have z2 : ¬ p1 = 2 := by grind
      simp [fX6_set, z0, z1, z2, nm_eq, bd_some, bd_id]
theorem ship_one {w : ZW} {N s k : Nat} {f : Nat → Int32} {σx σm : ZS} {v : Int32} (hf : RM w f σx σm) (hT : RT w N σx σm) (hs : s < 7) (hk : k < 3) (hI : FI (upd f (35 + k + 5 * s) v)) : fX6_turn σm (on (35 + k + 5 * s)) v = some (f (35 + k + 5 * s), sI σm 1 (35 + k + 5 * s) v) ∧ RR w (N + 1) (sI σx (100 + (11 + k)) s v) (sI σm 1 (35 + k + 5 * s) v) := by
  refine ⟨turn_ok hf.2.1 (by omega), ⟨upd f (35 + k + 5 * s) v, hf.1.ship hs hk, hf.2.1.st, hI, cOK_congr (sBed.upd (by omega)) (hf.2.2.2.st (by decide))⟩, hT.st (by omega) (fun r h1 _ => sI_r h1)⟩
set_option maxHeartbeats 1000000 in
theorem change_act {w : ZW} {N : Nat} {σx σm : ZS} {p1 p2 p3 : Int32} (h : RR w N σx σm) : act w N σm (fX0_change σx p1 p2 p3) (fX6_change σm p1 p2 p3) := by
  have h0 := h
  obtain ⟨⟨f, hf⟩, hT⟩ := h
  have hI := hf.2.2.1
  by_cases q1 : 0 ≤ p1 ∧ p1 ≤ f 2 - 1
  · obtain ⟨s, hs, rfl, hl⟩ := hI.ship q1
    have sx := (hf.ships (on s)).1
    have sm := (hf.ships (on s)).2
    rw [if_pos q1] at sx sm
    obtain ⟨i0, i1, i2, i3, i4⟩ := shipAt_on s hs
    obtain ⟨b1, b2, b3⟩ := hf.1.2.2.1 s hs
    have hin := on_in hs (show 7 < 2147483648 by decide)
    have htn := tn_ofNat (k := s) (by omega)
    by_cases q2 : 0 ≤ p2 ∧ p2 ≤ 2
    · rcases three q2 with rfl | rfl | rfl
      · by_cases q : 0 ≤ p3 ∧ p3 ≤ 9
        · obtain ⟨a1, a2⟩ := ship_one (k := 0) (v := p3) hf hT hs (by decide) (hI.up (by omega) (by omega) (by omega) (by intros; omega) (by intros; omega) (by intros; omega) (by intros; omega) (by intros; omega) (by intros; omega) (by intros; omega) (by intros; omega))
          refine act_mk (r := f (35 + 5 * s)) ?_ ?_ a2 rfl
          · simp [fX0_change, sx, fX0_isOfShip, xi, nm_eq, bo_some, bo_id, q, gd, nd1', bd_some, bd_id, sc_inl, sc_inr]
            rw [htn]
            exact ⟨⟨on_ge (by omega), hs⟩, b1.symm, rfl⟩
          · simp [fX6_change, sm, fX6_isDigit, wi, nm_eq, q, bd_some, bd_id]
            rw [i2, a1]
        · refine err1 h0 ?_ ?_
          · simp [fX0_change, sx, fX0_isOfShip, xi, nm_eq, bo_some, bo_id, q, gd, nd0, bd_some, bd_id, sc_inl, sc_inr]
          · simp [fX6_change, sm, fX6_isDigit, wi, nm_eq, q, bd_some, bd_id]
      · have cx := (hf.cells p3).1
        have cm := (hf.cells p3).2
        by_cases q : 0 ≤ p3 ∧ p3 ≤ f 1 - 1
        · rw [if_pos q] at cx cm
          obtain ⟨c, hc, e, hcc⟩ := hI.cell q
          obtain ⟨a1, a2⟩ := ship_one (k := 1) (v := p3) hf hT hs (by decide) (hI.up (by omega) (by omega) (by omega) (by intros; omega) (by intros; omega) (by intros; omega) (by intros; omega) (by intros; omega) (fun t ht ht2 hl nc c1 c8 => ⟨c, hcc nc c1 c8, e⟩) (by intros; omega) (by intros; omega))
          refine act_mk (r := f (36 + 5 * s)) ?_ ?_ a2 rfl
          · simp [fX0_change, sx, fX0_isOfShip, xi, cx, nm_eq, bo_some, bo_id, gd, nd1', bd_some, bd_id, sc_inl, sc_inr]
            rw [htn]
            exact ⟨⟨on_ge (by omega), hs⟩, b2.symm, rfl⟩
          · simp [fX6_change, sm, cm, nm_eq, bd_some, bd_id]
            rw [i3, a1]
        · rw [if_neg q] at cx cm
          refine err1 h0 ?_ ?_
          · simp [fX0_change, sx, fX0_isOfShip, xi, cx, nm_eq, bo_some, bo_id, gd, nd0, bd_some, bd_id, sc_inl, sc_inr]
          · simp [fX6_change, sm, cm, nm_eq, bd_some, bd_id]
      · by_cases q : 0 ≤ p3 ∧ p3 ≤ 1
        · obtain ⟨a1, a2⟩ := ship_one (k := 2) (v := p3) hf hT hs (by decide) (hI.up (by omega) (by omega) (by omega) (by intros; omega) (by intros; omega) (by intros; omega) (by intros; omega) (by intros; omega) (by intros; omega) (fun t ht ht2 => by grind) (by intros; omega))
          refine act_mk (r := f (37 + 5 * s)) ?_ ?_ a2 rfl
          · simp [fX0_change, sx, fX0_isOfShip, xi, nm_eq, bo_some, bo_id, q, gd, nd1', bd_some, bd_id, sc_inl, sc_inr]
            rw [htn]
            exact ⟨⟨on_ge (by omega), hs⟩, b3.symm, rfl⟩
          · simp [fX6_change, sm, wi, nm_eq, q, bd_some, bd_id]
            rw [i4, a1]
        · refine err1 h0 ?_ ?_
          · simp [fX0_change, sx, fX0_isOfShip, xi, nm_eq, bo_some, bo_id, q, gd, nd0, bd_some, bd_id, sc_inl, sc_inr]
          · simp [fX6_change, sm, wi, nm_eq, q, bd_some, bd_id]
    · refine err1 h0 ?_ ?_
      · simp [fX0_change, sx, xi, nm_eq, bo_some, bo_id, q2, nd0, bd_some, bd_id, sc_inl, sc_inr]
      · have z0 : ¬ p2 = 0 := by grind
        have z1 : ¬ p2 = 1 := by grind
        have z2 : ¬ p2 = 2 := by grind
        simp [fX6_change, sm, z0, z1, z2, nm_eq, bd_some, bd_id]
  · have sx := (hf.ships p1).1
    have sm := (hf.ships p1).2
    rw [if_neg q1] at sx sm
    refine err1 h0 ?_ ?_
    · simp [fX0_change, sx, nm_eq, bo_some, bo_id, nd0, bd_some, bd_id, sc_inl, sc_inr]
    · simp [fX6_change, sm, nm_eq, bd_some, bd_id]
