/-! the plain law, 33: voice -/
/-- the two traces agree; the rest is as it was -/
def VV (σ0 τ0 σ τ : ZS) : Prop := (∃ t : Nat, t ≤ 40 ∧ σ.1 4 1 = on t ∧ τ.1 0 16 = on t ∧ ∀ k, k < t → σ.1 5 k = τ.1 16 k) ∧ σ.2 = σ0.2 ∧ (∀ r, r ≠ 4 → r ≠ 5 → σ.1 r = σ0.1 r) ∧ τ.2 = τ0.2 ∧ (∀ r, r ≠ 0 → r ≠ 16 → τ.1 r = τ0.1 r) ∧ ∀ j, j ≠ 16 → τ.1 0 j = τ0.1 0 j
theorem ran_ok {σ0 τ0 σ τ : ZS} (h : VV σ0 τ0 σ τ) (p : Int32) : ∃ σ' τ', fX4_begins σ p = some ((), σ') ∧ fX6_ran τ p = some ((), τ') ∧ VV σ0 τ0 σ' τ' := by
  have h0 := h
  obtain ⟨⟨t, t1, t2, t3, t4⟩, a1, a2, a3, a4, a5⟩ := h
  unfold fX4_begins fX6_ran
  rw [t2, t3]
  by_cases q : t = 40
  · subst q
    rw [if_pos (show (40 : Int32) ≤ on 40 by decide), if_pos (show (40 : Int32) ≤ on 40 by decide)]
    exact ⟨σ, τ, rfl, rfl, h0⟩
  · have q' : ¬ (40 : Int32) ≤ on t := by rw [show (40 : Int32) = on 40 from rfl, on_le (by omega) (by omega)]; omega
    rw [if_neg q', if_neg q', gd_pos (on_in (n := 40) (by omega) (by omega)), gd_pos (on_in (n := 40) (by omega) (by omega)), tn_ofNat (show t < 2147483648 by omega), nm_eq, nm_eq, show (sI σ 5 t p).1 4 1 = on t by rw [sI_r (by decide)]; exact t2, show (sI τ 16 t p).1 0 16 = on t by rw [sI_r (by decide)]; exact t3, on_a1, bd_some, bd_some]
    refine ⟨_, _, rfl, rfl, ⟨t + 1, by omega, sI_s, sI_s, fun k hk => ?_⟩, a1, fun r h1 h2 => by rw [sI_r h1, sI_r h2]; exact a2 r h1 h2, a3, fun r h1 h2 => by rw [sI_r h1, sI_r h2]; exact a4 r h1 h2, fun j hj => by rw [sI_n hj, sI_r (by decide)]; exact a5 j hj⟩
    rw [sI_r (show 5 ≠ 4 by decide), sI_r (show 16 ≠ 0 by decide)]
    by_cases e : k = t
    · subst e
      rw [sI_s, sI_s]
    · rw [sI_n e, sI_n e]
      exact t4 k (by omega)
/-- both sides answer alike, and the traces still agree -/
def vo (σ0 τ0 : ZS) (x m : Option (Int32 × ZS)) : Prop := ∃ r σ' τ', x = some (r, σ') ∧ m = some (r, τ') ∧ VV σ0 τ0 σ' τ'
/-- the ship that speaks -/
def spk (w : ZW) (σ0 τ0 : ZS) (a k : Nat) (n m : Int32) : Prop := k < 7 ∧ σ0.2.2.1 a = some (.inr (8 + k, [.ref (w.2.2 4), .int n, .int m])) ∧ τ0.1 0 17 = on k ∧ τ0.1 0 18 = n ∧ τ0.1 0 19 = m ∧ oShip w (σ0.2.2.1 a) = some (8 + k, n, m)
theorem spk.sh {w : ZW} {σ0 τ0 σ τ : ZS} {a k : Nat} {n m : Int32} (h : spk w σ0 τ0 a k n m) (hv : VV σ0 τ0 σ τ) : oShip w (σ.2.2.1 a) = some (8 + k, n, m) ∧ τ.1 0 17 = on k ∧ τ.1 0 18 = n ∧ τ.1 0 19 = m := by
  obtain ⟨-, -, h3, h4, h5, h6⟩ := h
  obtain ⟨-, a1, -, -, -, a5⟩ := hv
  refine ⟨by rw [a1]; exact h6, by rw [a5 17 (by decide)]; exact h3, by rw [a5 18 (by decide)]; exact h4, by rw [a5 19 (by decide)]; exact h5⟩
theorem sails9_ok {w : ZW} {σ0 τ0 σ τ : ZS} {a k : Nat} {n m p : Int32} (h : spk w σ0 τ0 a k n m) (hv : VV σ0 τ0 σ τ) : ∃ σ' τ', fX9_sails w σ a (8 + k) n m p = some (p + n, σ') ∧ fX6_ran τ 10 = some ((), τ') ∧ VV σ0 τ0 σ' τ' := by
  obtain ⟨σ1, τ1, a1, a2, a3⟩ := ran_ok hv 10
  refine ⟨σ1, τ1, ?_, a2, a3⟩
  unfold fX9_sails
  rw [a1, bd_some, gd_pos (h.sh a3).1]
theorem sounds9_ok {w : ZW} {σ0 τ0 σ τ : ZS} {a k : Nat} {n m p : Int32} (h : spk w σ0 τ0 a k n m) (hv : VV σ0 τ0 σ τ) : ∃ σ' τ', fX9_sounds w σ a (8 + k) n m p = some (p - m, σ') ∧ fX6_ran τ 12 = some ((), τ') ∧ VV σ0 τ0 σ' τ' := by
  obtain ⟨σ1, τ1, a1, a2, a3⟩ := ran_ok hv 12
  refine ⟨σ1, τ1, ?_, a2, a3⟩
  unfold fX9_sounds
  rw [a1, bd_some, gd_pos (h.sh a3).1]
theorem msails_0 {τ : ZS} {p : Int32} {τ' : ZS} {n : Int32} {k : Nat} (h1 : τ.1 0 17 = on k) (hk : fX6_isUnder τ (on k) 1 = some 0) (h2 : fX6_ran τ 10 = some ((), τ')) (h3 : τ'.1 0 18 = n) : fX6_sailsOf τ p = some (p + n, τ') := by
  unfold fX6_sailsOf
  rw [h1, hk, bo_some, if_pos rfl, bd_some, h2, bd_some, if_pos rfl, nm_eq, h3]
theorem msails_1 {τ : ZS} {p : Int32} {τ1 τ' : ZS} {n : Int32} {k : Nat} (h1 : τ.1 0 17 = on k) (hk : fX6_isUnder τ (on k) 1 = some 1) (h0 : fX6_ran τ 20 = some ((), τ1)) (h2 : fX6_ran τ1 10 = some ((), τ')) (h3 : τ'.1 0 18 = n) : fX6_sailsOf τ p = some ((p + n) * 3, τ') := by
  unfold fX6_sailsOf
  rw [h1, hk, bo_some, if_neg (by decide), h0, bd_some, bd_some, h2, bd_some, if_neg (by decide), nm_eq, h3]
theorem sails10_ok {w : ZW} {σ0 τ0 σ τ : ZS} {a k : Nat} {n m p : Int32} (h : spk w σ0 τ0 a k n m) (hv : VV σ0 τ0 σ τ) : ∃ σ' τ1 τ', fX10_sails w σ a (8 + k) n m p = some ((p + n) * 3, σ') ∧ fX6_ran τ 20 = some ((), τ1) ∧ fX6_ran τ1 10 = some ((), τ') ∧ VV σ0 τ0 σ' τ' := by
  obtain ⟨σ1, τ1, a1, a2, a3⟩ := ran_ok hv 20
  obtain ⟨σ2, τ2, b1, b2, b3⟩ := sails9_ok (p := p) h a3
  refine ⟨σ2, τ1, τ2, ?_, a2, b2, b3⟩
  unfold fX10_sails
  rw [a1, bd_some, gd_pos (h.sh a3).1, b1, bd_some]
theorem vsails_ok {w : ZW} {σ0 τ0 σ τ : ZS} {a k : Nat} {n m p : Int32} (h : spk w σ0 τ0 a k n m) (hv : VV σ0 τ0 σ τ) : vo σ0 τ0 (fS_Ship_sails w σ a (8 + k) n m p) (fX6_sailsOf τ p) := by
  have h17 := (h.sh hv).2.1
  by_cases q : k = 1 ∨ k = 4
  · obtain ⟨σ1, τ1, τ2, a1, a2, a3, a4⟩ := sails10_ok (p := p) h hv
    refine ⟨_, σ1, τ2, ?_, msails_1 h17 ?_ a2 a3 (h.sh a4).2.2.1, a4⟩
    · rcases q with rfl | rfl <;> exact a1
    · rcases q with rfl | rfl <;> rfl
  · obtain ⟨σ1, τ1, a1, a2, a3⟩ := sails9_ok (p := p) h hv
    have hk := h.1
    refine ⟨_, σ1, τ1, ?_, msails_0 h17 ?_ a2 (h.sh a3).2.2.1, a3⟩
    · rcases (show k = 0 ∨ k = 2 ∨ k = 3 ∨ k = 5 ∨ k = 6 by omega) with rfl | rfl | rfl | rfl | rfl <;> exact a1
    · rcases (show k = 0 ∨ k = 2 ∨ k = 3 ∨ k = 5 ∨ k = 6 by omega) with rfl | rfl | rfl | rfl | rfl <;> rfl
theorem vsounds_ok {w : ZW} {σ0 τ0 σ τ : ZS} {a k : Nat} {n m p : Int32} (h : spk w σ0 τ0 a k n m) (hv : VV σ0 τ0 σ τ) : vo σ0 τ0 (fS_Ship_sounds w σ a (8 + k) n m p) (fX6_soundsOf τ p) := by
  have h17 := (h.sh hv).2.1
  have hk := h.1
  by_cases q6 : k = 6
  · subst q6
    obtain ⟨σ1, τ1, a1, a2, a3⟩ := ran_ok hv 70
    obtain ⟨σ2, τ2, b1, b2, b3⟩ := ran_ok a3 40
    obtain ⟨σ3, τ3, c1, c2, c3⟩ := sounds9_ok (p := p) h b3
    refine ⟨-(p - m) ^^^ n, σ3, τ3, ?_, ?_, c3⟩
    · show fX15_sounds w σ a 14 n m p = _
      unfold fX15_sounds fX12_sounds
      rw [a1, bd_some, gd_pos (h.sh a3).1, b1, bd_some, gd_pos (h.sh b3).1, show fX9_sounds w σ2 a 14 n m p = _ from c1, bd_some, bd_some, gd_pos (h.sh c3).1]
    · unfold fX6_soundsOf
      rw [h17, if_pos (show on 6 = 6 by decide), a2, bd_some, bd_some, (h.sh a3).2.1, show fX6_isUnder τ1 (on 6) 3 = some 1 from rfl, bo_some, if_neg (show ¬ (1 : Int32) = 0 by decide), b2, bd_some, bd_some, c2, bd_some, if_neg (show ¬ (1 : Int32) = 0 by decide), (h.sh c3).2.1, nm_eq, if_pos (show on 6 = 6 by decide), nm_eq, (h.sh c3).2.2.1, (h.sh c3).2.2.2]
  · have n6 : ¬ on k = 6 := by rw [show (6 : Int32) = on 6 from rfl, on_eq (by omega) (by omega)]; exact q6
    by_cases q3 : k = 3
    · subst q3
      obtain ⟨σ2, τ2, b1, b2, b3⟩ := ran_ok hv 40
      obtain ⟨σ3, τ3, c1, c2, c3⟩ := sounds9_ok (p := p) h b3
      refine ⟨-(p - m), σ3, τ3, ?_, ?_, c3⟩
      · show fX12_sounds w σ a 11 n m p = _
        unfold fX12_sounds
        rw [b1, bd_some, gd_pos (h.sh b3).1, show fX9_sounds w σ2 a 11 n m p = _ from c1, bd_some]
      · unfold fX6_soundsOf
        rw [h17, if_neg n6, bd_some, h17, show fX6_isUnder τ (on 3) 3 = some 1 from rfl, bo_some, if_neg (show ¬ (1 : Int32) = 0 by decide), b2, bd_some, bd_some, c2, bd_some, if_neg (show ¬ (1 : Int32) = 0 by decide), (h.sh c3).2.1, nm_eq, if_neg n6, nm_eq, (h.sh c3).2.2.2]
    · obtain ⟨σ3, τ3, c1, c2, c3⟩ := sounds9_ok (p := p) h hv
      refine ⟨p - m, σ3, τ3, ?_, ?_, c3⟩
      · rcases (show k = 0 ∨ k = 1 ∨ k = 2 ∨ k = 4 ∨ k = 5 by omega) with rfl | rfl | rfl | rfl | rfl <;> exact c1
      · have hu : fX6_isUnder τ (on k) 3 = some 0 := by
          rcases (show k = 0 ∨ k = 1 ∨ k = 2 ∨ k = 4 ∨ k = 5 by omega) with rfl | rfl | rfl | rfl | rfl <;> rfl
        unfold fX6_soundsOf
        rw [h17, if_neg n6, bd_some, h17, hu, bo_some, if_pos rfl, bd_some, c2, bd_some, if_pos rfl, (h.sh c3).2.1, nm_eq, if_neg n6, nm_eq, (h.sh c3).2.2.2]
/-- the plain helm: 11, then the sails -/
theorem steers9_ok {w : ZW} {σ0 τ0 σ τ : ZS} {a k : Nat} {n m p : Int32} (h : spk w σ0 τ0 a k n m) (hv : VV σ0 τ0 σ τ) : ∃ r σ' τ1 τ', fX9_steers w σ a (8 + k) n m p = some (r * 2, σ') ∧ fX6_ran τ 11 = some ((), τ1) ∧ fX6_sailsOf τ1 p = some (r, τ') ∧ VV σ0 τ0 σ' τ' := by
  obtain ⟨σ1, τ1, a1, a2, a3⟩ := ran_ok hv 11
  obtain ⟨r, σ2, τ2, b1, b2, b3⟩ := vsails_ok (p := p) h a3
  refine ⟨r, σ2, τ1, τ2, ?_, a2, b2, b3⟩
  unfold fX9_steers
  rw [a1, bd_some, gd_pos (h.sh a3).1, b1, bd_some]
/-- the rower's helm -/
theorem steers11_ok {w : ZW} {σ0 τ0 σ τ : ZS} {a k : Nat} {n m p : Int32} (h : spk w σ0 τ0 a k n m) (hk : k = 2 ∨ k = 5) (hv : VV σ0 τ0 σ τ) : ∃ r q σ' τ1 τ2 τ3 τ', fX11_steers w σ a (8 + k) n m p = some (r * 2 - q, σ') ∧ fX6_ran τ 30 = some ((), τ1) ∧ fX6_ran τ1 11 = some ((), τ2) ∧ fX6_sailsOf τ2 p = some (r, τ3) ∧ fX6_soundsOf τ3 1 = some (q, τ') ∧ VV σ0 τ0 σ' τ' := by
  obtain ⟨σ1, τ1, a1, a2, a3⟩ := ran_ok hv 30
  obtain ⟨r, σ2, τ2, τ3, b1, b2, b3, b4⟩ := steers9_ok (p := p) h a3
  obtain ⟨q, σ3, τ4, c1, c2, c3⟩ := vsounds_ok (p := 1) h b4
  refine ⟨r, q, σ3, τ1, τ2, τ3, τ4, ?_, a2, b2, b3, c2, c3⟩
  unfold fX11_steers
  rw [a1, bd_some, gd_pos (h.sh a3).1, b1, bd_some, gd_pos (h.sh b4).1]
  have : fS_Rower_sounds w σ2 a (8 + k) n m 1 = some (q, σ3) := by
    rcases hk with rfl | rfl <;> exact c1
  rw [this, bd_some]
theorem vsteers_ok {w : ZW} {σ0 τ0 σ τ : ZS} {a k : Nat} {n m p : Int32} (h : spk w σ0 τ0 a k n m) (hv : VV σ0 τ0 σ τ) : vo σ0 τ0 (fS_Ship_steers w σ a (8 + k) n m p) (fX6_steersOf τ p) := by
  have h17 := (h.sh hv).2.1
  have hk := h.1
  unfold fX6_steersOf
  rw [h17]
  by_cases q5 : k = 5
  · subst q5
    obtain ⟨σ1, τ1, a1, a2, a3⟩ := ran_ok hv 60
    obtain ⟨r, q, σ2, τ2, τ3, τ4, τ5, b1, b2, b3, b4, b5, b6⟩ := steers11_ok (p := p + 1) h (Or.inr rfl) a3
    refine ⟨r * 2 - q, σ2, τ5, ?_, ?_, b6⟩
    · show fX14_steers w σ a 13 n m p = _
      unfold fX14_steers
      rw [a1, bd_some, gd_pos (h.sh a3).1, show fX11_steers w σ1 a 13 n m (p + 1) = _ from b1, bd_some]
    · rw [if_pos (show on 5 = 5 by decide), a2, bd_some, nm_eq, bd_some, (h.sh a3).2.1, show fX6_isUnder τ1 (on 5) 2 = some 1 from rfl, bo_some, if_neg (show ¬ (1 : Int32) = 0 by decide), b2, bd_some, bd_some, b3, bd_some, b4, bd_some, nm_eq, if_neg (show ¬ (1 : Int32) = 0 by decide), b5, bd_some, bd_some]
  · have n5 : ¬ on k = 5 := by rw [show (5 : Int32) = on 5 from rfl, on_eq (by omega) (by omega)]; exact q5
    rw [if_neg n5, bd_some, h17]
    by_cases q2 : k = 2
    · subst q2
      obtain ⟨r, q, σ2, τ2, τ3, τ4, τ5, b1, b2, b3, b4, b5, b6⟩ := steers11_ok (p := p) h (Or.inl rfl) hv
      refine ⟨r * 2 - q, σ2, τ5, b1, ?_, b6⟩
      rw [show fX6_isUnder τ (on 2) 2 = some 1 from rfl, bo_some, if_neg (show ¬ (1 : Int32) = 0 by decide), b2, bd_some, bd_some, b3, bd_some, b4, bd_some, nm_eq, if_neg (show ¬ (1 : Int32) = 0 by decide), b5, bd_some, bd_some]
    · obtain ⟨r, σ2, τ2, τ3, b1, b2, b3, b4⟩ := steers9_ok (p := p) h hv
      have hu : fX6_isUnder τ (on k) 2 = some 0 := by
        rcases (show k = 0 ∨ k = 1 ∨ k = 3 ∨ k = 4 ∨ k = 6 by omega) with rfl | rfl | rfl | rfl | rfl <;> rfl
      refine ⟨r * 2, σ2, τ3, ?_, ?_, b4⟩
      · rcases (show k = 0 ∨ k = 1 ∨ k = 3 ∨ k = 4 ∨ k = 6 by omega) with rfl | rfl | rfl | rfl | rfl <;> exact b1
      · rw [hu, bo_some, if_pos rfl, bd_some, b2, bd_some, b3, bd_some, nm_eq, if_pos rfl, bd_some]
theorem logs9_ok {w : ZW} {σ0 τ0 σ τ : ZS} {a k : Nat} {n m p : Int32} (h : spk w σ0 τ0 a k n m) (hv : VV σ0 τ0 σ τ) : vo σ0 τ0 (fX9_logs w σ a (8 + k) n m p) (fX6_plainLogs τ p) := by
  obtain ⟨σ1, τ1, a1, a2, a3⟩ := ran_ok hv 13
  obtain ⟨r, σ2, τ2, b1, b2, b3⟩ := vsteers_ok (p := p) h a3
  obtain ⟨q, σ3, τ3, c1, c2, c3⟩ := vsounds_ok (p := p) h b3
  refine ⟨r ^^^ q, σ3, τ3, ?_, ?_, c3⟩
  · unfold fX9_logs
    rw [a1, bd_some, gd_pos (h.sh a3).1, b1, bd_some, gd_pos (h.sh b3).1, c1, bd_some]
  · unfold fX6_plainLogs
    rw [a2, bd_some, b2, bd_some, c2, bd_some]
theorem vlogs_ok {w : ZW} {σ0 τ0 σ τ : ZS} {a k : Nat} {n m p : Int32} (h : spk w σ0 τ0 a k n m) (hv : VV σ0 τ0 σ τ) : vo σ0 τ0 (fS_Logs_logs w σ a (8 + k) n m p) (fX6_logsOf τ p) := by
  have h17 := (h.sh hv).2.1
  have hk := h.1
  unfold fX6_logsOf
  rw [h17]
  by_cases q6 : k = 6
  · subst q6
    obtain ⟨σ1, τ1, a1, a2, a3⟩ := ran_ok hv 71
    obtain ⟨r, σ2, τ2, b1, b2, b3⟩ := vsteers_ok (p := p) h a3
    obtain ⟨q, σ3, τ3, c1, c2, c3⟩ := logs9_ok (p := p) h b3
    refine ⟨r - q, σ3, τ3, ?_, ?_, c3⟩
    · show fX15_logs w σ a 14 n m p = _
      unfold fX15_logs
      rw [a1, bd_some, gd_pos (h.sh a3).1, show fS_Ghost_steers w σ1 a 14 n m p = _ from b1, bd_some, gd_pos (h.sh b3).1, show fX9_logs w σ2 a 14 n m p = _ from c1, bd_some]
    · rw [if_pos (show on 6 = 6 by decide), a2, bd_some, b2, bd_some, c2, bd_some]
  · have n6 : ¬ on k = 6 := by rw [show (6 : Int32) = on 6 from rfl, on_eq (by omega) (by omega)]; exact q6
    rw [if_neg n6]
    by_cases q4 : k = 4
    · subst q4
      obtain ⟨σ1, τ1, a1, a2, a3⟩ := ran_ok hv 50
      obtain ⟨r, σ2, τ2, b1, b2, b3⟩ := logs9_ok (p := p) h a3
      obtain ⟨q, σ3, τ3, c1, c2, c3⟩ := vsails_ok (p := 2) h b3
      refine ⟨r - q, σ3, τ3, ?_, ?_, c3⟩
      · show fX13_logs w σ a 12 n m p = _
        unfold fX13_logs
        rw [a1, bd_some, gd_pos (h.sh a3).1, show fX9_logs w σ1 a 12 n m p = _ from b1, bd_some, gd_pos (h.sh b3).1, show fS_Cutter_sails w σ2 a 12 n m 2 = _ from c1, bd_some]
      · rw [if_pos (show on 4 = 4 by decide), a2, bd_some, b2, bd_some, c2, bd_some]
    · have n4 : ¬ on k = 4 := by rw [show (4 : Int32) = on 4 from rfl, on_eq (by omega) (by omega)]; exact q4
      rw [if_neg n4]
      obtain ⟨r, σ2, τ2, b1, b2, b3⟩ := logs9_ok (p := p) h hv
      refine ⟨r, σ2, τ2, ?_, ?_, b3⟩
      · rcases (show k = 0 ∨ k = 1 ∨ k = 2 ∨ k = 3 ∨ k = 5 by omega) with rfl | rfl | rfl | rfl | rfl <;> exact b1
      · rw [b2, bd_some]
theorem voice_act {w : ZW} {N : Nat} {σx σm : ZS} {p1 p2 p3 : Int32} (h : RR w N σx σm) : act w N σm (fX0_voice w σx p1 p2 p3) (fX6_voice σm p1 p2 p3) := by
  have h0 := h
  obtain ⟨⟨f, hf⟩, hT⟩ := h
  have hI := hf.2.2.1
  unfold fX0_voice fX6_voice
  rw [(hf.ships p1).2, xi, wi]
  by_cases q1 : 0 ≤ p1 ∧ p1 ≤ f 2 - 1
  · by_cases q2 : 0 ≤ p2 ∧ p2 ≤ 3
    · simp only [if_pos q1, if_pos q2, i10, eq_self, ↓reduceIte]
      obtain ⟨j, -, j2, rfl⟩ := on_rng (lo := 0) (hi := 3) (by omega) q2
      obtain ⟨s, hs, rfl, hl⟩ := hI.ship q1
      obtain ⟨a, k, a1, k1, a2, a3⟩ := hf.1.shipAt hs hl
      have hm1 : isRow (sI σm 0 16 0) 1 f := fun j hj => by rw [sI_r (by decide)]; exact hf.2.1 j hj
      have hm2 : isRow (sI (sI (sI σm 0 16 0) 0 17 (on k)) 0 18 (on s)) 1 f := fun j hj => by rw [sI_r (by decide), sI_r (by decide), sI_r (by decide)]; exact hf.2.1 j hj
      rw [xshipAt_t hf hs hl (by decide) a1, bd_some, sc_inl, a2, oShip_of k1, si0 hm1 hs, a3]
      simp only [bo_some]
      rw [si1 hm2 hs, bo_some]
      have hk0 : spk w (sI σx 4 1 0) (sI (sI (sI (sI σm 0 16 0) 0 17 (on k)) 0 18 (on s)) 0 19 (f (34 + 5 * s))) a k (on s) (f (34 + 5 * s)) := by
        refine ⟨k1, a2, ?_, ?_, ?_, ?_⟩
        · rw [sI_n (by decide), sI_n (by decide), sI_s]
        · rw [sI_n (by decide), sI_s]
        · rw [sI_s]
        · rw [sI_2, a2, oShip_of k1]
      have hv0 : VV (sI σx 4 1 0) (sI (sI (sI (sI σm 0 16 0) 0 17 (on k)) 0 18 (on s)) 0 19 (f (34 + 5 * s))) (sI σx 4 1 0) (sI (sI (sI (sI σm 0 16 0) 0 17 (on k)) 0 18 (on s)) 0 19 (f (34 + 5 * s))) := by
        refine ⟨⟨0, by omega, sI_s, ?_, fun k hk => by omega⟩, rfl, fun _ _ _ => rfl, rfl, fun _ _ _ => rfl, fun _ _ => rfl⟩
        rw [sI_n (by decide), sI_n (by decide), sI_n (by decide), sI_s]
        rfl
      have fin : ∀ x m, vo (sI σx 4 1 0) (sI (sI (sI (sI σm 0 16 0) 0 17 (on k)) 0 18 (on s)) 0 19 (f (34 + 5 * s))) x m → act w N σm x m := by
        rintro x m ⟨r, σ', τ', x1, x2, ⟨t1, t2, t3, t4, t5, t6⟩⟩
        obtain ⟨g0, ⟨n, n1, n2, n3⟩, g2, -, g4, g5⟩ := hT
        obtain ⟨g, g01, g02, g03⟩ := g0
        have xr : ∀ r, r ≠ 4 → r ≠ 5 → σ'.1 r = σx.1 r := fun r h4 h5 => by rw [t3 r h4 h5, sI_r h4]
        have mr : ∀ r, r ≠ 0 → r ≠ 16 → τ'.1 r = σm.1 r := fun r h4 h5 => by rw [t5 r h4 h5, sI_r h4, sI_r h4, sI_r h4, sI_r h4]
        have x2e : σ'.2 = σx.2 := t2
        refine act_mk x1 x2 ⟨⟨f, hf.1.congr (fun k hk => xr _ (by omega) (by omega)) (fun k hk => by rw [x2e]) (fun a ci vs h _ _ _ _ => by rw [x2e]; exact h), fun j hj => by rw [mr 1 (by decide) (by decide)]; exact hf.2.1 j hj, hI, fun c y hc hy => by rw [mr 6 (by decide) (by decide)]; exact hf.2.2.2 c y hc hy⟩, ⟨g, g01.congr (fun k hk => xr _ (by omega) (by omega)) (fun k hk => by rw [x2e]) (fun a ci vs h _ _ _ _ => by rw [x2e]; exact h), fun j hj => by rw [mr 2 (by decide) (by decide), t6 3 (by decide), sI_n (by decide), sI_n (by decide), sI_n (by decide), sI_n (by decide)]; exact g02 j hj, g03⟩, ⟨n, by omega, by rw [xr 0 (by decide) (by decide)]; exact n2, by rw [t6 3 (by decide), sI_n (by decide), sI_n (by decide), sI_n (by decide), sI_n (by decide)]; exact n3⟩, fun k hk => by rw [xr 6 (by decide) (by decide), mr 5 (by decide) (by decide)]; exact g2 k hk, t1, g4.congr (by rw [x2e]) (by rw [x2e]) (mr 21 (by decide) (by decide)) (mr 22 (by decide) (by decide)) (mr 23 (by decide) (by decide)), by rw [x2e]; exact g5⟩ (by rw [t4]; rfl)
      rcases (show j = 0 ∨ j = 1 ∨ j = 2 ∨ j = 3 by omega) with rfl | rfl | rfl | rfl
      · rw [if_pos (show on 0 = 0 from rfl), if_pos (show on 0 = 0 from rfl), bd_id, bd_id, bd_id]
        exact fin _ _ (vsails_ok hk0 hv0)
      · rw [if_neg (show ¬ on 1 = 0 by decide), if_neg (show ¬ on 1 = 0 by decide), if_pos (show on 1 = 1 from rfl), if_pos (show on 1 = 1 from rfl), bd_id, bd_id, bd_id]
        exact fin _ _ (vsteers_ok hk0 hv0)
      · rw [if_neg (show ¬ on 2 = 0 by decide), if_neg (show ¬ on 2 = 0 by decide), if_neg (show ¬ on 2 = 1 by decide), if_neg (show ¬ on 2 = 1 by decide), if_pos (show on 2 = 2 from rfl), if_pos (show on 2 = 2 from rfl), bd_id, bd_id, bd_id]
        exact fin _ _ (vsounds_ok hk0 hv0)
      · rw [if_neg (show ¬ on 3 = 0 by decide), if_neg (show ¬ on 3 = 0 by decide), if_neg (show ¬ on 3 = 1 by decide), if_neg (show ¬ on 3 = 1 by decide), if_neg (show ¬ on 3 = 2 by decide), if_neg (show ¬ on 3 = 2 by decide), gd_pos (by decide), bd_id, bd_id, bd_id]
        exact fin _ _ (vlogs_ok hk0 hv0)
    · simp only [if_pos q1, if_neg q2, xshipAt_f hf (Or.inr rfl), i10, eq_self, ↓reduceIte, bd_some, sc_inr]
      exact err1 h0 bd_id bd_id
  · simp only [if_neg q1, xshipAt_f hf (Or.inl q1), i10, eq_self, ↓reduceIte, bd_some, sc_inr]
    exact err1 h0 bd_id bd_id
