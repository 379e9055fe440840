/-! the plain law, 35: the two readers, a node of two -/
theorem PS.mk {w : ZW} {a u n pos o c pos' o' c' : Nat} {σ τ σ' τ' : ZS} (h : PS w a u n σ τ pos o c) (e1 : σ'.1 = σ.1) (ha : σ'.2.2.1 a = some (.inr (15, [.ref (zsK w u), .ref (w.2.2 (100 + 16)), .int (on n), .int (on pos'), .int (on o')]))) (t1 : τ'.1 1 = τ.1 1) (t9 : τ'.1 0 9 = τ.1 0 9) (t7 : τ'.1 0 7 = on pos') (t8 : τ'.1 0 8 = on o') (t10 : τ'.1 0 10 = 0) (t12 : τ'.1 0 12 = on c') (hb : pos' ≤ n ∧ o' ≤ 5 ∧ c' ≤ pos') (hw : wfP σ') (b1 : 60 + o' ≤ σ'.2.2.2.2.1 + pos') (b2 : 300 + 3 * o' ≤ σ'.2.2.2.2.2 + 3 * pos') : PS w a u n σ' τ' pos' o' c' := by
  obtain ⟨-, h7, h8, h10, h12, h9, h17, hh, -, -, -, hk⟩ := h
  exact ⟨ha, t7, t8, t10, t12, by rw [t9]; exact h9, by rw [t1]; exact h17, ⟨hb.1, hh.2.1, hb.2.1, hb.2.2, hh.2.2.2.2⟩, hw, b1, b2, fun k hk' => by rw [t1, e1]; exact hk k hk'⟩
theorem init8_ok {σ : ZS} {q y r : Nat} {sg : Int32} (hq : σ.2.2.1 q = some (.inr (7, [.int 0, .null, .null]))) : ∃ σ', fX8_init σ q sg y r = some ((), σ') ∧ σ'.1 = σ.1 ∧ σ'.2.1 = σ.2.1 ∧ σ'.2.2.2 = σ.2.2.2 ∧ σ'.2.2.1 q = some (.inr (7, [.int sg, .ref y, .ref r])) ∧ ∀ b, b ≠ q → σ'.2.2.1 b = σ.2.2.1 b := by
  unfold fX8_init fX7_init
  rw [bo_some, hq, show oC3 7 (some (.inr (7, [.int 0, .null, .null]))) = some (.int 0, .null, .null) from rfl, bo_some]
  refine ⟨_, rfl, rfl, rfl, rfl, sP_s, fun b hb => ?_⟩
  rw [sP_n hb, sP_n hb, sP_n hb]
def nodeX (rc : Nat → ZS → Option ((Nat ⊕ Nat) × ZS)) (w : ZW) (a u j : Nat) (σ : ZS) (n pos o sg : Int32) (y1 : Nat) (K : Nat → ZS → Option ((Nat ⊕ Nat) × ZS)) : Option ((Nat ⊕ Nat) × ZS) := nm (pos + 1) (fun (f_19 : Int32) => nm (sP σ a (.inr (15, [.ref (zsK w u), .ref (w.2.2 (100 + 16)), .int n, .int f_19, .int o]))) (fun (σ_20 : ZS) => gd (1 ≤ σ_20.2.2.2.2.1) (gd (3 ≤ σ_20.2.2.2.2.2) (nm (σ_20.2.2.2.1) (fun (a_25 : Nat) => nm (sN σ_20 (.inr (7, [.int 0, .null, .null])) 3) (fun (σ_24 : ZS) => bo (oRd w u (σ_24.2.2.1 a)) (fun rd27 => bd (rc j σ_24) (fun r_32 σ_34 => sc r_32 (fun (r_35 : Nat) => bd (fX8_init σ_34 a_25 sg y1 r_35) (fun _ σ_39 => K a_25 σ_39)) (fun (t_36 : Nat) => some (.inr t_36, σ_34))))))))))
def RC (w : ZW) (a u n : Nat) (rx : Nat → ZS → Option ((Nat ⊕ Nat) × ZS)) (rm : Nat → ZS → Option (Unit × ZS)) (j o : Nat) : Prop := ∀ σ τ pos c, PS w a u n σ τ pos o c → PO w a u n σ τ pos o c (rx j σ) (rm j τ)
theorem node_ok {w : ZW} {a u n : Nat} {rx : Nat → ZS → Option ((Nat ⊕ Nat) × ZS)} {rm : Nat → ZS → Option (Unit × ZS)} {j o : Nat} (hRC : RC w a u n rx rm j o) {σ0 τ0 σ τ : ZS} {pos0 c0 y1 pos : Nat} {cs : List Int32} {sg op : Int32} (hK : KP a σ0 σ) (hM : KM τ0 τ) (hG : PG w a u n σ0 τ0 pos0 o c0 σ τ y1 pos cs) (hp : pos < n) (hop : opOf sg = some op) : ∃ σ' τ', KP a σ0 σ' ∧ KM τ0 τ' ∧ (∀ (α : Type) (K : Unit → ZS → Option α), bd (rm j (sI τ 0 7 (on (pos + 1)))) (fun _ s => bd (fX6_codes s op) K) = K () τ') ∧ ((∃ q pos' cs', pos < pos' ∧ (∀ K, nodeX rx w a u j σ (on n) (on pos) (on o) sg y1 K = K q σ') ∧ PG w a u n σ0 τ0 pos0 o c0 σ' τ' q pos' cs') ∨ ∃ t, (∀ K, nodeX rx w a u j σ (on n) (on pos) (on o) sg y1 K = some (.inr t, σ')) ∧ PB σ' τ' t) := by
  obtain ⟨hS, g1, g2, g3, g4, g5, g6⟩ := hG
  have hS0 := hS
  obtain ⟨ha, h7, h8, h10, h12, h9, h17, hh, hw, hb1, hb2, hk⟩ := hS
  have la := hw _ _ ha
  have hpk : ∀ b, b ≠ a → b ≠ σ.2.2.2.1 → (sN (sP σ a (.inr (15, [.ref (zsK w u), .ref (w.2.2 (100 + 16)), .int (on n), .int (on (pos + 1)), .int (on o)]))) (.inr (7, [.int 0, .null, .null])) 3).2.2.1 b = σ.2.2.1 b := by
    intro b hb1 hb2
    rw [sN_n (show b ≠ (sP σ a _).2.2.2.1 from hb2), sP_n hb1]
  have hnew : (sN (sP σ a (.inr (15, [.ref (zsK w u), .ref (w.2.2 (100 + 16)), .int (on n), .int (on (pos + 1)), .int (on o)]))) (.inr (7, [.int 0, .null, .null])) 3).2.2.1 σ.2.2.2.1 = some (.inr (7, [.int 0, .null, .null])) := sN_s (σ := sP σ a (.inr (15, [.ref (zsK w u), .ref (w.2.2 (100 + 16)), .int (on n), .int (on (pos + 1)), .int (on o)])))
  have hrd : (sN (sP σ a (.inr (15, [.ref (zsK w u), .ref (w.2.2 (100 + 16)), .int (on n), .int (on (pos + 1)), .int (on o)]))) (.inr (7, [.int 0, .null, .null])) 3).2.2.1 a = some (.inr (15, [.ref (zsK w u), .ref (w.2.2 (100 + 16)), .int (on n), .int (on (pos + 1)), .int (on o)])) := by
    rw [sN_n (show a ≠ (sP σ a _).2.2.2.1 from by show a ≠ σ.2.2.2.1; omega), sP_s]
  have hwf : wfP (sN (sP σ a (.inr (15, [.ref (zsK w u), .ref (w.2.2 (100 + 16)), .int (on n), .int (on (pos + 1)), .int (on o)]))) (.inr (7, [.int 0, .null, .null])) 3) := by
    intro b x hb
    show b < σ.2.2.2.1 + 1
    by_cases e1 : b = σ.2.2.2.1
    · omega
    · by_cases e2 : b = a
      · omega
      · rw [hpk b e2 e1] at hb
        have := hw b x hb
        omega
  have hKP1 : KP a σ (sN (sP σ a (.inr (15, [.ref (zsK w u), .ref (w.2.2 (100 + 16)), .int (on n), .int (on (pos + 1)), .int (on o)]))) (.inr (7, [.int 0, .null, .null])) 3) := by
    refine ⟨rfl, rfl, Nat.le_succ _, fun b x hb h => ?_⟩
    have := hw b x h
    rw [hpk b hb (by omega)]
    exact h
  have hS1 : PS w a u n (sN (sP σ a (.inr (15, [.ref (zsK w u), .ref (w.2.2 (100 + 16)), .int (on n), .int (on (pos + 1)), .int (on o)]))) (.inr (7, [.int 0, .null, .null])) 3) (sI τ 0 7 (on (pos + 1))) (pos + 1) o (c0 + cs.length) := by
    refine hS0.mk rfl hrd (sI_r (by decide)) (sI_n (by decide)) sI_s (by rw [sI_n (by decide)]; exact h8) (by rw [sI_n (by decide)]; exact h10) (by rw [sI_n (by decide)]; exact h12) ⟨by omega, by omega, by omega⟩ hwf ?_ ?_
    · show 60 + o ≤ σ.2.2.2.2.1 - 1 + (pos + 1)
      omega
    · show 300 + 3 * o ≤ σ.2.2.2.2.2 - 3 + 3 * (pos + 1)
      omega
  have gx : ∀ K, nodeX rx w a u j σ (on n) (on pos) (on o) sg y1 K = bd (rx j (sN (sP σ a (.inr (15, [.ref (zsK w u), .ref (w.2.2 (100 + 16)), .int (on n), .int (on (pos + 1)), .int (on o)]))) (.inr (7, [.int 0, .null, .null])) 3)) (fun r_32 σ_34 => sc r_32 (fun (r_35 : Nat) => bd (fX8_init σ_34 σ.2.2.2.1 sg y1 r_35) (fun _ σ_39 => K σ.2.2.2.1 σ_39)) (fun (t_36 : Nat) => some (.inr t_36, σ_34))) := by
    intro K
    unfold nodeX
    simp only [nm_eq, on_a1]
    rw [gd_pos, gd_pos, hrd, oRd_of, bo_some]
    · rfl
    · show 3 ≤ σ.2.2.2.2.2
      omega
    · show 1 ≤ σ.2.2.2.2.1
      omega
  obtain ⟨σ2, τ2, p1, p2, p3, p4⟩ := hRC _ _ _ _ hS1
  have hMτ : KM τ0 τ2 := (hM.st (by omega)).tr p2
  rcases p4 with ⟨r, pos', cs2, x1, x2⟩ | ⟨t, x1, x2⟩
  · obtain ⟨y, k1, k2, k3, k4, k5, k6⟩ := x2
    have hq2 : σ2.2.2.1 σ.2.2.2.1 = some (.inr (7, [.int 0, .null, .null])) := p1.2.2.2 _ _ (by omega) hnew
    obtain ⟨σ3, i1, i2, i3, i4, i5, i6⟩ := init8_ok (y := y1) (r := r) (sg := sg) hq2
    have hle : σ.2.2.2.1 + 1 ≤ σ2.2.2.2.1 := p1.2.2.1
    have hKP3 : KP a σ0 σ3 := by
      refine hK.tr ⟨by rw [i2, p1.1]; rfl, by rw [i3, p1.2.1]; rfl, ?_, fun b x hb h => ?_⟩
      · rw [i4]
        omega
      · have := hw b x h
        rw [i6 b (by omega)]
        exact p1.2.2.2 b x hb (hKP1.2.2.2 b x hb h)
    have hw3 : wfP σ3 := by
      intro b x hb
      rw [i4]
      by_cases e : b = σ.2.2.2.1
      · omega
      · rw [i6 b e] at hb
        exact y.2.2.2.2.2.2.2.2.1 b x hb
    have hcl := y.2.2.2.2.2.2.2.1
    refine ⟨σ3, sI (sI τ2 12 (c0 + cs.length + cs2.length) op) 0 12 (on (c0 + cs.length + cs2.length + 1)), hKP3, (hMτ.st12).st (by omega), fun α K => ?_, Or.inl ⟨σ.2.2.2.1, pos', cs ++ cs2 ++ [op], by omega, fun K => ?_, ?_⟩⟩
    · rw [p3, bd_some, y.codes op, bd_some]
    · rw [gx K, x1, bd_some, sc_inl, i1, bd_some]
    · have hlen : (cs ++ cs2 ++ [op]).length = cs.length + cs2.length + 1 := by rw [List.length_append, List.length_append]; rfl
      unfold PG
      rw [hlen]
      refine ⟨?_, by omega, by omega, by omega, ?_, ?_, ?_⟩
      · refine y.mk i2 (by rw [i6 a (by omega)]; exact y.1) (by rw [sI_r (by decide), sI_r (by decide)]) (by rw [sI_n (by decide), sI_r (by decide)]) (by rw [sI_n (by decide), sI_r (by decide)]; exact y.2.1) (by rw [sI_n (by decide), sI_r (by decide)]; exact y.2.2.1) (by rw [sI_n (by decide), sI_r (by decide)]; exact y.2.2.2.1) (by rw [sI_s, show c0 + cs.length + cs2.length + 1 = c0 + (cs.length + cs2.length + 1) by omega]) ⟨hcl.1, hcl.2.2.1, by omega⟩ hw3 (by rw [i4]; exact y.2.2.2.2.2.2.2.2.2.1) (by rw [i4]; exact y.2.2.2.2.2.2.2.2.2.2.1)
      · have t1 : TA σ3.2.2.1 u cs.length y1 cs := g4.mono (fun b ci vs hb hc => by
          have l := hw _ _ hb
          have hba : b ≠ a := fun e => by rw [e, ha] at hb; cases hb; omega
          rw [i6 b (by omega)]
          exact p1.2.2.2 b _ hba (hKP1.2.2.2 b _ hba hb))
        have t2 : TA σ3.2.2.1 u cs2.length r cs2 := TA.mono2 hq2 (fun b ci vs hb h _ => by rw [i6 b hb]; exact h) k4
        exact Or.inr (Or.inr (Or.inr ⟨sg, y1, r, cs, cs2, op, i5, hop, t1.le (by omega), t2.le (by omega), rfl⟩))
      · intro jj hj
        rw [sI_r (by decide), sI_n (by omega), k5 jj (by omega), sI_r (by decide)]
        exact g5 jj hj
      · intro jj hj
        rw [sI_r (by decide)]
        by_cases e : jj = cs.length + cs2.length
        · subst e
          rw [show c0 + (cs.length + cs2.length) = c0 + cs.length + cs2.length by omega, sI_s]
          have := getD_r (l := cs ++ cs2) (m := [op]) (j := 0)
          rw [List.length_append, Nat.add_zero] at this
          rw [this]
          rfl
        · rw [sI_n (by omega)]
          rw [getD_l (by rw [List.length_append]; omega)]
          by_cases e2 : jj < cs.length
          · rw [getD_l e2, k5 (c0 + jj) (by omega), sI_r (by decide)]
            exact g6 jj e2
          · obtain ⟨i, rfl⟩ : ∃ i, jj = cs.length + i := ⟨jj - cs.length, by omega⟩
            rw [getD_r, show c0 + (cs.length + i) = c0 + cs.length + i by omega]
            exact k6 i (by omega)
  · refine ⟨σ2, τ2, hK.tr (hKP1.tr p1), hMτ, fun α K => ?_, Or.inr ⟨t, fun K => ?_, x2⟩⟩
    · rw [p3, bd_some, wrong_codes x2.2.1, bd_some]
    · rw [gx K, x1, bd_some, sc_inr]
