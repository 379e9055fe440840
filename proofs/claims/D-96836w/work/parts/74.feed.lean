/-! the plain law, 25: feed, leastFalse -/
theorem by8 (z : Int64) : z.toInt32.toInt8.toInt32 &&& 255 = (z &&& 255).toInt32 := by
  apply Int32.toBitVec_inj.mp
  rw [Int32.toBitVec_and, Int8.toBitVec_toInt32, Int32.toBitVec_toInt8, Int64.toBitVec_toInt32, Int64.toBitVec_toInt32, Int64.toBitVec_and]
  apply BitVec.eq_of_getLsbD_eq
  intro i hi
  rw [BitVec.getLsbD_and, BitVec.getLsbD_signExtend, BitVec.getLsbD_signExtend, BitVec.getLsbD_signExtend, BitVec.getLsbD_signExtend, BitVec.getLsbD_and]
  by_cases h8 : i < 8
  · simp only [h8, hi, show i < 64 by omega, ↓reduceIte, decide_true, Bool.true_and]
    rcases (show i = 0 ∨ i = 1 ∨ i = 2 ∨ i = 3 ∨ i = 4 ∨ i = 5 ∨ i = 6 ∨ i = 7 by omega) with rfl | rfl | rfl | rfl | rfl | rfl | rfl | rfl <;> rfl
  · have e1 : (255 : Int32).toBitVec.getLsbD i = false := by
      have : ∀ i, i < 32 → ¬ i < 8 → (255 : Int32).toBitVec.getLsbD i = false := by decide
      exact this i hi h8
    have e2 : (255 : Int64).toBitVec.getLsbD i = false := by
      have : ∀ i, i < 32 → ¬ i < 8 → (255 : Int64).toBitVec.getLsbD i = false := by decide
      exact this i hi h8
    rw [e1, e2, if_pos (show i < 64 by omega)]
    simp
    intro _ h
    omega
theorem by_fit (y : Int8) : fits .byte (.int y.toInt32) = true := by
  have h1 := y.le_toInt
  have h2 := y.toInt_lt
  have e : y.toInt32.toInt = y.toInt := Int8.toInt_toInt32 y
  have a1 : (-128 : Int32) ≤ y.toInt32 := by
    rw [i_le, e]
    exact h1
  have a2 : y.toInt32 ≤ (127 : Int32) := by
    rw [i_le, e]
    show y.toInt ≤ 127
    omega
  simp [fits, a1, a2]
theorem by_nar (y : Int8) : vp_nar .byte y.toInt32 = y.toInt32 := by
  show y.toInt32.toInt8.toInt32 = y.toInt32
  rw [Int8.toInt8_toInt32]
theorem BR.byte {w : ZW} {σ : ZS} {b k : Nat} {f : Nat → Int32} {v : Int32} (h : BR w σ b f) (hk : k < 50) (hv : fits .byte (.int v) = true) : BR w (sI σ (b + 16) k v) b (upd f (68 + k) (v &&& 255)) := by
  obtain ⟨hn, hc, hS, hh, ht, hw, hx⟩ := h
  refine ⟨?_, ?_, ?_, ?_, ?_, ?_, hx.up (by omega)⟩
  · unfold bN at *
    rw [sI_r (by omega), upd_n (by omega), upd_n (by omega), upd_n (by omega), upd_n (by omega), upd_n (by omega), upd_n (by omega), upd_n (by omega), upd_n (by omega), upd_n (by omega)]
    exact hn
  · intro c hc'
    rw [upd_n (by omega), upd_n (by omega), upd_n (by omega), sI_r (by omega), sI_r (by omega), sI_r (by omega)]
    exact hc c hc'
  · intro c hc'
    rw [upd_n (by omega), upd_n (by omega), upd_n (by omega), sI_r (by omega), sI_r (by omega), sI_r (by omega)]
    exact hS c hc'
  · intro c hc'
    rw [upd_n (by omega), upd_n (by omega), upd_n (by omega), sI_2]
    exact hh c hc'
  · intro c hc'
    by_cases e : c = k
    · subst e
      rw [upd_s, sI_s]
      exact ⟨rfl, hv⟩
    · rw [upd_n (by omega), sI_n e]
      exact ht c hc'
  · intro c hc'
    rw [upd_n (by omega), sI_r (by omega)]
    exact hw c hc'
theorem FI.byte {f : Nat → Int32} (h : FI f) {k : Nat} {v : Int32} (hk : k < 50) : FI (upd f (68 + k) v) :=
  h.up (by omega) (by omega) (by omega) (fun e => by omega) (fun e => by omega) (fun e => by omega) (fun e => by omega) (fun e => by omega) (fun s _ e => by omega) (fun s _ e => by omega) (fun s _ e => by omega)
theorem FI.nbyte {f : Nat → Int32} (h : FI f) {k : Nat} (hk : k ≤ 50) : FI (upd f 7 (on k)) :=
  h.up (by omega) (by omega) (by omega) (fun e => by omega) (fun e => by omega) (fun e => by omega) (fun _ => ⟨k, rfl, hk⟩) (fun e => by omega) (fun s _ e => by omega) (fun s _ e => by omega) (fun s _ e => by omega)
theorem feed_L {w : ZW} {y : Int64} {M : Nat} (hM : M ≤ 8) : ∀ (d i nt n n' : Nat) (f : Nat → Int32) (σ τ : ZS), i + d = M → nt + d ≤ 50 → d < n → d < n' → f 7 = on nt → RM w f σ τ → ∃ g σ' τ', fX0_feed_L39 y (on M) n (on i) σ = some (on M, σ') ∧ fX6_feed_L41 y (on M) n' (on i) τ = some (on M, τ') ∧ RM w g σ' τ' ∧ (∀ r, r ≠ 100 → r ≠ 116 → σ'.1 r = σ.1 r) ∧ σ'.2 = σ.2 ∧ (∀ r, r ≠ 1 → τ'.1 r = τ.1 r) ∧ τ'.2 = τ.2
  | 0, i, nt, n, n', f, σ, τ, hi, hd, hn, hn', h7, hf => by
    obtain ⟨n, rfl⟩ : ∃ m, n = m + 1 := ⟨n - 1, by omega⟩
    obtain ⟨n', rfl⟩ : ∃ m, n' = m + 1 := ⟨n' - 1, by omega⟩
    obtain rfl : i = M := by omega
    rw [fX0_feed_L39, fX6_feed_L41, if_pos (Int32.le_refl _), if_pos (Int32.le_refl _)]
    exact ⟨f, σ, τ, rfl, rfl, hf, fun _ _ _ => rfl, rfl, fun _ _ => rfl, rfl⟩
  | d + 1, i, nt, n, n', f, σ, τ, hi, hd, hn, hn', h7, hf => by
    obtain ⟨n, rfl⟩ : ∃ m, n = m + 1 := ⟨n - 1, by omega⟩
    obtain ⟨n', rfl⟩ : ∃ m, n' = m + 1 := ⟨n' - 1, by omega⟩
    have e1 : σ.1 100 16 = on nt := by rw [← h7]; exact hf.1.1.2.2.2.2.2.2.2.1.symm
    have e2 : τ.1 1 7 = on nt := by rw [← h7]; exact hf.2.1 7 (by omega)
    have e3 : (68 : Int32) + on nt = on (68 + nt) := on_add 68 nt
    have ta : (on nt).toNatClampNeg = nt := tn_ofNat (by omega)
    have tb : (on (68 + nt)).toNatClampNeg = 68 + nt := tn_ofNat (by omega)
    rw [fX0_feed_L39, fX6_feed_L41, if_neg (show ¬ on M ≤ on i by rw [on_le (by omega) (by omega)]; omega), if_neg (show ¬ on M ≤ on i by rw [on_le (by omega) (by omega)]; omega)]
    simp only [show (7 : Int32).toNatClampNeg = 7 from rfl, e1, e2, e3, nm_eq]
    rw [gd_pos (on_in (n := 50) (by omega) (by omega)), gd_pos (on_in (n := 242) (by omega) (by omega)), ta, tb, by_nar, ← by8]
    generalize (y >>> ((8 * on i).toInt64 &&& 63)).toInt32.toInt8 = z
    rw [show (sI σ (100 + 16) nt z.toInt32).1 100 16 = on nt by rw [sI_r (by omega)]; exact e1, show (sI τ 1 (68 + nt) (z.toInt32 &&& 255)).1 1 7 = on nt by rw [sI_n (by omega)]; exact e2, on_a1, on_a1]
    have hf2 : RM w (upd (upd f (68 + nt) (z.toInt32 &&& 255)) 7 (on (nt + 1))) (sI (sI σ (100 + 16) nt z.toInt32) 100 16 (on (nt + 1))) (sI (sI τ 1 (68 + nt) (z.toInt32 &&& 255)) 1 7 (on (nt + 1))) :=
      ⟨(hf.1.byte (by omega) (by_fit z)).numb (by omega), (hf.2.1.st).st, (hf.2.2.1.byte (by omega)).nbyte (by omega), cOK_congr (sBed.upd (by omega)) (cOK_congr (sBed.upd (by omega)) ((hf.2.2.2.st (by decide)).st (by decide)))⟩
    obtain ⟨g, σ', τ', a1, a2, a3, a4, a5, a6, a7⟩ := feed_L hM d (i + 1) (nt + 1) n n' _ _ _ (by omega) (by omega) (by omega) (by omega) upd_s hf2
    exact ⟨g, σ', τ', a1, a2, a3, fun r h1 h2 => by rw [a4 r h1 h2, sI_r h1, sI_r h2], a5, fun r h1 => by rw [a6 r h1, sI_r h1, sI_r h1], a7⟩
theorem feed_act {w : ZW} {N : Nat} {σx σm : ZS} {p1 : Int64} {p2 : Int32} (h : RR w N σx σm) : act w N σm (fX0_feed σx p1 p2) (fX6_feed σm p1 p2) := by
  have h0 := h
  obtain ⟨⟨f, hf⟩, hT⟩ := h
  obtain ⟨-, -, -, -, -, ⟨nt, w1, w2⟩, -⟩ := hf.2.2.1
  have e1 : σx.1 100 16 = on nt := by rw [← w1]; exact hf.1.1.2.2.2.2.2.2.2.1.symm
  have e2 : σm.1 1 7 = on nt := by rw [← w1]; exact hf.2.1 7 (by omega)
  unfold fX0_feed fX6_feed
  simp only [xi, wi, show (7 : Int32).toNatClampNeg = 7 from rfl, e2]
  by_cases q1 : 1 ≤ p2 ∧ p2 ≤ 8
  · simp only [if_pos q1, i10, eq_self, ↓reduceIte, nm_eq, nd1', nd0, bd_some, sc_inl, sc_inr]
    obtain ⟨k, -, k2, rfl⟩ := on_rng (lo := 1) (hi := 8) (by omega) q1
    rw [e1, on_add]
    by_cases q2 : nt + k ≤ 50
    · rw [if_neg (show ¬ 50 < on (nt + k) by rw [show (50 : Int32) = on 50 from rfl, on_lt (by omega) (by omega)]; omega), if_pos (show on (nt + k) ≤ 50 by rw [show (50 : Int32) = on 50 from rfl, on_le (by omega) (by omega)]; omega), nd1', bd_some, sc_inl]
      obtain ⟨g, σ', τ', a1, a2, a3, a4, a5, a6, a7⟩ := feed_L (y := p1) k2 k 0 nt 10000 10000 f σx σm (by omega) (by omega) (by omega) (by omega) w1 hf
      rw [show fX0_feed_L39 p1 (on k) 10000 0 σx = _ from a1, bd_some, show fX6_feed_L41 p1 (on k) 10000 0 σm = _ from a2, bd_some]
      refine act_mk (r := g 7) (σx' := σ') (σm' := τ') (by rw [a3.1.1.2.2.2.2.2.2.2.1]) (by rw [← a3.2.1 7 (by omega)]) ⟨⟨g, a3⟩, ?_⟩ a7
      exact hT.congr (by omega) (fun r hr => a4 r (by omega) (by omega)) (fun r hr => by rw [a5]) (by rw [a5]) (fun r hr => a6 r (by omega))
    · rw [if_pos (show 50 < on (nt + k) by rw [show (50 : Int32) = on 50 from rfl, on_lt (by omega) (by omega)]; omega), if_neg (show ¬ on (nt + k) ≤ 50 by rw [show (50 : Int32) = on 50 from rfl, on_le (by omega) (by omega)]; omega), nd0, bd_some, sc_inr]
      exact err4 h0 bd_id bd_id
  · simp only [if_neg q1, eq_self, ↓reduceIte, nd0, bd_some, sc_inr, bd_id]
    exact err1 h0 rfl rfl
/-- how many cells a beam y hours old shows falsely -/
def fby (f : Nat → Int32) (y : Int32) : Nat → Nat
  | 0 => 0
  | n + 1 => fby f y n + if dep f n (f 3 - y) = tru f n then 0 else 1
theorem fby_le {f : Nat → Int32} {y : Int32} : ∀ n, fby f y n ≤ n
  | 0 => Nat.le_refl _
  | n + 1 => by
    have := fby_le (f := f) (y := y) n
    rw [fby]
    split <;> omega
theorem fb_sub {x : Int32} (h0 : 0 ≤ x) (h : x ≤ 999) {y : Nat} (hy : y ≤ 1000) : x - on y ≤ 999 := by
  have h1 := i_le.mp h0
  have h2 := i_le.mp h
  have e0 : (0 : Int32).toInt = 0 := rfl
  have e9 : (999 : Int32).toInt = 999 := rfl
  have ey : (on y).toInt = (y : Int) := i_ofNat (by omega)
  rw [i_le, i_sub (by omega) (by omega)]
  omega
theorem falseBy_L {f : Nat → Int32} {y nc : Nat} (hI : FI f) (hn : f 1 = on nc) (h8 : nc ≤ 8) (hy : y ≤ 1000) : ∀ (d i n : Nat) (τ : ZS), i + d = nc → d < n → isRow τ 1 f → cOK τ f → ∃ τ', fX6_falseBy_L4 (on y) n (on (fby f (on y) i)) (on i) τ = some ((on (fby f (on y) nc), on nc), τ') ∧ MS τ τ' ∧ cOK τ' f
  | 0, i, n, τ, hi, hd, hm, hc => by
    obtain ⟨n, rfl⟩ : ∃ m, n = m + 1 := ⟨n - 1, by omega⟩
    obtain rfl : i = nc := by omega
    rw [fX6_falseBy_L4, show τ.1 1 (1 : Int32).toNatClampNeg = f 1 from hm 1 (by omega), hn, if_pos (Int32.le_refl _)]
    exact ⟨τ, rfl, MS.rf, hc⟩
  | d + 1, i, n, τ, hi, hd, hm, hc => by
    obtain ⟨n, rfl⟩ : ∃ m, n = m + 1 := ⟨n - 1, by omega⟩
    have hI0 := hI
    obtain ⟨-, -, ⟨y0, y9⟩, -, -, -, -, -, x0, -⟩ := hI
    rw [fX6_falseBy_L4, show τ.1 1 (1 : Int32).toNatClampNeg = f 1 from hm 1 (by omega), hn, if_neg (show ¬ on nc ≤ on i by rw [on_le (by omega) (by omega)]; omega), show τ.1 1 (3 : Int32).toNatClampNeg = f 3 from hm 3 (by omega)]
    obtain ⟨τ1, a1, a2, a3⟩ := depthIn_ok (y := f 3 - on y) hm x0 hc (show i < 8 by omega) (fb_sub y0 y9 hy)
    obtain ⟨τ2, b1, b2, b3⟩ := tru_ok (hm.ms a2) x0 a3 (show i < 8 by omega) y9
    rw [a1, bd_some, b1, bd_some]
    simp only [nm_eq]
    have hh := fby_le (f := f) (y := on y) i
    rw [on_a1, show on (fby f (on y) i) + (if dep f i (f 3 - on y) = tru f i then (0 : Int32) else 1) = on (fby f (on y) (i + 1)) by
      rw [fby]
      split
      · exact Int32.add_zero _
      · exact on_a1 _]
    obtain ⟨τ3, c1, c2, c3⟩ := falseBy_L hI0 hn h8 hy d (i + 1) n τ2 (by omega) (by omega) ((hm.ms a2).ms b2) b3
    exact ⟨τ3, c1, (a2.tr b2).tr c2, c3⟩
theorem falseBy_ok {f : Nat → Int32} {y nc : Nat} {τ : ZS} (hI : FI f) (hn : f 1 = on nc) (h8 : nc ≤ 8) (hy : y ≤ 1000) (hm : isRow τ 1 f) (hc : cOK τ f) : ∃ τ', fX6_falseBy τ (on y) = some (on (fby f (on y) nc), τ') ∧ MS τ τ' ∧ cOK τ' f := by
  obtain ⟨τ1, a1, a2, a3⟩ := falseBy_L hI hn h8 hy nc 0 10000 τ (by omega) (by omega) hm hc
  unfold fX6_falseBy
  rw [show fX6_falseBy_L4 (on y) 10000 0 0 τ = _ from a1, bd_some]
  exact ⟨τ1, rfl, a2, a3⟩
theorem xfalseBy_L {w : ZW} {f : Nat → Int32} {y nc : Nat} {y1 y2 y3 : Int32} (hI : FI f) (hn : f 1 = on nc) (h8 : nc ≤ 8) : ∀ (d i n : Nat) (σ : ZS), i + d = nc → d < n → BR w σ 100 f → ∃ σ', fX0_leastFalse_L32 y1 y2 y3 (on y) n (on (fby f (on y) i)) (on i) σ = some ((on (fby f (on y) nc), on nc), σ') ∧ XS 100 σ σ'
  | 0, i, n, σ, hi, hd, hm => by
    obtain ⟨n, rfl⟩ : ∃ m, n = m + 1 := ⟨n - 1, by omega⟩
    obtain rfl : i = nc := by omega
    rw [fX0_leastFalse_L32, ← hm.1.2.1, hn, if_pos (Int32.le_refl _)]
    exact ⟨σ, rfl, XS.rf⟩
  | d + 1, i, n, σ, hi, hd, hm => by
    obtain ⟨n, rfl⟩ : ∃ m, n = m + 1 := ⟨n - 1, by omega⟩
    rw [fX0_leastFalse_L32, ← hm.1.2.1, hn, if_neg (show ¬ on nc ≤ on i by rw [on_le (by omega) (by omega)]; omega), ← hm.1.2.2.2.1]
    obtain ⟨σ1, a1, a2⟩ := xdep_ok (y := f 3 - on y) hm (show i < 8 by omega)
    obtain ⟨σ2, b1, b2⟩ := xtru_ok (hm.xs zB1 zB1 a2) (show i < 8 by omega)
    rw [a1, bd_some, b1, bd_some]
    simp only [nm_eq]
    have hh := fby_le (f := f) (y := on y) i
    rw [on_a1, show on (fby f (on y) i) + (if dep f i (f 3 - on y) = tru f i then (0 : Int32) else 1) = on (fby f (on y) (i + 1)) by
      rw [fby]
      split
      · exact Int32.add_zero _
      · exact on_a1 _]
    obtain ⟨σ3, c1, c2⟩ := xfalseBy_L (y1 := y1) (y2 := y2) (y3 := y3) hI hn h8 d (i + 1) n σ2 (by omega) (by omega) ((hm.xs zB1 zB1 a2).xs zB1 zB1 b2)
    exact ⟨σ3, c1, (a2.tr b2).tr c2⟩
theorem min_on {a b : Nat} (ha : a < 1000) (hb : b < 1000) : fJ3_min (on a) (on b) = on (min a b) := by
  unfold fJ3_min
  by_cases h : b < a
  · rw [nm_eq, if_pos (show on b < on a by rw [on_lt (by omega) (by omega)]; exact h), Nat.min_eq_right (by omega)]
  · rw [nm_eq, if_neg (show ¬ on b < on a by rw [on_lt (by omega) (by omega)]; exact h), Nat.min_eq_left (by omega)]
theorem least_L {w : ZW} {f : Nat → Int32} {nc : Nat} {y1 y1' : Int32} (hI : FI f) (hn : f 1 = on nc) (h8 : nc ≤ 8) : ∀ (d i n n' j : Nat) (σ τ : ZS), i + d = 100 → d < n → d < n' → j ≤ 100 → BR w σ 100 f → isRow τ 1 f → cOK τ f → ∃ j' z z' σ' τ', j' ≤ 100 ∧ fX0_leastFalse_L19 y1 n (on j) (on (fby f (on j) nc)) (on i) σ = some ((on j', on (fby f (on j') nc), z), σ') ∧ fX6_leastFalse_L20 y1' n' (on j) (on i) τ = some ((on j', z'), τ') ∧ XS 100 σ σ' ∧ MS τ τ' ∧ cOK τ' f
  | 0, i, n, n', j, σ, τ, hi, hd, hd', hj, hr, hm, hc => by
    obtain ⟨n, rfl⟩ : ∃ m, n = m + 1 := ⟨n - 1, by omega⟩
    obtain ⟨n', rfl⟩ : ∃ m, n' = m + 1 := ⟨n' - 1, by omega⟩
    have h99 : (99 : Int32) < on i := by rw [show (99 : Int32) = on 99 from rfl, on_lt (by omega) (by omega)]; omega
    rw [fX0_leastFalse_L19, fX6_leastFalse_L20, if_pos h99, if_pos h99]
    exact ⟨j, on i, on i, σ, τ, hj, rfl, rfl, XS.rf, MS.rf, hc⟩
  | d + 1, i, n, n', j, σ, τ, hi, hd, hd', hj, hr, hm, hc => by
    obtain ⟨n, rfl⟩ : ∃ m, n = m + 1 := ⟨n - 1, by omega⟩
    obtain ⟨n', rfl⟩ : ∃ m, n' = m + 1 := ⟨n' - 1, by omega⟩
    have h99 : ¬ (99 : Int32) < on i := by rw [show (99 : Int32) = on 99 from rfl, on_lt (by omega) (by omega)]; omega
    obtain ⟨σ1, a1, a2⟩ := xfalseBy_L (y := i) (y1 := y1) (y2 := on j) (y3 := on (fby f (on j) nc)) hI hn h8 nc 0 10000 σ (by omega) (by omega) hr
    obtain ⟨τ1, b1, b2, b3⟩ := falseBy_ok (y := i) hI hn h8 (by omega) hm hc
    obtain ⟨τ2, c1, c2, c3⟩ := falseBy_ok (y := j) hI hn h8 (by omega) (hm.ms b2) b3
    have l1 := fby_le (f := f) (y := on i) nc
    have l2 := fby_le (f := f) (y := on j) nc
    rw [fX0_leastFalse_L19, fX6_leastFalse_L20, if_neg h99, if_neg h99, show fX0_leastFalse_L32 y1 (on j) (on (fby f (on j) nc)) (on i) 10000 0 0 σ = _ from a1, bd_some, b1, bd_some, c1, bd_some]
    simp only [nm_eq, min_on (show fby f (on j) nc < 1000 by omega) (show fby f (on i) nc < 1000 by omega), on_a1]
    by_cases q : fby f (on j) nc ≤ fby f (on i) nc
    · have q' : on (fby f (on j) nc) ≤ on (fby f (on i) nc) := by rw [on_le (by omega) (by omega)]; exact q
      rw [if_pos q', Nat.min_eq_left q]
      obtain ⟨j', z, z', σ3, τ3, d0, d1, d2, d3, d4, d5⟩ := least_L (w := w) (y1 := y1) (y1' := y1') hI hn h8 d (i + 1) n n' j σ1 τ2 (by omega) (by omega) (by omega) hj (hr.xs zB1 zB1 a2) ((hm.ms b2).ms c2) c3
      exact ⟨j', z, z', σ3, τ3, d0, d1, d2, a2.tr d3, (b2.tr c2).tr d4, d5⟩
    · have q' : ¬ on (fby f (on j) nc) ≤ on (fby f (on i) nc) := by rw [on_le (by omega) (by omega)]; exact q
      rw [if_neg q', Nat.min_eq_right (by omega)]
      obtain ⟨j', z, z', σ3, τ3, d0, d1, d2, d3, d4, d5⟩ := least_L (w := w) (y1 := y1) (y1' := y1') hI hn h8 d (i + 1) n n' i σ1 τ2 (by omega) (by omega) (by omega) (by omega) (hr.xs zB1 zB1 a2) ((hm.ms b2).ms c2) c3
      exact ⟨j', z, z', σ3, τ3, d0, d1, d2, a2.tr d3, (b2.tr c2).tr d4, d5⟩
theorem leastFalse_act {w : ZW} {N : Nat} {σx σm : ZS} {p1 : Int32} (h : RR w N σx σm) : act w N σm (fX0_leastFalse σx p1) (fX6_leastFalse σm p1) := by
  have h0 := h
  obtain ⟨⟨f, hf⟩, hT⟩ := h
  have hI := hf.2.2.1
  unfold fX0_leastFalse fX6_leastFalse
  simp only [xi, wi]
  by_cases q1 : 0 ≤ p1 ∧ p1 ≤ 1
  · simp only [if_pos q1, i10, eq_self, ↓reduceIte, nd1', bd_some, sc_inl]
    obtain ⟨nc, n1, n2, n3, n4, -⟩ := hI.1
    obtain ⟨σ1, a1, a2⟩ := xfalseBy_L (y := 1) (y1 := p1) (y2 := 0) (y3 := 9) hI n1 n3 nc 0 10000 σx (by omega) (by omega) hf.1
    obtain ⟨j, z, z', σ2, τ2, d0, d1, d2, d3, d4, d5⟩ := least_L (w := w) (y1 := p1) (y1' := p1) hI n1 n3 98 2 9999 10000 1 σ1 σm (by omega) (by omega) (by omega) (by omega) (hf.1.xs zB1 zB1 a2) hf.2.1 hf.2.2.2
    have l1 := fby_le (f := f) (y := on 1) nc
    have e1 : fX0_leastFalse_L19 p1 10000 0 9 1 σx = fX0_leastFalse_L19 p1 9999 (on 1) (on (fby f (on 1) nc)) (on 2) σ1 := by
      rw [show (10000 : Nat) = 9999 + 1 from rfl, fX0_leastFalse_L19, if_neg (show ¬ (99 : Int32) < 1 by decide), show fX0_leastFalse_L32 p1 0 9 1 10000 0 0 σx = _ from a1, bd_some]
      simp only [nm_eq]
      rw [show (9 : Int32) = on 9 from rfl, min_on (by omega) (by omega), Nat.min_eq_right (by omega), if_neg (show ¬ on 9 ≤ on (fby f (on 1) nc) by rw [on_le (by omega) (by omega)]; omega)]
      rfl
    rw [e1, d1, bd_some, show fX6_leastFalse_L20 p1 10000 1 2 σm = _ from d2, bd_some]
    simp only [nm_eq]
    by_cases q : p1 = 0
    · rw [if_pos q, if_pos q]
      exact act_mk (r := on j) (σx' := σ2) (σm' := τ2) rfl rfl (RR.q hf hT zB1 (a2.tr d3) d4 d5) d4.1
    · obtain ⟨τ3, b1, b2, b3⟩ := falseBy_ok (y := j) hI n1 n3 (by omega) (hf.2.1.ms d4) d5
      rw [if_neg q, if_neg q, b1, bd_some, bd_some]
      exact act_mk (r := on (fby f (on j) nc)) (σx' := σ2) (σm' := τ3) rfl rfl (RR.q hf hT zB1 (a2.tr d3) (d4.tr b2) b3) (d4.tr b2).1
  · simp only [if_neg q1, eq_self, ↓reduceIte, nd0, bd_some, sc_inr, bd_id]
    exact err1 h0 rfl rfl
