/-! the plain law, 29: move -/
def SA (w : ZW) (σx σm : ZS) (A : Nat → Nat) : Prop := (∀ k, k < 4 → σx.2.1 7 k = some (A k) ∧ shO w σx σm k (σx.2.2.1 (A k))) ∧ (∀ k j, k < 4 → j < 4 → A k = A j → k = j) ∧ ∀ k j o o' c c' r, k < 4 → j < 4 → σx.2.2.1 (A k) = some (.inr (5, [.ref o])) → σx.2.2.1 (A j) = some (.inr (5, [.ref o'])) → σx.2.2.1 o = some (.inr (c, [.ref r])) → σx.2.2.1 o' = some (.inr (c', [.ref r])) → k = j
theorem SA.more {w : ZW} {σx σm σx' σm' : ZS} {A : Nat → Nat} (h : SA w σx σm A) (h1 : σx'.2.1 = σx.2.1) (h2 : ∀ b x, σx.2.2.1 b = some x → σx'.2.2.1 b = some x) (h3 : σm'.1 21 = σm.1 21) (h4 : σm'.1 22 = σm.1 22) (h5 : σm'.1 23 = σm.1 23) : SA w σx' σm' A := by
  obtain ⟨hA, hi, hd⟩ := h
  have oth : ∀ j, j < 4 → σx'.2.2.1 (A j) = σx.2.2.1 (A j) ∧ ∀ o, σx.2.2.1 (A j) = some (.inr (5, [.ref o])) → ∃ y, σx.2.2.1 o = some y ∧ σx'.2.2.1 o = some y := by
    intro j hj
    rcases (hA j hj).2 with ⟨u1, -⟩ | ⟨o, r, t, n, g, u1, u2, u3, u4, -⟩
    · rw [u1, h2 _ _ u1]
      exact ⟨rfl, fun o h => absurd h (by simp)⟩
    · rw [u1, h2 _ _ u1]
      refine ⟨rfl, fun o' h => ?_⟩
      cases h
      exact ⟨_, u3, h2 _ _ u3⟩
  refine ⟨fun j hj => ⟨by rw [h1]; exact (hA j hj).1, ?_⟩, hi, ?_⟩
  · unfold shO
    rw [h3, h4, h5]
    rcases (hA j hj).2 with ⟨u1, u2⟩ | ⟨o, r, t, n, g, u1, u2, u3, u4, u5, u6, u7, u8⟩
    · exact Or.inl ⟨h2 _ _ u1, u2⟩
    · exact Or.inr ⟨o, r, t, n, g, h2 _ _ u1, u2, h2 _ _ u3, h2 _ _ u4, u5, u6, u7, u8⟩
  · intro k1 k2 o o' c c' r hk1 hk2 a1 a2 a3 a4
    obtain ⟨w1, w2⟩ := oth k1 hk1
    obtain ⟨y1, y2⟩ := oth k2 hk2
    rw [w1] at a1
    rw [y1] at a2
    obtain ⟨x, x1, x2⟩ := w2 o a1
    obtain ⟨z, z1, z2⟩ := y2 o' a2
    rw [x2, ← x1] at a3
    rw [z2, ← z1] at a4
    exact hd k1 k2 o o' c c' r hk1 hk2 a1 a2 a3 a4
theorem row_L {w : ZW} {o r t n q : Nat} {g : Nat → Int32} (ht : t < 3) (hn : n ≤ 40) (ho : o ≠ q) (hr : r ≠ q) : ∀ (d i m : Nat) (σ : ZS) (h : Nat → Int32), i + d = n → d < m → σ.2.2.1 o = some (.inr (20 + t, [.ref r])) → σ.2.2.1 r = some (.inl (w.2.1 (aty t), n, .inl g)) → σ.2.2.1 q = some (.inl (w.2.1 0, n, .inl h)) → (∀ j, j < i → h j = g j) → ∃ σ' h', fX21_row_L9 w o q m (on i) σ = some (on n, σ') ∧ σ'.1 = σ.1 ∧ σ'.2.1 = σ.2.1 ∧ σ'.2.2.2 = σ.2.2.2 ∧ σ'.2.2.1 q = some (.inl (w.2.1 0, n, .inl h')) ∧ (∀ j, j < n → h' j = g j) ∧ ∀ b, b ≠ q → σ'.2.2.1 b = σ.2.2.1 b
  | 0, i, m, σ, h, hi, hm, s3, s4, hq, hh => by
    obtain ⟨m, rfl⟩ : ∃ x, m = x + 1 := ⟨m - 1, by omega⟩
    obtain rfl : i = n := by omega
    rw [fX21_row_L9, hq, oRow_of, bo_some, if_pos (Int32.le_refl _)]
    exact ⟨σ, h, rfl, rfl, rfl, rfl, hq, hh, fun _ _ => rfl⟩
  | d + 1, i, m, σ, h, hi, hm, s3, s4, hq, hh => by
    obtain ⟨m, rfl⟩ : ∃ x, m = x + 1 := ⟨m - 1, by omega⟩
    rw [fX21_row_L9, hq, oRow_of, bo_some, if_neg (show ¬ on n ≤ on i by rw [on_le (by omega) (by omega)]; omega), s3, oSheet_of ht, bo_some, get_ok ht s4 (by omega) hn, bo_some, gd_pos (on_in (n := n) (by omega) (by omega)), tn_ofNat (by omega), nm_eq, nm_eq, on_a1]
    obtain ⟨σ', h', a1, a2, a3, a4, a5, a6, a7⟩ := row_L ht hn ho hr d (i + 1) m (sP σ q (.inl (w.2.1 0, n, .inl (upd h i (g i))))) (upd h i (g i)) (by omega) (by omega) (by rw [sP_n ho]; exact s3) (by rw [sP_n hr]; exact s4) sP_s (fun j hj => by
      by_cases e : j = i
      · subst e; rw [upd_s]
      · rw [upd_n e]; exact hh j (by omega))
    exact ⟨σ', h', a1, a2, a3, a4, a5, a6, fun b hb => by rw [a7 b hb, sP_n hb]⟩
theorem row_ok {w : ZW} {σ : ZS} {o r t n : Nat} {g : Nat → Int32} (hw : ∀ a x, σ.2.2.1 a = some x → a < σ.2.2.2.1) (h1 : 4 ≤ σ.2.2.2.2.1) (h2 : 1000 ≤ σ.2.2.2.2.2) (ht : t < 3) (hn : n ≤ 40) (s3 : σ.2.2.1 o = some (.inr (20 + t, [.ref r]))) (s4 : σ.2.2.1 r = some (.inl (w.2.1 (aty t), n, .inl g))) : ∃ σ' h', fS_Sheet_row w σ o (20 + t) r = some (σ.2.2.2.1, σ') ∧ σ'.1 = σ.1 ∧ σ'.2.1 = σ.2.1 ∧ σ'.2.2.2.1 = σ.2.2.2.1 + 1 ∧ σ'.2.2.1 σ.2.2.2.1 = some (.inl (w.2.1 0, n, .inl h')) ∧ (∀ j, j < n → h' j = g j) ∧ ∀ b, b ≠ σ.2.2.2.1 → σ'.2.2.1 b = σ.2.2.1 b := by
  have l1 := hw _ _ s3
  have l2 := hw _ _ s4
  obtain ⟨σ', h', a1, a2, a3, a4, a5, a6, a7⟩ := row_L (w := w) (o := o) (r := r) (q := σ.2.2.2.1) (g := g) ht hn (by omega) (by omega) n 0 10000 (sN σ (.inl (w.2.1 0, n, .inl (fun _ => 0))) n) (fun _ => 0) (by omega) (by omega) (by rw [sN_n (by omega)]; exact s3) (by rw [sN_n (by omega)]; exact s4) sN_s (fun j hj => by omega)
  have e : fS_Sheet_row w σ o (20 + t) r = fX21_row w σ o (20 + t) r := by
    rcases (show t = 0 ∨ t = 1 ∨ t = 2 by omega) with rfl | rfl | rfl <;> rfl
  refine ⟨σ', h', ?_, a2, a3, by rw [a4]; rfl, a5, a6, fun b hb => by rw [a7 b hb, sN_n hb]⟩
  rw [e, fX21_row, size_ok ht s4, bo_some, gd_pos (on_nn (by omega)), tn_ofNat (by omega), gd_pos (show n ≤ 1000 by omega), gd_pos (show 1 ≤ σ.2.2.2.2.1 by omega), gd_pos (show n ≤ σ.2.2.2.2.2 by omega), nm_eq, nm_eq, show fX21_row_L9 w o σ.2.2.2.1 10000 0 _ = _ from a1, bd_some]
theorem move1_L {k1 q2 k3 q4 P : Nat} {g : Nat → Int32} (hk : k1 < 4) (hq : q2 + P ≤ 40) : ∀ (d i n : Nat) (τ : ZS), i + d = P → d < n → (∀ i, i < P → τ.1 23 (40 * k1 + (q2 + i)) = g (q2 + i)) → (∀ j, j < i → τ.1 24 j = g (q2 + j)) → ∃ τ', fX6_move_L128 (on k1) (on q2) (on k3) (on q4) (on P) n (on i) τ = some (on P, τ') ∧ τ'.2 = τ.2 ∧ (∀ r, r ≠ 24 → τ'.1 r = τ.1 r) ∧ ∀ j, j < P → τ'.1 24 j = g (q2 + j)
  | 0, i, n, τ, hi, hd, hs, hh => by
    obtain ⟨n, rfl⟩ : ∃ m, n = m + 1 := ⟨n - 1, by omega⟩
    obtain rfl : i = P := by omega
    rw [fX6_move_L128, if_pos (Int32.le_refl _)]
    exact ⟨τ, rfl, rfl, fun _ _ => rfl, hh⟩
  | d + 1, i, n, τ, hi, hd, hs, hh => by
    obtain ⟨n, rfl⟩ : ∃ m, n = m + 1 := ⟨n - 1, by omega⟩
    rw [fX6_move_L128, if_neg (show ¬ on P ≤ on i by rw [on_le (by omega) (by omega)]; omega), i40 hk (by omega), on_add, gd_pos (on_in (n := 160) (by omega) (by omega)), nm_eq, gd_pos (on_in (n := 40) (by omega) (by omega)), nm_eq, tn_ofNat (show i < 2147483648 by omega), tn_ofNat (show 40 * k1 + q2 + i < 2147483648 by omega), on_a1, show 40 * k1 + q2 + i = 40 * k1 + (q2 + i) by omega, hs i (by omega)]
    obtain ⟨τ', a1, a2, a3, a4⟩ := move1_L (k3 := k3) (q4 := q4) hk hq d (i + 1) n (sI τ 24 i (g (q2 + i))) (by omega) (by omega) (fun j hj => by rw [sI_r (by decide)]; exact hs j hj) (fun j hj => by
      by_cases e : j = i
      · subst e; rw [sI_s]
      · rw [sI_n e]; exact hh j (by omega))
    exact ⟨τ', a1, a2, fun r hr => by rw [a3 r hr, sI_r hr], a4⟩
def wfP (σ : ZS) : Prop := ∀ a x, σ.2.2.1 a = some x → a < σ.2.2.2.1
theorem move2_L {w : ZW} {k1 q2 k3 q4 P o1 o3 q r t n1 n3 : Nat} {v : Nat → Int32} {A : Nat → Nat} (hk : k3 < 4) (ht : t < 3) (hn1 : n1 ≤ 40) (hn3 : n3 ≤ 40) (h2 : q2 + P ≤ n1) (h4 : q4 + P ≤ n3) (hq : q ≠ r) : ∀ (d i n n' : Nat) (σ τ : ZS) (g h : Nat → Int32), i + d = P → d < n → d < n' → SA w σ τ A → wfP σ → σ.2.2.1 (A k3) = some (.inr (5, [.ref o3])) → σ.2.2.1 o3 = some (.inr (20 + t, [.ref r])) → σ.2.2.1 r = some (.inl (w.2.1 (aty t), n3, .inl g)) → τ.1 21 k3 = wid t → τ.1 22 k3 = on n3 → (∀ i, i < n3 → τ.1 23 (40 * k3 + i) = g i ∧ nar t (g i) = g i) → σ.2.2.1 q = some (.inl (w.2.1 0, n1, .inl h)) → (∀ i, i < P → h (q2 + i) = v i ∧ nar t (v i) = v i) → (∀ i, i < P → τ.1 24 i = v i) → ∃ σ' τ', fX0_move_L120 w o1 o3 q (on k1) (on q2) (on k3) (on q4) (on P) n (on i) σ = some (on P, σ') ∧ fX6_move_L165 (on k1) (on q2) (on k3) (on q4) (on P) n' (on i) τ = some (on P, τ') ∧ SA w σ' τ' A ∧ σ'.1 = σ.1 ∧ σ'.2.1 = σ.2.1 ∧ pk σ σ' ∧ wfP σ' ∧ (∀ r, r ≠ 23 → τ'.1 r = τ.1 r) ∧ τ'.2 = τ.2
  | 0, i, n, n', σ, τ, g, h, hi, hd, hd', hS, hw, s1, s3, s4, s6, s7, s8, hh, hv, hv2 => by
    obtain ⟨n, rfl⟩ : ∃ m, n = m + 1 := ⟨n - 1, by omega⟩
    obtain ⟨n', rfl⟩ : ∃ m, n' = m + 1 := ⟨n' - 1, by omega⟩
    obtain rfl : i = P := by omega
    rw [fX0_move_L120, fX6_move_L165, if_pos (Int32.le_refl _), if_pos (Int32.le_refl _)]
    exact ⟨σ, τ, rfl, rfl, hS, rfl, rfl, pk.rf, hw, fun _ _ => rfl, rfl⟩
  | d + 1, i, n, n', σ, τ, g, h, hi, hd, hd', hS, hw, s1, s3, s4, s6, s7, s8, hh, hv, hv2 => by
    obtain ⟨n, rfl⟩ : ∃ m, n = m + 1 := ⟨n - 1, by omega⟩
    obtain ⟨n', rfl⟩ : ∃ m, n' = m + 1 := ⟨n' - 1, by omega⟩
    have hle : ¬ on P ≤ on i := by rw [on_le (by omega) (by omega)]; omega
    rw [fX0_move_L120, if_neg hle, hh, oRow_of, bo_some, on_add, gd_pos (on_in (n := n1) (by omega) (by omega)), s3, oSheet_of ht, bo_some, on_add, tn_ofNat (show q2 + i < 2147483648 by omega), show (n1, h).snd (q2 + i) = v i from (hv i (by omega)).1, put_ok ht s4 (by omega) hn3, bd_some, nm_eq, on_a1]
    rw [fX6_move_L165, if_neg hle, gd_pos (on_in (n := 40) (by omega) (by omega)), nm_eq, tn_ofNat (show i < 2147483648 by omega), i40 hk (by omega), on_add, gd_pos (on_in (n := 160) (by omega) (by omega)), nm_eq, tn_ofNat (show 40 * k3 + q4 + i < 2147483648 by omega), on_a1, hv2 i (by omega), show 40 * k3 + q4 + i = 40 * k3 + (q4 + i) by omega]
    obtain ⟨b1, b2, b3, b4, b5, b6, b7, b8⟩ := SH.put (v := v i) (i := q4 + i) hS.1 hS.2.1 hS.2.2 hk s1 ht s3 s4 hn3 s6 s7 s8 (by omega)
    rw [(hv i (by omega)).2] at b1 b2 b3 b4 b5 b6 b7 b8 ⊢
    obtain ⟨σ', τ', c1, c2, c3, c4, c5, c6, c7, c8, c9⟩ := move2_L (k1 := k1) (o1 := o1) (v := v) hk ht hn1 hn3 h2 h4 hq d (i + 1) n n' _ _ _ h (by omega) (by omega) (by omega) ⟨b1, hS.2.1, b2⟩ (sP_wf s4 hw) b3 b4 b5 b6 b7 b8 (by rw [sP_n hq]; exact hh) hv (fun j hj => by rw [sI_r (by decide)]; exact hv2 j hj)
    exact ⟨σ', τ', c1, c2, c3, c4, c5, (sP_pk s4 (fun ci vs e => by cases e)).tr c6, c7, fun r hr => by rw [c8 r hr, sI_r hr], c9⟩
theorem long_cmp {n : Nat} {p q : Int32} (hn : n ≤ 40) (hp : 0 ≤ p) (hq : 0 ≤ q) : (on n - q < p ↔ 0 < lg_cmp (p.toInt64 + q.toInt64) (on n).toInt64) ∧ (on n - q < p ↔ ¬ lg_cmp (p.toInt64 + q.toInt64) (on n).toInt64 ≤ 0) ∧ (¬ on n - q < p → ∃ a b : Nat, p = on a ∧ q = on b ∧ a + b ≤ n) := by
  have h1 := i_le.mp hp
  have h2 := i_le.mp hq
  have e0 : (0 : Int32).toInt = 0 := rfl
  have u1 := p.toInt_lt
  have u2 := q.toInt_lt
  have en : (on n).toInt = (n : Int) := i_ofNat (by omega)
  have es : (on n - q).toInt = (n : Int) - q.toInt := by rw [i_sub (by omega) (by omega), en]
  have el : (p.toInt64 + q.toInt64).toInt = p.toInt + q.toInt := by
    rw [Int64.toInt_add, Int32.toInt_toInt64, Int32.toInt_toInt64]
    exact Int.bmod_eq_of_le (by omega) (by omega)
  have em : (on n).toInt64.toInt = (n : Int) := by rw [Int32.toInt_toInt64, en]
  have k : on n - q < p ↔ (n : Int) < p.toInt + q.toInt := by
    rw [i_lt, es]
    omega
  refine ⟨?_, ?_, ?_⟩
  · rw [lg_cmp_gt, Int64.lt_iff_toInt_lt, el, em]
    exact k
  · rw [lg_cmp_le, Int64.le_iff_toInt_le, el, em, k]
    omega
  · intro h
    rw [k] at h
    obtain ⟨a, a1, a2⟩ := on_ex (n := 41) hp (by omega)
    obtain ⟨b, b1, b2⟩ := on_ex (n := 41) hq (by omega)
    refine ⟨a, b, a2, b2, ?_⟩
    rw [a2, b2, i_ofNat (by omega), i_ofNat (by omega)] at h
    omega
theorem wid_inj {t s : Nat} (ht : t < 3) (hs : s < 3) : (wid t = wid s) ↔ t = s := by
  rcases (show t = 0 ∨ t = 1 ∨ t = 2 by omega) with rfl | rfl | rfl <;> rcases (show s = 0 ∨ s = 1 ∨ s = 2 by omega) with rfl | rfl | rfl <;> decide
set_option maxHeartbeats 2000000 in
theorem move_act {w : ZW} {N : Nat} {σx σm : ZS} {p1 p2 p3 p4 p5 : Int32} (hB1 : 4 ≤ σx.2.2.2.2.1) (hB2 : 1000 ≤ σx.2.2.2.2.2) (h : RR w N σx σm) : act w N σm (fX0_move w σx p1 p2 p3 p4 p5) (fX6_move σm p1 p2 p3 p4 p5) := by
  have h0 := h
  obtain ⟨⟨f, hf⟩, hT⟩ := h
  obtain ⟨A, hS⟩ : ∃ A, SA w σx σm A := hT.2.2.2.2.1
  have hA := hS.1
  have hw := hT.2.2.2.2.2
  unfold fX0_move fX6_move fX0_isSheet fX6_isSheet
  simp only [xi, wi]
  by_cases q1 : 0 ≤ p1 ∧ p1 ≤ 3
  · by_cases q3 : 0 ≤ p3 ∧ p3 ≤ 3
    · simp only [if_pos q1, if_pos q3, i10, eq_self, ↓reduceIte, nm_eq, nd1', bd_some, sc_inl, bd_id]
      obtain ⟨k, -, k2, rfl⟩ := on_rng (lo := 0) (hi := 3) (by omega) q1
      obtain ⟨j, -, j2, rfl⟩ := on_rng (lo := 0) (hi := 3) (by omega) q3
      obtain ⟨hA1, hA2⟩ := hA k (by omega)
      obtain ⟨hC1, hC2⟩ := hA j (by omega)
      rw [gd_pos (on_in (n := 4) (by omega) (by omega)), gd_pos (on_in (n := 4) (by omega) (by omega)), tn_ofNat (show k < 2147483648 by omega), tn_ofNat (show j < 2147483648 by omega)]
      rcases hA2 with ⟨s1, s2⟩ | ⟨o, r, t, n, g, s1, s2, s3, s4, s5, s6, s7, s8⟩
      · rw [sheetAt_n (by omega) hA1 s1, bd_some, sc_inr, s2, if_pos rfl]
        exact err2 h0 rfl rfl
      · rw [sheetAt_s (by omega) hA1 s1 s2 s3, bd_some, sc_inl, s6, if_neg (wid0 s2), s7]
        rcases hC2 with ⟨u1, u2⟩ | ⟨o', r', t', n', g', u1, u2, u3, u4, u5, u6, u7, u8⟩
        · rw [sheetAt_n (by omega) hC1 u1, bd_some, sc_inr, u2, if_pos rfl]
          exact err2 h0 rfl rfl
        · rw [sheetAt_s (by omega) hC1 u1 u2 u3, bd_some, sc_inl, u6, if_neg (wid0 u2), u7, s3, oSheet_of s2, bo_some, width_ok s2, bo_some, u3, oSheet_of u2, bo_some, width_ok u2, bo_some]
          by_cases qt : t = t'
          · subst qt
            rw [if_pos rfl, if_pos rfl, nd1', bd_some, sc_inl, size_ok s2 s4, size_ok s2 u4, bo_some, bo_some, s3, u3, gd_pos (oSheet_of s2), gd_pos (oSheet_of s2)]
            by_cases z5 : p5 < 0
            · simp only [if_pos z5, bo_some, nd0, bd_some, sc_inr]
              exact err1 h0 rfl rfl
            · by_cases z2 : p2 < 0
              · simp only [if_neg z5, if_pos z2, bo_some, nd0, bd_some, sc_inr]
                exact err1 h0 rfl rfl
              · by_cases z4 : p4 < 0
                · simp only [if_neg z5, if_neg z2, if_pos z4, bo_some, nd0, bd_some, sc_inr]
                  exact err1 h0 rfl rfl
                · simp only [if_neg z5, if_neg z2, if_neg z4]
                  obtain ⟨l1, -, l3⟩ := long_cmp (n := n) (p := p2) (q := p5) s5 (by grind) (by grind)
                  obtain ⟨-, m2, m3⟩ := long_cmp (n := n') (p := p4) (q := p5) u5 (by grind) (by grind)
                  by_cases z6 : on n - p5 < p2
                  · rw [if_pos z6, if_pos (l1.mp z6), bo_some, nd0, bd_some, sc_inr]
                    exact err1 h0 rfl rfl
                  · rw [if_neg z6, if_neg (fun x => z6 (l1.mpr x))]
                    by_cases z7 : on n' - p5 < p4
                    · rw [if_pos z7, if_neg (m2.mp z7), bo_some, nd0, bd_some, sc_inr]
                      exact err1 h0 rfl rfl
                    · rw [if_neg z7, if_pos (Decidable.byContradiction (fun x => z7 (m2.mpr x))), bo_some, nd1', bd_some, sc_inl]
                      obtain ⟨q2, P, rfl, rfl, hqP⟩ := l3 z6
                      obtain ⟨q4, P', rfl, e', hqP'⟩ := m3 z7
                      have e'' : P = P' := by
                        have hP' : P' < 2147483648 := by omega
                        exact (on_eq (by omega) hP').mp e'
                      subst e''
                      obtain ⟨σ1, h1, a1, a2, a3, a4, a5, a6, a7⟩ := row_ok hw hB1 hB2 s2 s5 s3 s4
                      obtain ⟨τ1, b1, b2, b3, b4⟩ := move1_L (k3 := j) (q4 := q4) (g := g) (show k < 4 by omega) (show q2 + P ≤ 40 by omega) P 0 10000 σm (by omega) (by omega) (fun i hi => (s8 (q2 + i) (by omega)).1) (fun j hj => by omega)
                      have mono : ∀ b x, σx.2.2.1 b = some x → σ1.2.2.1 b = some x := fun b x h => by
                        have := hw b x h
                        rw [a7 b (by omega)]; exact h
                      have hS1 : SA w σ1 τ1 A := hS.more a3 mono (b3 21 (by decide)) (b3 22 (by decide)) (b3 23 (by decide))
                      have hw1 : wfP σ1 := by
                        intro a x h
                        rw [a4]
                        by_cases e : a = σx.2.2.2.1
                        · omega
                        · rw [a7 a e] at h
                          have := hw a x h
                          omega
                      have lr := hw _ _ u4
                      obtain ⟨σ2, τ2, c1, c2, c3, c4, c5, c6, c7, c8, c9⟩ := move2_L (w := w) (k1 := k) (k3 := j) (q2 := q2) (q4 := q4) (P := P) (o1 := o) (q := σx.2.2.2.1) (v := fun i => g (q2 + i)) (A := A) (by omega) s2 s5 u5 hqP hqP' (by omega) P 0 10000 10000 σ1 τ1 g' h1 (by omega) (by omega) (by omega) hS1 hw1 (mono _ _ u1) (mono _ _ u3) (mono _ _ u4) (by rw [b3 21 (by decide)]; exact u6) (by rw [b3 22 (by decide)]; exact u7) (fun i hi => by rw [b3 23 (by decide)]; exact u8 i hi) a5 (fun i hi => ⟨a6 _ (by omega), (s8 (q2 + i) (by omega)).2⟩) b4
                      rw [gd_pos (by rw [s3]; exact oSheet_of s2), a1, bd_some, show fX0_move_L120 w o o' σx.2.2.2.1 (on k) (on q2) (on j) (on q4) (on P) 10000 0 σ1 = _ from c1, bd_some, show fX6_move_L128 (on k) (on q2) (on j) (on q4) (on P) 10000 0 σm = _ from b1, bd_some, show fX6_move_L165 (on k) (on q2) (on j) (on q4) (on P) 10000 0 τ1 = _ from c2, bd_some]
                      refine act_mk rfl rfl (RR.sheets hf hT (c4.trans a2) (c5.trans a3) (pk.tr (fun a ci vs h _ _ _ _ => mono _ _ h) c6) ⟨A, c3⟩ c7 (fun r a b c d => by rw [c8 r c, b3 r d])) (c9.trans b2)
          · have qt' : ¬ wid t = wid t' := fun x => qt ((wid_inj s2 u2).mp x)
            rw [if_neg qt', if_neg qt', nd0, bd_some, sc_inr]
            exact err5 h0 rfl rfl
    · simp only [if_pos q1, if_neg q3, i10, eq_self, ↓reduceIte, nm_eq, nd0, bd_some, sc_inr, bd_id]
      exact err1 h0 rfl rfl
  · simp only [if_neg q1, eq_self, ↓reduceIte, nm_eq, nd0, bd_some, sc_inr, bd_id]
    exact err1 h0 rfl rfl
