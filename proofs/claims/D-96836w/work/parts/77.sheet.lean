/-! the plain law, 28: sheet -/
theorem SH.set {w : ZW} {σx σm σx' σm' : ZS} {A : Nat → Nat} {k : Nat} (hA : ∀ k, k < 4 → σx.2.1 7 k = some (A k) ∧ shO w σx σm k (σx.2.2.1 (A k))) (hi : ∀ k j, k < 4 → j < 4 → A k = A j → k = j) (hd : ∀ k j o o' c c' r, k < 4 → j < 4 → σx.2.2.1 (A k) = some (.inr (5, [.ref o])) → σx.2.2.1 (A j) = some (.inr (5, [.ref o'])) → σx.2.2.1 o = some (.inr (c, [.ref r])) → σx.2.2.1 o' = some (.inr (c', [.ref r])) → k = j) (hw : ∀ a x, σx.2.2.1 a = some x → a < σx.2.2.2.1) (hk : k < 4) (h1 : σx'.2.1 = σx.2.1) (h2 : shO w σx' σm' k (σx'.2.2.1 (A k))) (h3 : ∀ b x, b ≠ A k → σx.2.2.1 b = some x → σx'.2.2.1 b = some x) (h4 : ∀ o c r, σx'.2.2.1 (A k) = some (.inr (5, [.ref o])) → σx'.2.2.1 o = some (.inr (c, [.ref r])) → σx.2.2.2.1 ≤ r) (h5 : ∀ j, j < 4 → j ≠ k → σm'.1 21 j = σm.1 21 j ∧ σm'.1 22 j = σm.1 22 j ∧ ∀ i, i < 40 → σm'.1 23 (40 * j + i) = σm.1 23 (40 * j + i)) : SH w σx' σm' := by
  have c5 : ∃ vs, σx.2.2.1 (A k) = some (.inr (5, vs)) := by
    rcases (hA k hk).2 with ⟨u1, -⟩ | ⟨o, r, t, n, g, u1, -⟩
    · exact ⟨_, u1⟩
    · exact ⟨_, u1⟩
  obtain ⟨vs5, c5⟩ := c5
  have ne : ∀ b ci vs, σx.2.2.1 b = some (.inr (ci, vs)) → ci ≠ 5 → b ≠ A k := by
    intro b ci vs h hc e
    rw [e, c5] at h
    cases h
    exact hc rfl
  have nl : ∀ b x, σx.2.2.1 b = some (.inl x) → b ≠ A k := by
    intro b x h e
    rw [e, c5] at h
    exact absurd h (by simp)
  have oth : ∀ j, j < 4 → j ≠ k → σx'.2.2.1 (A j) = σx.2.2.1 (A j) ∧ ∀ o, σx.2.2.1 (A j) = some (.inr (5, [.ref o])) → ∃ t r, t < 3 ∧ σx.2.2.1 o = some (.inr (20 + t, [.ref r])) ∧ σx'.2.2.1 o = some (.inr (20 + t, [.ref r])) ∧ r < σx.2.2.2.1 := by
    intro j hj hjk
    have hne : A j ≠ A k := fun e => hjk (hi j k hj hk e)
    rcases (hA j hj).2 with ⟨u1, -⟩ | ⟨o, r, t, n, g, u1, u2, u3, u4, -⟩
    · rw [u1, h3 _ _ hne u1]
      exact ⟨rfl, fun o h => absurd h (by simp)⟩
    · rw [u1, h3 _ _ hne u1]
      refine ⟨rfl, fun o' h => ?_⟩
      cases h
      exact ⟨t, r, u2, u3, h3 _ _ (ne _ _ _ u3 (by omega)) u3, hw _ _ u4⟩
  refine ⟨A, fun j hj => ⟨by rw [h1]; exact (hA j hj).1, ?_⟩, hi, ?_⟩
  · by_cases e : j = k
    · subst e; exact h2
    · have hne : A j ≠ A k := fun x => e (hi j k hj hk x)
      obtain ⟨v1, v2, v3⟩ := h5 j hj e
      rcases (hA j hj).2 with ⟨u1, u2⟩ | ⟨o, r, t, n, g, u1, u2, u3, u4, u5, u6, u7, u8⟩
      · exact Or.inl ⟨h3 _ _ hne u1, by rw [v1]; exact u2⟩
      · exact Or.inr ⟨o, r, t, n, g, h3 _ _ hne u1, u2, h3 _ _ (ne _ _ _ u3 (by omega)) u3, h3 _ _ (nl _ _ u4) u4, u5, by rw [v1]; exact u6, by rw [v2]; exact u7, fun i hi' => by rw [v3 i (by omega)]; exact u8 i hi'⟩
  · intro k1 k2 o o' c c' r hk1 hk2 a1 a2 a3 a4
    by_cases e1 : k1 = k
    · by_cases e2 : k2 = k
      · rw [e1, e2]
      · subst e1
        have hr := h4 o c r a1 a3
        obtain ⟨w1, w2⟩ := oth k2 hk2 e2
        rw [w1] at a2
        obtain ⟨t, r', -, x1, x2, x3⟩ := w2 o' a2
        rw [x2] at a4
        cases a4
        exact absurd hr (Nat.not_le.mpr x3)
    · by_cases e2 : k2 = k
      · subst e2
        have hr := h4 o' c' r a2 a4
        obtain ⟨w1, w2⟩ := oth k1 hk1 e1
        rw [w1] at a1
        obtain ⟨t, r', -, x1, x2, x3⟩ := w2 o a1
        rw [x2] at a3
        cases a3
        exact absurd hr (Nat.not_le.mpr x3)
      · obtain ⟨w1, w2⟩ := oth k1 hk1 e1
        obtain ⟨y1, y2⟩ := oth k2 hk2 e2
        rw [w1] at a1
        rw [y1] at a2
        obtain ⟨t, r1, -, x1, x2, x3⟩ := w2 o a1
        obtain ⟨t', r2, -, z1, z2, z3⟩ := y2 o' a2
        rw [x2] at a3
        rw [z2] at a4
        cases a3
        cases a4
        exact hd k1 k2 o o' _ _ _ hk1 hk2 a1 a2 x1 z1
theorem sheet_L {k : Nat} {y2 y3 : Int32} (hk : k < 4) : ∀ (d i n : Nat) (τ : ZS), i + d = 40 → d < n → ∃ τ', fX6_sheet_L93 (on k) y2 y3 n (on i) τ = some (on 40, τ') ∧ τ'.2 = τ.2 ∧ (∀ r, r ≠ 23 → τ'.1 r = τ.1 r) ∧ (∀ j, i ≤ j → j < 40 → τ'.1 23 (40 * k + j) = 0) ∧ ∀ j, ¬ (40 * k + i ≤ j ∧ j < 40 * k + 40) → τ'.1 23 j = τ.1 23 j
  | 0, i, n, τ, hi, hd => by
    obtain ⟨n, rfl⟩ : ∃ m, n = m + 1 := ⟨n - 1, by omega⟩
    obtain rfl : i = 40 := by omega
    rw [fX6_sheet_L93, if_pos (show (40 : Int32) ≤ on 40 by decide)]
    exact ⟨τ, rfl, rfl, fun _ _ => rfl, fun j a b => by omega, fun _ _ => rfl⟩
  | d + 1, i, n, τ, hi, hd => by
    obtain ⟨n, rfl⟩ : ∃ m, n = m + 1 := ⟨n - 1, by omega⟩
    rw [fX6_sheet_L93, if_neg (show ¬ (40 : Int32) ≤ on i by rw [show (40 : Int32) = on 40 from rfl, on_le (by omega) (by omega)]; omega), i40 hk (by omega), gd_pos (on_in (n := 160) (by omega) (by omega)), nm_eq, tn_ofNat (show 40 * k + i < 2147483648 by omega), on_a1]
    obtain ⟨τ', a1, a2, a3, a4, a5⟩ := sheet_L (k := k) (y2 := y2) (y3 := y3) hk d (i + 1) n (sI τ 23 (40 * k + i) 0) (by omega) (by omega)
    refine ⟨τ', a1, a2, fun r hr => by rw [a3 r hr, sI_r hr], fun j h1 h2 => ?_, fun j hj => by rw [a5 j (by omega), sI_n (by omega)]⟩
    by_cases e : j = i
    · subst e
      rw [a5 _ (by omega), sI_s]
    · exact a4 j (by omega) h2
theorem sN_s {σ : ZS} {x : va_E} {n : Nat} : (sN σ x n).2.2.1 σ.2.2.2.1 = some x := by
  show (if σ.2.2.2.1 = σ.2.2.2.1 then some x else _) = _
  rw [if_pos rfl]
theorem sN_n {σ : ZS} {a n : Nat} {x : va_E} (h : a ≠ σ.2.2.2.1) : (sN σ x n).2.2.1 a = σ.2.2.1 a := by
  show (if a = σ.2.2.2.1 then some x else _) = _
  rw [if_neg h]
/-- a new sheet of kind t and n figures, at the pool's end -/
def nsx (w : ZW) (σ : ZS) (t n : Nat) : ZS := sP (sN (sN σ (.inr (20 + t, [.null])) 1) (.inl (w.2.1 (aty t), n, .inl (fun _ => 0))) n) σ.2.2.2.1 (.inr (20 + t, [.ref (σ.2.2.2.1 + 1)]))
theorem nsx_init {w : ZW} {σ : ZS} {n : Nat} (hn : n ≤ 40) (h1 : 4 ≤ σ.2.2.2.2.1) (h2 : 1000 ≤ σ.2.2.2.2.2) : fX22_init w (sN σ (.inr (20, [.null])) 1) σ.2.2.2.1 (on n) = some ((), nsx w σ 0 n) ∧ fX23_init w (sN σ (.inr (21, [.null])) 1) σ.2.2.2.1 (on n) = some ((), nsx w σ 1 n) ∧ fX24_init w (sN σ (.inr (22, [.null])) 1) σ.2.2.2.1 (on n) = some ((), nsx w σ 2 n) := by
  have tn : (on n).toNatClampNeg = n := tn_ofNat (by omega)
  have c1 : ∀ x, 1 ≤ (sN σ x 1).2.2.2.2.1 := fun x => show 1 ≤ σ.2.2.2.2.1 - 1 by omega
  have c2 : ∀ x, n ≤ (sN σ x 1).2.2.2.2.2 := fun x => show n ≤ σ.2.2.2.2.2 - 1 by omega
  have o : ∀ (c : Nat) (y : va_E), (sN (sN σ (.inr (c, [.null])) 1) y n).2.2.1 σ.2.2.2.1 = some (.inr (c, [.null])) := by
    intro c y
    rw [sN_n (show σ.2.2.2.1 ≠ σ.2.2.2.1 + 1 by omega), sN_s]
  refine ⟨?_, ?_, ?_⟩
  · unfold fX22_init fX21_init
    rw [bo_some, gd_pos (on_nn (by omega)), tn, gd_pos (show n ≤ 1000 by omega), gd_pos (c1 _), gd_pos (c2 _), nm_eq, nm_eq, o, gd_pos (show oNul (some (.inr (20, [.null]))) = some 20 from rfl), nm_eq]
    rfl
  · unfold fX23_init fX21_init
    rw [bo_some, gd_pos (on_nn (by omega)), tn, gd_pos (show n ≤ 1000 by omega), gd_pos (c1 _), gd_pos (c2 _), nm_eq, nm_eq, o, gd_pos (show oNul (some (.inr (21, [.null]))) = some 21 from rfl), nm_eq]
    rfl
  · unfold fX24_init fX21_init
    rw [bo_some, gd_pos (on_nn (by omega)), tn, gd_pos (show n ≤ 1000 by omega), gd_pos (c1 _), gd_pos (c2 _), nm_eq, nm_eq, o, gd_pos (show oNul (some (.inr (22, [.null]))) = some 22 from rfl), nm_eq]
    rfl
theorem nsx_at {w : ZW} {σ : ZS} {t n : Nat} : (nsx w σ t n).2.2.1 σ.2.2.2.1 = some (.inr (20 + t, [.ref (σ.2.2.2.1 + 1)])) ∧ (nsx w σ t n).2.2.1 (σ.2.2.2.1 + 1) = some (.inl (w.2.1 (aty t), n, .inl (fun _ => 0))) ∧ ∀ b, b < σ.2.2.2.1 → (nsx w σ t n).2.2.1 b = σ.2.2.1 b := by
  unfold nsx
  refine ⟨sP_s, ?_, fun b hb => ?_⟩
  · rw [sP_n (by omega)]
    exact sN_s (σ := sN σ (.inr (20 + t, [.null])) 1)
  · rw [sP_n (by omega), sN_n (show b ≠ σ.2.2.2.1 + 1 by omega), sN_n (by omega)]
theorem nsx_wf {w : ZW} {σ : ZS} {t n : Nat} (hw : ∀ a x, σ.2.2.1 a = some x → a < σ.2.2.2.1) : ∀ a x, (nsx w σ t n).2.2.1 a = some x → a < σ.2.2.2.1 + 2 := by
  intro a x h
  by_cases e1 : a = σ.2.2.2.1
  · omega
  · by_cases e2 : a = σ.2.2.2.1 + 1
    · omega
    · unfold nsx at h
      rw [sP_n e1, sN_n (show a ≠ σ.2.2.2.1 + 1 from e2), sN_n e1] at h
      have := hw a x h
      omega
theorem nar0 {t : Nat} : nar t 0 = 0 := by
  unfold nar
  split
  · rfl
  · split <;> rfl
theorem shelf_at {w : ZW} {σx σm : ZS} {k : Nat} {x : Option va_E} (h : shO w σx σm k x) : ∃ vs o, x = some (.inr (5, vs)) ∧ oShelf x = some o := by
  rcases h with ⟨u1, -⟩ | ⟨o, r, t, n, g, u1, -⟩
  · exact ⟨_, none, u1, by rw [u1]; rfl⟩
  · exact ⟨_, some o, u1, by rw [u1]; rfl⟩
/-- a sheet laid -/
theorem laid_ok {w : ZW} {N k t n : Nat} {f : Nat → Int32} {σx σm : ZS} {A : Nat → Nat} {y2 y3 : Int32} (hf : RM w f σx σm) (hT : RT w N σx σm) (hA : ∀ k, k < 4 → σx.2.1 7 k = some (A k) ∧ shO w σx σm k (σx.2.2.1 (A k))) (hi : ∀ k j, k < 4 → j < 4 → A k = A j → k = j) (hd : ∀ k j o o' c c' r, k < 4 → j < 4 → σx.2.2.1 (A k) = some (.inr (5, [.ref o])) → σx.2.2.1 (A j) = some (.inr (5, [.ref o'])) → σx.2.2.1 o = some (.inr (c, [.ref r])) → σx.2.2.1 o' = some (.inr (c', [.ref r])) → k = j) (hk : k < 4) (ht : t < 3) (hn : n ≤ 40) : ∃ τ, fX6_sheet_L93 (on k) y2 y3 10000 0 (sI (sI σm 21 k (wid t)) 22 k (on n)) = some (on 40, τ) ∧ τ.2 = σm.2 ∧ RR w (N + 1) (sP (nsx w σx t n) (A k) (.inr (5, [.ref σx.2.2.2.1]))) τ := by
  have hw := hT.2.2.2.2.2
  obtain ⟨τ, a1, a2, a3, a4, a5⟩ := sheet_L (y2 := y2) (y3 := y3) hk 40 0 10000 (sI (sI σm 21 k (wid t)) 22 k (on n)) (by omega) (by omega)
  obtain ⟨m1, m2, m3⟩ := nsx_at (w := w) (σ := σx) (t := t) (n := n)
  obtain ⟨vs5, o5, c5, -⟩ := shelf_at (hA k hk).2
  have hAk := hw _ _ c5
  have e21 : τ.1 21 = (sI σm 21 k (wid t)).1 21 := by rw [a3 21 (by decide), sI_r (by decide)]
  have e22 : τ.1 22 = (sI (sI σm 21 k (wid t)) 22 k (on n)).1 22 := a3 22 (by decide)
  have p0 : ∀ b, b ≠ A k → (sP (nsx w σx t n) (A k) (.inr (5, [.ref σx.2.2.2.1]))).2.2.1 b = (nsx w σx t n).2.2.1 b := fun b hb => sP_n hb
  refine ⟨τ, a1, a2, RR.sheets hf hT rfl rfl ?_ (SH.set hA hi hd hw hk rfl ?_ ?_ ?_ ?_) ?_ (fun r h1 h2 h3 _ => by rw [a3 r h3, sI_r h2, sI_r h1])⟩
  · intro a ci vs h i1 i2 i3 i4
    have hl := hw _ _ h
    rw [p0 a (fun e => by rw [e, c5] at h; cases h; omega), m3 a hl]
    exact h
  · refine Or.inr ⟨σx.2.2.2.1, σx.2.2.2.1 + 1, t, n, fun _ => 0, sP_s, ht, ?_, ?_, hn, ?_, ?_, ?_⟩
    · rw [p0 _ (by omega)]; exact m1
    · rw [p0 _ (by omega)]; exact m2
    · rw [e21, sI_s]
    · rw [e22, sI_s]
    · intro i hi'
      exact ⟨a4 i (by omega) (by omega), nar0⟩
  · intro b x hb h
    rw [p0 b hb, m3 b (hw _ _ h)]
    exact h
  · intro o c r h1 h2
    rw [sP_s] at h1
    cases h1
    rw [p0 _ (by omega), m1] at h2
    cases h2
    omega
  · intro j hj hjk
    rw [e21, e22, sI_n hjk, sI_n hjk, sI_r (by decide)]
    exact ⟨rfl, rfl, fun i hi' => by rw [a5 _ (by omega), sI_r (by decide), sI_r (by decide)]⟩
  · intro a x h
    show a < σx.2.2.2.1 + 2
    by_cases e : a = A k
    · omega
    · rw [p0 a e] at h
      exact nsx_wf hw a x h
theorem cleared_ok {w : ZW} {N k : Nat} {f : Nat → Int32} {σx σm : ZS} {A : Nat → Nat} {y2 y3 : Int32} (hf : RM w f σx σm) (hT : RT w N σx σm) (hA : ∀ k, k < 4 → σx.2.1 7 k = some (A k) ∧ shO w σx σm k (σx.2.2.1 (A k))) (hi : ∀ k j, k < 4 → j < 4 → A k = A j → k = j) (hd : ∀ k j o o' c c' r, k < 4 → j < 4 → σx.2.2.1 (A k) = some (.inr (5, [.ref o])) → σx.2.2.1 (A j) = some (.inr (5, [.ref o'])) → σx.2.2.1 o = some (.inr (c, [.ref r])) → σx.2.2.1 o' = some (.inr (c', [.ref r])) → k = j) (hk : k < 4) : ∃ τ, fX6_sheet_L93 (on k) y2 y3 10000 0 (sI (sI σm 21 k 0) 22 k 0) = some (on 40, τ) ∧ τ.2 = σm.2 ∧ RR w (N + 1) (sP σx (A k) (.inr (5, [.null]))) τ := by
  have hw := hT.2.2.2.2.2
  obtain ⟨τ, a1, a2, a3, a4, a5⟩ := sheet_L (y2 := y2) (y3 := y3) hk 40 0 10000 (sI (sI σm 21 k 0) 22 k 0) (by omega) (by omega)
  obtain ⟨vs5, o5, c5, -⟩ := shelf_at (hA k hk).2
  have e21 : τ.1 21 = (sI σm 21 k 0).1 21 := by rw [a3 21 (by decide), sI_r (by decide)]
  have e22 : τ.1 22 = (sI (sI σm 21 k 0) 22 k 0).1 22 := a3 22 (by decide)
  refine ⟨τ, a1, a2, RR.sheets hf hT rfl rfl (sP_pk c5 (fun ci vs e _ _ _ _ => by cases e; omega)) (SH.set hA hi hd hw hk rfl ?_ ?_ ?_ ?_) (sP_wf c5 hw) (fun r h1 h2 h3 _ => by rw [a3 r h3, sI_r h2, sI_r h1])⟩
  · exact Or.inl ⟨sP_s, by rw [e21, sI_s]⟩
  · intro b x hb h
    rw [sP_n hb]
    exact h
  · intro o c r h1 h2
    rw [sP_s] at h1
    exact absurd h1 (by simp)
  · intro j hj hjk
    rw [e21, e22, sI_n hjk, sI_n hjk, sI_r (by decide)]
    exact ⟨rfl, rfl, fun i hi' => by rw [a5 _ (by omega), sI_r (by decide), sI_r (by decide)]⟩
set_option maxHeartbeats 4000000 in
theorem sheet_act {w : ZW} {N : Nat} {σx σm : ZS} {p1 p2 p3 : Int32} (hB1 : 4 ≤ σx.2.2.2.2.1) (hB2 : 1000 ≤ σx.2.2.2.2.2) (h : RR w N σx σm) : act w N σm (fX0_sheet w σx p1 p2 p3) (fX6_sheet σm p1 p2 p3) := by
  have h0 := h
  obtain ⟨⟨f, hf⟩, hT⟩ := h
  obtain ⟨A, hA, hi, hd⟩ := hT.2.2.2.2.1
  unfold fX0_sheet fX6_sheet fX0_isSheet fX6_isSheet fX0_isWidth
  simp only [xi, wi]
  by_cases q1 : 0 ≤ p1 ∧ p1 ≤ 3
  · obtain ⟨k, -, k2, rfl⟩ := on_rng (lo := 0) (hi := 3) (by omega) q1
    obtain ⟨hA1, hA2⟩ := hA k (by omega)
    obtain ⟨vs5, o5, c5, c6⟩ := shelf_at hA2
    have tk : (on k).toNatClampNeg = k := tn_ofNat (by omega)
    have gk : ¬ (on k < 0 ∨ 4 ≤ k) := by have := on_in (a := k) (n := 4) (by omega) (by omega); rwa [tk] at this
    by_cases z0 : p2 = 0
    · subst z0
      simp only [if_pos q1, i10, eq_self, ↓reduceIte, nm_eq, nd1', bd_some, sc_inl, tk, gd_pos gk]
      obtain ⟨τ, a1, a2, a3⟩ := cleared_ok (y2 := 0) (y3 := p3) hf hT hA hi hd (show k < 4 by omega)
      rw [hA1, bo_some, c6, bo_some, a1, bd_some]
      exact act_mk rfl rfl a3 a2
    · have main : ∀ t, t < 3 → p2 = wid t → ∀ (x m y : Option (Int32 × ZS)), x = (if p3 < 0 then fX0_finds (sI σx 1 6 3) else if 40 < p3 then fX0_finds (sI σx 1 6 1) else y) → (∀ n, n ≤ 40 → p3 = on n → y = some (1, sP (nsx w σx t n) (A k) (.inr (5, [.ref σx.2.2.2.1])))) → m = (if 0 ≤ p3 then (if p3 ≤ 40 then bd (fX6_sheet_L93 (on k) p2 p3 10000 0 (sI (sI σm 21 k p2) 22 k p3)) (fun _ σ => some (1, σ)) else fX6_finding σm (-1000000001)) else fX6_finding σm (-1000000003)) → act w N σm x m := by
        intro t ht e x m y hx hy hm
        by_cases r1 : 0 ≤ p3
        · by_cases r2 : p3 ≤ 40
          · obtain ⟨n, -, n2, rfl⟩ := on_rng (lo := 0) (hi := 40) (by omega) ⟨r1, r2⟩
            obtain ⟨τ, a1, a2, a3⟩ := laid_ok (y2 := p2) (y3 := on n) hf hT hA hi hd (show k < 4 by omega) ht n2
            rw [if_neg (on_nn (by omega)), if_neg (show ¬ 40 < on n by rw [show (40 : Int32) = on 40 from rfl, on_lt (by omega) (by omega)]; omega), hy n n2 rfl] at hx
            rw [if_pos r1, if_pos r2, e] at hm
            rw [e] at a1
            rw [a1, bd_some] at hm
            exact act_mk hx hm a3 a2
          · rw [if_neg (show ¬ p3 < 0 by grind), if_pos (show 40 < p3 by grind)] at hx
            rw [if_pos r1, if_neg r2] at hm
            exact err1 h0 hx hm
        · rw [if_pos (show p3 < 0 by grind)] at hx
          rw [if_neg r1] at hm
          exact err3 h0 hx hm
      have xm : ∀ (y : ZS → Option (Int32 × ZS)), (bd (fX0_need σx (if p3 < 0 then 0 else 1) 3) (fun r_9 σ_11 => sc r_9 (fun _ => bd (fX0_need σ_11 (if 40 < p3 then 0 else 1) 1) (fun r_15 σ_17 => sc r_15 (fun _ => y σ_17) (fun _ => fX0_finds σ_17))) (fun _ => fX0_finds σ_11))) = (if p3 < 0 then fX0_finds (sI σx 1 6 3) else if 40 < p3 then fX0_finds (sI σx 1 6 1) else y σx) := by
        intro y
        by_cases r1 : p3 < 0
        · rw [if_pos r1, if_pos r1, nd0, bd_some, sc_inr]
        · rw [if_neg r1, if_neg r1, nd1', bd_some, sc_inl]
          by_cases r2 : 40 < p3
          · rw [if_pos r2, if_pos r2, nd0, bd_some, sc_inr]
          · rw [if_neg r2, if_neg r2, nd1', bd_some, sc_inl]
      have sh : ∀ t n, oShelf ((nsx w σx t n).2.2.1 (A k)) = some o5 := by
        intro t n
        rw [nsx_at.2.2 _ (hT.2.2.2.2.2 _ _ c5)]
        exact c6
      by_cases z8 : p2 = 8
      · subst z8
        simp only [if_pos q1, i10, eq_self, ↓reduceIte, nm_eq, nd1', bd_some, sc_inl, tk, gd_pos gk, bd_id, z0, xm]
        refine main 0 (by decide) rfl _ _ _ rfl ?_ rfl
        rintro n hn rfl
        rw [hA1, bo_some, gd_pos (show 1 ≤ σx.2.2.2.2.1 by omega), gd_pos (show 1 ≤ σx.2.2.2.2.2 by omega), (nsx_init hn hB1 hB2).1, bd_some, sh, bo_some]
      · by_cases z16 : p2 = 16
        · subst z16
          simp only [if_pos q1, i10, eq_self, ↓reduceIte, nm_eq, nd1', bd_some, sc_inl, tk, gd_pos gk, bd_id, z0, z8, xm]
          refine main 1 (by decide) rfl _ _ _ rfl ?_ rfl
          rintro n hn rfl
          rw [hA1, bo_some, gd_pos (show 1 ≤ σx.2.2.2.2.1 by omega), gd_pos (show 1 ≤ σx.2.2.2.2.2 by omega), (nsx_init hn hB1 hB2).2.1, bd_some, sh, bo_some]
        · by_cases z32 : p2 = 32
          · subst z32
            simp only [if_pos q1, i10, eq_self, ↓reduceIte, nm_eq, nd1', bd_some, sc_inl, tk, gd_pos gk, bd_id, z0, z8, z16, xm]
            refine main 2 (by decide) rfl _ _ _ rfl ?_ rfl
            rintro n hn rfl
            rw [hA1, bo_some, gd_pos (show 1 ≤ σx.2.2.2.2.1 by omega), gd_pos (show 1 ≤ σx.2.2.2.2.2 by omega), (nsx_init hn hB1 hB2).2.2, bd_some, sh, bo_some]
          · simp only [if_pos q1, if_neg z0, if_neg z8, if_neg z16, if_neg z32, i10, eq_self, ↓reduceIte, nm_eq, nd0, bd_some, sc_inr, bd_id]
            exact err1 h0 rfl rfl
  · simp only [if_neg q1, eq_self, ↓reduceIte, nm_eq, nd0, bd_some, sc_inr, bd_id]
    exact err1 h0 rfl rfl
