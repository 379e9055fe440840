/-! the plain law, 31: ship, become -/
theorem sG_1 {σ : ZS} {r j : Nat} {v : Option Nat} : (sG σ r j v).1 = σ.1 := rfl
theorem sG_3 {σ : ZS} {r j : Nat} {v : Option Nat} : (sG σ r j v).2.2 = σ.2.2 := rfl
theorem sG_r {σ : ZS} {r j a : Nat} {v : Option Nat} (h : a ≠ r) : (sG σ r j v).2.1 a = σ.2.1 a := by
  funext b
  show (if a = r then (if b = j then v else σ.2.1 a b) else σ.2.1 a b) = _
  rw [if_neg h]
theorem sG_s {σ : ZS} {r j : Nat} {v : Option Nat} : (sG σ r j v).2.1 r j = v := by
  show (if r = r then (if j = j then v else σ.2.1 r j) else σ.2.1 r j) = _
  rw [if_pos rfl, if_pos rfl]
theorem sG_n {σ : ZS} {r j b : Nat} {v : Option Nat} (h : b ≠ j) : (sG σ r j v).2.1 r b = σ.2.1 r b := by
  show (if r = r then (if b = j then v else σ.2.1 r b) else σ.2.1 r b) = _
  rw [if_pos rfl, if_neg h]
theorem upd_comm {f : Nat → Int32} {i j : Nat} {a b : Int32} (h : i ≠ j) : upd (upd f i a) j b = upd (upd f j b) i a := by
  funext x
  by_cases e : x = j
  · subst e
    rw [upd_s, upd_n (Ne.symm h), upd_s]
  · rw [upd_n e]
    by_cases e2 : x = i
    · subst e2
      rw [upd_s, upd_s]
    · rw [upd_n e2, upd_n e2, upd_n e]
/-- a cell more at the pool's end -/
def one (σ σ' : ZS) (x : va_E) : Prop := σ'.1 = σ.1 ∧ σ'.2.1 = σ.2.1 ∧ σ'.2.2.2.1 = σ.2.2.2.1 + 1 ∧ σ'.2.2.1 σ.2.2.2.1 = some x ∧ ∀ b, b ≠ σ.2.2.2.1 → σ'.2.2.1 b = σ.2.2.1 b
theorem one.up {σ σ' : ZS} {x : va_E} (h : one σ σ' x) (hw : wfP σ) : (∀ b y, σ.2.2.1 b = some y → σ'.2.2.1 b = some y) ∧ wfP σ' := by
  obtain ⟨-, -, h3, -, h5⟩ := h
  refine ⟨fun b y hb => ?_, fun a y ha => ?_⟩
  · have := hw b y hb
    rw [h5 b (by omega)]; exact hb
  · rw [h3]
    by_cases e : a = σ.2.2.2.1
    · omega
    · rw [h5 a e] at ha
      have := hw a y ha
      omega
theorem init9 {w : ZW} {σ : ZS} {c : Nat} {p3 p4 : Int32} {x : va_E} : ∃ σ', fX9_init w (sN σ x 3) σ.2.2.2.1 c p3 p4 = some ((), σ') ∧ one σ σ' (.inr (c, [.ref (w.2.2 4), .int p3, .int p4])) := by
  refine ⟨_, rfl, rfl, rfl, rfl, sP_s, fun b hb => ?_⟩
  rw [sP_n hb, sP_n hb, sP_n hb, sN_n hb]
theorem shipOf_ok {w : ZW} {σ : ZS} {k : Nat} {p3 p4 : Int32} (h1 : 4 ≤ σ.2.2.2.2.1) (h2 : 1000 ≤ σ.2.2.2.2.2) (hk : k < 7) : ∃ σ', fX0_shipOf w σ (on k) p3 p4 = some (σ.2.2.2.1, σ') ∧ one σ σ' (.inr (8 + k, [.ref (w.2.2 4), .int p3, .int p4])) := by
  have g1 : 1 ≤ σ.2.2.2.2.1 := by omega
  have g2 : 3 ≤ σ.2.2.2.2.2 := by omega
  rcases (show k = 0 ∨ k = 1 ∨ k = 2 ∨ k = 3 ∨ k = 4 ∨ k = 5 ∨ k = 6 by omega) with rfl | rfl | rfl | rfl | rfl | rfl | rfl
  · obtain ⟨σ', a1, a2⟩ := init9 (w := w) (σ := σ) (c := 8) (p3 := p3) (p4 := p4) (x := .inr (8, [.null, .int 0, .int 0]))
    refine ⟨σ', ?_, a2⟩
    unfold fX0_shipOf
    rw [if_neg (by decide), if_neg (by decide), if_neg (by decide), if_neg (by decide), if_neg (by decide), if_neg (by decide), gd_pos (by decide), gd_pos g1, gd_pos g2, nm_eq, nm_eq, a1, bd_some]
  · obtain ⟨σ', a1, a2⟩ := init9 (w := w) (σ := σ) (c := 9) (p3 := p3) (p4 := p4) (x := .inr (9, [.null, .int 0, .int 0]))
    refine ⟨σ', ?_, a2⟩
    unfold fX0_shipOf fX10_init
    rw [if_pos (by decide), gd_pos g1, gd_pos g2, nm_eq, nm_eq, a1]
    rfl
  · obtain ⟨σ', a1, a2⟩ := init9 (w := w) (σ := σ) (c := 10) (p3 := p3) (p4 := p4) (x := .inr (10, [.null, .int 0, .int 0]))
    refine ⟨σ', ?_, a2⟩
    unfold fX0_shipOf fX11_init
    rw [if_neg (by decide), if_pos (by decide), gd_pos g1, gd_pos g2, nm_eq, nm_eq]
    first | (rw [a1]; rfl) | (unfold fX10_init; rw [a1]; rfl) | (unfold fX12_init; rw [a1]; rfl)
  · obtain ⟨σ', a1, a2⟩ := init9 (w := w) (σ := σ) (c := 11) (p3 := p3) (p4 := p4) (x := .inr (11, [.null, .int 0, .int 0]))
    refine ⟨σ', ?_, a2⟩
    unfold fX0_shipOf fX12_init
    rw [if_neg (by decide), if_neg (by decide), if_pos (by decide), gd_pos g1, gd_pos g2, nm_eq, nm_eq]
    first | (rw [a1]; rfl) | (unfold fX10_init; rw [a1]; rfl) | (unfold fX11_init; rw [a1]; rfl) | (unfold fX11_init fX10_init; rw [a1]; rfl)
  · obtain ⟨σ', a1, a2⟩ := init9 (w := w) (σ := σ) (c := 12) (p3 := p3) (p4 := p4) (x := .inr (12, [.null, .int 0, .int 0]))
    refine ⟨σ', ?_, a2⟩
    unfold fX0_shipOf fX13_init
    rw [if_neg (by decide), if_neg (by decide), if_neg (by decide), if_pos (by decide), gd_pos g1, gd_pos g2, nm_eq, nm_eq]
    first | (rw [a1]; rfl) | (unfold fX10_init; rw [a1]; rfl) | (unfold fX11_init; rw [a1]; rfl) | (unfold fX11_init fX10_init; rw [a1]; rfl) | (unfold fX12_init; rw [a1]; rfl) | (unfold fX12_init fX10_init; rw [a1]; rfl) | (unfold fX12_init fX11_init; rw [a1]; rfl)
  · obtain ⟨σ', a1, a2⟩ := init9 (w := w) (σ := σ) (c := 13) (p3 := p3) (p4 := p4) (x := .inr (13, [.null, .int 0, .int 0]))
    refine ⟨σ', ?_, a2⟩
    unfold fX0_shipOf fX14_init
    rw [if_neg (by decide), if_neg (by decide), if_neg (by decide), if_neg (by decide), if_pos (by decide), gd_pos g1, gd_pos g2, nm_eq, nm_eq]
    first | (rw [a1]; rfl) | (unfold fX10_init; rw [a1]; rfl) | (unfold fX11_init; rw [a1]; rfl) | (unfold fX11_init fX10_init; rw [a1]; rfl) | (unfold fX12_init; rw [a1]; rfl) | (unfold fX12_init fX10_init; rw [a1]; rfl) | (unfold fX12_init fX11_init; rw [a1]; rfl) | (unfold fX13_init; rw [a1]; rfl) | (unfold fX13_init fX10_init; rw [a1]; rfl)
  · obtain ⟨σ', a1, a2⟩ := init9 (w := w) (σ := σ) (c := 14) (p3 := p3) (p4 := p4) (x := .inr (14, [.null, .int 0, .int 0]))
    refine ⟨σ', ?_, a2⟩
    unfold fX0_shipOf fX15_init
    rw [if_neg (by decide), if_neg (by decide), if_neg (by decide), if_neg (by decide), if_neg (by decide), if_pos (by decide), gd_pos g1, gd_pos g2, nm_eq, nm_eq]
    first | (rw [a1]; rfl) | (unfold fX12_init; rw [a1]; rfl) | (unfold fX12_init fX10_init; rw [a1]; rfl) | (unfold fX12_init fX11_init; rw [a1]; rfl)
theorem ten : ∀ k, k < 70 → on k / 10 = on (k / 10) ∧ on k - on k / 10 * 10 = on (k % 10) := by decide +kernel
/-- the ship object of berth s changes -/
theorem BR.crew {w : ZW} {σ σ1 : ZS} {b s a k : Nat} {f : Nat → Int32} {m : Int32} (h : BR w σ b f) (e1 : σ1.1 = σ.1) (e2 : σ1.2.1 = σ.2.1) (e3 : ∀ b y, σ.2.2.1 b = some y → σ1.2.2.1 b = some y) (hs : s < 7) (hk : k < 7) (ha : σ1.2.2.1 a = some (.inr (8 + k, [.ref (w.2.2 4), .int (on s), .int m]))) : BR w (sG σ1 (b + 10) s (some a)) b (upd (upd f (33 + 5 * s) (on k)) (34 + 5 * s) m) := by
  have h1 : BR w σ1 b f := h.congr (fun k _ => by rw [e1]) (fun k _ => by rw [e2]) (fun a ci vs x _ _ _ _ => e3 _ _ x)
  obtain ⟨hn, hc, hS, hh, ht, hw, hx⟩ := h1
  refine ⟨?_, ?_, ?_, ?_, ?_, ?_, ?_⟩
  · unfold bN at *
    rw [sG_1]
    simp only [upd_n (show (0 : Nat) ≠ 34 + 5 * s by omega), upd_n (show (0 : Nat) ≠ 33 + 5 * s by omega), upd_n (show (1 : Nat) ≠ 34 + 5 * s by omega), upd_n (show (1 : Nat) ≠ 33 + 5 * s by omega), upd_n (show (2 : Nat) ≠ 34 + 5 * s by omega), upd_n (show (2 : Nat) ≠ 33 + 5 * s by omega), upd_n (show (3 : Nat) ≠ 34 + 5 * s by omega), upd_n (show (3 : Nat) ≠ 33 + 5 * s by omega), upd_n (show (4 : Nat) ≠ 34 + 5 * s by omega), upd_n (show (4 : Nat) ≠ 33 + 5 * s by omega), upd_n (show (5 : Nat) ≠ 34 + 5 * s by omega), upd_n (show (5 : Nat) ≠ 33 + 5 * s by omega), upd_n (show (6 : Nat) ≠ 34 + 5 * s by omega), upd_n (show (6 : Nat) ≠ 33 + 5 * s by omega), upd_n (show (7 : Nat) ≠ 34 + 5 * s by omega), upd_n (show (7 : Nat) ≠ 33 + 5 * s by omega), upd_n (show (8 : Nat) ≠ 34 + 5 * s by omega), upd_n (show (8 : Nat) ≠ 33 + 5 * s by omega)]
    exact hn
  · intro c hc'
    rw [sG_1, upd_n (by omega), upd_n (by omega), upd_n (by omega), upd_n (by omega), upd_n (by omega), upd_n (by omega)]
    exact hc c hc'
  · intro c hc'
    rw [sG_1, upd_n (by omega), upd_n (by omega), upd_n (by omega), upd_n (by omega), upd_n (by omega), upd_n (by omega)]
    exact hS c hc'
  · intro c hc'
    by_cases e : c = s
    · subst e
      refine Or.inr ⟨a, k, sG_s, hk, ?_, ?_⟩
      · rw [sG_3, upd_s]; exact ha
      · rw [upd_n (by omega), upd_s]
    · rw [sG_n e, sG_3, upd_n (show 2 ≠ 34 + 5 * s by omega), upd_n (show 2 ≠ 33 + 5 * s by omega), upd_n (show 34 + 5 * c ≠ 34 + 5 * s by omega), upd_n (show 34 + 5 * c ≠ 33 + 5 * s by omega), upd_n (show 33 + 5 * c ≠ 34 + 5 * s by omega), upd_n (show 33 + 5 * c ≠ 33 + 5 * s by omega)]
      exact hh c hc'
  · intro c hc'
    rw [sG_1, upd_n (by omega), upd_n (by omega)]
    exact ht c hc'
  · intro c hc'
    rw [sG_1, upd_n (by omega), upd_n (by omega)]
    exact hw c hc'
  · have x2 : bX σ1 b (upd (upd f (33 + 5 * s) (on k)) (34 + 5 * s) m) := (hx.up (r := b) (j := 0) (v := σ1.1 b 0) (v' := on k) (show _ ∨ _ by omega)).up (r := b) (j := 0) (v := σ1.1 b 0) (v' := m) (show _ ∨ _ by omega)
    intro u hu
    rw [sG_r (by omega), sG_3]
    exact x2 u hu
theorem BR.ships {w : ZW} {σ : ZS} {b n a : Nat} {f : Nat → Int32} (h : BR w σ b f) (hn2 : f 2 = on n) (h7 : n < 7) (ha : σ.2.1 (b + 10) n = some a) : BR w (sI σ b 8 (on (n + 1))) b (upd f 2 (on (n + 1))) := by
  obtain ⟨hn, hc, hS, hh, ht, hw, hx⟩ := h
  refine ⟨?_, ?_, ?_, ?_, ?_, ?_, hx.up (by omega)⟩
  · unfold bN at *
    rw [upd_s, sI_s, upd_n (by decide), upd_n (by decide), upd_n (by decide), upd_n (by decide), upd_n (by decide), upd_n (by decide), upd_n (by decide), upd_n (by decide), sI_n (by decide), sI_n (by decide), sI_n (by decide), sI_n (by decide), sI_n (by decide), sI_n (by decide), sI_n (by decide), sI_n (by decide)]
    exact ⟨hn.1, hn.2.1, rfl, hn.2.2.2⟩
  · intro c hc'
    rw [upd_n (by omega), upd_n (by omega), upd_n (by omega), sI_r (by omega), sI_r (by omega), sI_r (by omega)]
    exact hc c hc'
  · intro c hc'
    rw [upd_n (by omega), upd_n (by omega), upd_n (by omega), sI_r (by omega), sI_r (by omega), sI_r (by omega)]
    exact hS c hc'
  · intro c hc'
    rw [upd_s, upd_n (show 34 + 5 * c ≠ 2 by omega), upd_n (show 33 + 5 * c ≠ 2 by omega), sI_2]
    rcases hh c hc' with ⟨h1, h2⟩ | h1
    · left
      refine ⟨h1, ?_⟩
      rw [hn2, on_le (by omega) (by omega)] at h2
      rw [on_le (by omega) (by omega)]
      by_cases e : c = n
      · subst e
        rw [h1] at ha
        exact absurd ha (by simp)
      · omega
    · exact Or.inr h1
  · intro c hc'
    rw [upd_n (by omega), sI_r (by omega)]
    exact ht c hc'
  · intro c hc'
    rw [upd_n (by omega), sI_r (by omega)]
    exact hw c hc'
theorem FI.ships {f : Nat → Int32} (h : FI f) {n c kd : Nat} (hn2 : f 2 = on n) (h7 : n < 7) (hc : ∀ nc, f 1 = on nc → nc ≤ 8 → c < nc) (h36 : f (36 + 5 * n) = on c) (h37 : f (37 + 5 * n) = 0) (h33 : f (33 + 5 * n) = on kd) (hk : kd < 7) : FI (upd f 2 (on (n + 1))) := by
  obtain ⟨⟨nc, c1, c2, c3, c4, c5⟩, ⟨ns, s1, s2⟩, y, bk, bm, ⟨nt, t1, t2⟩, ⟨nw, w1, w2⟩, sh, x0, x1⟩ := h
  have hl : ∀ s, s < 7 → on s < on (n + 1) → s ≠ n → on s < f 2 := by
    intro s hs h e
    rw [on_lt (by omega) (by omega)] at h
    rw [hn2, on_lt (by omega) (by omega)]
    omega
  refine ⟨⟨nc, by rw [upd_n (by decide)]; exact c1, c2, c3, by rw [upd_n (by decide)]; exact c4, fun s hs hl' => ?_⟩, ⟨n + 1, upd_s, by omega⟩, by rw [upd_n (by decide)]; exact y, by rw [upd_n (by decide)]; exact bk, by rw [upd_n (by decide)]; exact bm, ⟨nt, by rw [upd_n (by decide)]; exact t1, t2⟩, ⟨nw, by rw [upd_n (by decide)]; exact w1, w2⟩, fun s hs hl' => ?_, txOk_lo (by decide) x0, txOk_lo (by decide) x1⟩
  · rw [upd_s] at hl'
    rw [upd_n (by omega)]
    by_cases e : s = n
    · subst e
      exact ⟨c, hc nc c1 c3, h36⟩
    · exact c5 s hs (hl s hs hl' e)
  · rw [upd_s] at hl'
    rw [upd_n (by omega), upd_n (by omega)]
    by_cases e : s = n
    · subst e
      exact ⟨Or.inl h37, kd, hk, h33⟩
    · exact sh s hs (hl s hs hl' e)
theorem RT.more {w : ZW} {N : Nat} {σx σm σx' σm' : ZS} (h : RT w N σx σm) (h1 : ∀ r, (200 ≤ r ∧ r ≤ 218) ∨ r = 0 ∨ r = 4 ∨ r = 5 ∨ r = 6 → σx'.1 r = σx.1 r) (h2 : ∀ r, r = 7 ∨ (200 ≤ r ∧ r ≤ 218) → σx'.2.1 r = σx.2.1 r) (h3 : ∀ b y, σx.2.2.1 b = some y → σx'.2.2.1 b = some y) (hw : wfP σx') (h4 : ∀ r, r = 0 ∨ r = 2 ∨ r = 5 ∨ r = 16 ∨ r = 21 ∨ r = 22 ∨ r = 23 → σm'.1 r = σm.1 r) : RT w (N + 1) σx' σm' := by
  obtain ⟨⟨g, g1, g2, g3⟩, ⟨n, n1, n2, n3⟩, e, ⟨t, t1, t2, t3, t4⟩, ⟨A, s⟩, p⟩ := h
  refine ⟨⟨g, ?_, ?_, g3⟩, ⟨n, by omega, ?_, ?_⟩, ?_, ⟨t, t1, ?_, ?_, ?_⟩, ?_, hw⟩
  · exact g1.congr (fun k hk => h1 _ (by omega)) (fun k hk => h2 _ (by omega)) (fun a ci vs q _ _ _ _ => h3 _ _ q)
  · intro j hj
    rw [h4 2 (by omega), h4 0 (by omega)]
    exact g2 j hj
  · rw [h1 0 (by omega)]; exact n2
  · rw [h4 0 (by omega)]; exact n3
  · intro k hk
    rw [h1 6 (by omega), h4 5 (by omega)]
    exact e k hk
  · rw [h1 4 (by omega)]; exact t2
  · rw [h4 0 (by omega)]; exact t3
  · intro k hk
    rw [h1 5 (by omega), h4 16 (by omega)]
    exact t4 k hk
  · have s' : SA w σx σm A := s
    have h7 : (σx'.1, σx.2.1, σx'.2.2).2.1 = σx.2.1 := rfl
    have a1 : SA w (σx'.1, σx.2.1, σx'.2.2) σm' A := s'.more h7 h3 (h4 21 (by omega)) (h4 22 (by omega)) (h4 23 (by omega))
    refine ⟨A, fun k hk => ?_, a1.2.1, a1.2.2⟩
    rw [h2 7 (by omega)]
    exact a1.1 k hk
