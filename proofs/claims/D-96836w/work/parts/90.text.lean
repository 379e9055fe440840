/-! the plain law, 41: text -/
theorem read_ok {w : ZW} {a u n : Nat} {σ τ : ZS} (h : PS w a u n σ τ 0 0 0) : ∃ σ' τ', KP a σ σ' ∧ KM τ τ' ∧ fX6_P 50 0 τ = some ((), τ') ∧ wfP σ' ∧ ((∃ r cs, fX16_read w σ a u (sets.getD u []) = some (.inl r, σ') ∧ τ'.1 0 10 = 0 ∧ τ'.1 0 7 = on n ∧ τ'.1 0 12 = on cs.length ∧ 1 ≤ cs.length ∧ cs.length ≤ 50 ∧ TA σ'.2.2.1 u 50 r cs ∧ ∀ j, j < cs.length → τ'.1 12 j = cs.getD j 0) ∨ ∃ t pos, fX16_read w σ a u (sets.getD u []) = some (.inr t, σ') ∧ oFt (σ'.2.2.1 t) = some (on pos) ∧ τ'.1 0 7 = on pos ∧ (τ'.1 0 10 = 1 ∨ (τ'.1 0 10 = 0 ∧ pos < n))) := by
  have hb := h.2.2.2.2.2.2.2.1
  obtain ⟨σ1, τ1, k1, k2, k3, k4⟩ := P_ok (w := w) (a := a) (u := u) (n := n) 50 0 0 (by omega) (by omega) (by omega) σ τ 0 0 h
  unfold fX16_read
  rw [h.rd, bo_some]
  rcases k4 with ⟨r, pos', cs, x1, y, y1, y2, y3, y4, y5, y6⟩ | ⟨t, x1, ⟨p, p1, p2⟩, p3, p4⟩
  · have yb := y.2.2.2.2.2.2.2.1
    by_cases q : pos' = n
    · subst q
      refine ⟨σ1, τ1, k1, k2, k3, y.2.2.2.2.2.2.2.2.1, Or.inl ⟨r, cs, ?_, y.2.2.2.1, y.2.1, ?_, y3, by omega, y4.le (by omega), fun j hj => ?_⟩⟩
      · rw [x1, bd_some, sc_inl, y.rd, bo_some, if_pos rfl, nm_eq, fault_1, bd_some, sc_inl]
      · have := y.2.2.2.2.1
        rw [Nat.zero_add] at this
        exact this
      · have := y6 j hj
        rw [Nat.zero_add] at this
        exact this
    · obtain ⟨σ2, t, f1, f2, f3, f4⟩ := fault_ok (bn := sets.getD u []) y
      refine ⟨σ2, τ1, k1.tr f2, k2, k3, f4, Or.inr ⟨t, pos', ?_, f3, y.2.1, Or.inr ⟨y.2.2.2.1, by omega⟩⟩⟩
      rw [x1, bd_some, sc_inl, y.rd, bo_some, if_neg (show ¬ on pos' = on n by rw [on_eq (by omega) (by omega)]; exact q), nm_eq, f1, bd_some, sc_inr]
  · refine ⟨σ1, τ1, k1, k2, k3, p4, Or.inr ⟨t, p, ?_, p1, p2, Or.inl p3⟩⟩
    rw [x1, bd_some, sc_inr]
/-- the row with the text u of codes cs -/
def tg (g : Nat → Int32) (u : Nat) (cs : List Int32) : Nat → Int32 := fun j => if 139 + 52 * u ≤ j ∧ j < 139 + 52 * u + cs.length then cs.getD (j - (139 + 52 * u)) 0 else if j = 138 + 52 * u then on cs.length else g j
theorem tg_lo {g : Nat → Int32} {u : Nat} {cs : List Int32} {j : Nat} (h : j < 138) : tg g u cs j = g j := by
  unfold tg
  rw [if_neg (by omega), if_neg (by omega)]
theorem tg_n {g : Nat → Int32} {u : Nat} {cs : List Int32} : tg g u cs (138 + 52 * u) = on cs.length := by
  unfold tg
  rw [if_neg (by omega), if_pos rfl]
theorem tg_c {g : Nat → Int32} {u : Nat} {cs : List Int32} {j : Nat} (h : j < cs.length) : tg g u cs (139 + 52 * u + j) = cs.getD j 0 := by
  unfold tg
  rw [if_pos (by omega), show 139 + 52 * u + j - (139 + 52 * u) = j by omega]
theorem tg_o {g : Nat → Int32} {u v : Nat} {cs : List Int32} {j : Nat} (hu : u < 2) (hv : v < 2) (h : v ≠ u) (hl : cs.length ≤ 50) (hj : j < 51) : tg g u cs (138 + 52 * v + j) = g (138 + 52 * v + j) := by
  unfold tg
  rw [if_neg (by omega), if_neg (by omega)]
theorem cds_tg {g : Nat → Int32} {u : Nat} {cs : List Int32} (hl : cs.length ≤ 50) : cds (tg g u cs) u = cs := by
  unfold cds
  rw [tg_n, tn_ofNat (by omega)]
  apply List.ext_getElem
  · simp
  · intro i h1 h2
    rw [List.getElem_map, List.getElem_range, tg_c h2, List.getD_eq_getElem?_getD, List.getElem?_eq_getElem h2]
    rfl
theorem cds_tg_o {g : Nat → Int32} {u v : Nat} {cs : List Int32} (hu : u < 2) (hv : v < 2) (h : v ≠ u) (hl : cs.length ≤ 50) (hg : (g (138 + 52 * v)).toNatClampNeg ≤ 50) : cds (tg g u cs) v = cds g v := by
  unfold cds
  have e0 := tg_o (g := g) (cs := cs) (j := 0) hu hv h hl (by omega)
  rw [Nat.add_zero] at e0
  rw [e0]
  apply List.map_congr_left
  intro k hk
  rw [List.mem_range] at hk
  have := tg_o (g := g) (cs := cs) (j := k + 1) hu hv h hl (by omega)
  rw [show 139 + 52 * v + k = 138 + 52 * v + (k + 1) by omega]
  exact this
theorem tx50 {g : Nat → Int32} {v : Nat} (h : txOk g v) : (g (138 + 52 * v)).toNatClampNeg ≤ 50 := by
  rcases h with h | ⟨h1, h2, -⟩
  · rw [h]
    decide
  · have a := i_lt.mp h1
    have b := i_le.mp h2
    have e0 : (0 : Int32).toInt = 0 := rfl
    have e50 : (50 : Int32).toInt = 50 := rfl
    have := tn_le (show (0 : Int32) ≤ g (138 + 52 * v) by rw [i_le]; omega)
    omega
theorem txOk_tg {g : Nat → Int32} {u v d : Nat} {cs : List Int32} {P : Nat → Option va_E} {r : Nat} (hu : u < 2) (hv : v < 2) (h1 : 1 ≤ cs.length) (hl : cs.length ≤ 50) (ht : TA P u 50 r cs) (hx : txOk g v) : txOk (tg g u cs) v := by
  by_cases e : v = u
  · subst e
    refine Or.inr ⟨?_, ?_, ?_⟩
    · rw [tg_n, show (0 : Int32) = on 0 from rfl, on_lt (by omega) (by omega)]; omega
    · rw [tg_n, show (50 : Int32) = on 50 from rfl, on_le (by omega) (by omega)]; exact hl
    · rw [cds_tg hl]; exact ht.pf
  · have e0 := tg_o (g := g) (cs := cs) (j := 0) hu hv e hl (by omega)
    rw [Nat.add_zero] at e0
    unfold txOk
    rw [e0, cds_tg_o hu hv e hl (tx50 hx)]
    exact hx
theorem FI.tg {g : Nat → Int32} (h : FI g) {u r : Nat} {cs : List Int32} {P : Nat → Option va_E} (hu : u < 2) (h1 : 1 ≤ cs.length) (hl : cs.length ≤ 50) (ht : TA P u 50 r cs) : FI (tg g u cs) := by
  obtain ⟨⟨nc, c1, c2, c3, c4, c5⟩, ⟨ns, s1, s2⟩, y, bk, bm, ⟨nt, t1, t2⟩, ⟨nw, w1, w2⟩, sh, x0, x1⟩ := h
  refine ⟨⟨nc, by rw [tg_lo (by decide)]; exact c1, c2, c3, by rw [tg_lo (by decide)]; exact c4, fun s hs hl' => ?_⟩, ⟨ns, by rw [tg_lo (by decide)]; exact s1, s2⟩, by rw [tg_lo (by decide)]; exact y, by rw [tg_lo (by decide)]; exact bk, by rw [tg_lo (by decide)]; exact bm, ⟨nt, by rw [tg_lo (by decide)]; exact t1, t2⟩, ⟨nw, by rw [tg_lo (by decide)]; exact w1, w2⟩, fun s hs hl' => ?_, txOk_tg (d := 0) hu (by omega) h1 hl ht x0, txOk_tg (d := 0) hu (by omega) h1 hl ht x1⟩
  · rw [tg_lo (by decide)] at hl'
    rw [tg_lo (by omega)]
    exact c5 s hs hl'
  · rw [tg_lo (by decide)] at hl'
    rw [tg_lo (by omega), tg_lo (by omega)]
    exact sh s hs hl'
theorem BR.tg {w : ZW} {σ : ZS} {b u r : Nat} {g : Nat → Int32} {cs : List Int32} (h : BR w σ b g) (hu : u < 2) (h1 : 1 ≤ cs.length) (hl : cs.length ≤ 50) (ht : TA σ.2.2.1 u 50 r cs) : BR w (sG σ (b + 14) u (some r)) b (tg g u cs) := by
  have hx0 : ∀ v, v < 2 → txOk g v := fun v hv => h.tx hv
  obtain ⟨hn, hc, hS, hh, ht', hw, hx⟩ := h
  refine ⟨?_, ?_, ?_, ?_, ?_, ?_, ?_⟩
  · unfold bN at *
    rw [sG_1, tg_lo (by decide), tg_lo (by decide), tg_lo (by decide), tg_lo (by decide), tg_lo (by decide), tg_lo (by decide), tg_lo (by decide), tg_lo (by decide), tg_lo (by decide)]
    exact hn
  · intro c hc'
    rw [sG_1, tg_lo (by omega), tg_lo (by omega), tg_lo (by omega)]
    exact hc c hc'
  · intro c hc'
    rw [sG_1, tg_lo (by omega), tg_lo (by omega), tg_lo (by omega)]
    exact hS c hc'
  · intro c hc'
    rw [sG_r (by omega), sG_3, tg_lo (by omega), tg_lo (by omega), tg_lo (by omega)]
    exact hh c hc'
  · intro c hc'
    rw [sG_1, tg_lo (by omega)]
    exact ht' c hc'
  · intro c hc'
    rw [sG_1, tg_lo (by omega)]
    exact hw c hc'
  · intro v hv
    by_cases e : v = u
    · subst e
      refine Or.inr ⟨r, sG_s, ?_, ?_, ?_⟩
      · rw [tg_n, show (0 : Int32) = on 0 from rfl, on_lt (by omega) (by omega)]; omega
      · rw [tg_n, show (50 : Int32) = on 50 from rfl, on_le (by omega) (by omega)]; exact hl
      · rw [cds_tg hl, sG_3]; exact ht
    · have e0 := tg_o (g := g) (cs := cs) (j := 0) hu hv e hl (by omega)
      rw [Nat.add_zero] at e0
      rw [sG_n e, sG_3, e0, cds_tg_o hu hv e hl (tx50 (hx0 v hv))]
      exact hx v hv
theorem text_L {u L : Nat} {y1 : Int32} (hu : u < 2) (hL : L ≤ 50) : ∀ (d i n : Nat) (τ : ZS), i + d = L → d < n → τ.1 0 12 = on L → τ.1 0 9 = on u → ∃ τ', fX6_text_L120 y1 n (on i) τ = some (on L, τ') ∧ τ'.2 = τ.2 ∧ (∀ r, r ≠ 1 → τ'.1 r = τ.1 r) ∧ (∀ j, i ≤ j → j < L → τ'.1 1 (139 + 52 * u + j) = τ.1 12 j) ∧ ∀ j, ¬ (139 + 52 * u + i ≤ j ∧ j < 139 + 52 * u + L) → τ'.1 1 j = τ.1 1 j
  | 0, i, n, τ, hi, hd, h12, h9 => by
    obtain ⟨n, rfl⟩ : ∃ m, n = m + 1 := ⟨n - 1, by omega⟩
    obtain rfl : i = L := by omega
    rw [fX6_text_L120, h12, if_pos (Int32.le_refl _)]
    exact ⟨τ, rfl, rfl, fun _ _ => rfl, fun j a b => by omega, fun _ _ => rfl⟩
  | d + 1, i, n, τ, hi, hd, h12, h9 => by
    obtain ⟨n, rfl⟩ : ∃ m, n = m + 1 := ⟨n - 1, by omega⟩
    have e52 : ((138 : Int32) + 52 * on u) + 1 + on i = on (139 + 52 * u + i) := by
      rw [show (52 : Int32) = on 52 from rfl, show on 52 * on u = on (52 * u) from (Int32.ofNat_mul 52 u).symm, show (138 : Int32) = on 138 from rfl, on_add, on_a1, on_add, show 138 + 52 * u + 1 + i = 139 + 52 * u + i by omega]
    rw [fX6_text_L120, h12, if_neg (show ¬ on L ≤ on i by rw [on_le (by omega) (by omega)]; omega), gd_pos (on_in (n := 60) (by omega) (by omega)), nm_eq, h9, e52, gd_pos (on_in (n := 242) (by omega) (by omega)), nm_eq, tn_ofNat (show i < 2147483648 by omega), tn_ofNat (show 139 + 52 * u + i < 2147483648 by omega), on_a1]
    obtain ⟨τ', a1, a2, a3, a4, a5⟩ := text_L (y1 := y1) hu hL d (i + 1) n (sI τ 1 (139 + 52 * u + i) (τ.1 12 i)) (by omega) (by omega) (by rw [sI_r (by decide)]; exact h12) (by rw [sI_r (by decide)]; exact h9)
    refine ⟨τ', a1, a2, fun r hr => by rw [a3 r hr, sI_r hr], fun j h1 h2 => ?_, fun j hj => by rw [a5 j (by omega), sI_n (by omega)]⟩
    by_cases e : j = i
    · subst e
      rw [a5 _ (by omega), sI_s]
    · rw [a4 j (by omega) h2, sI_r (by decide)]
theorem init16_ok {w : ZW} {σ : ZS} {q u : Nat} {p : Int32} (h : σ.2.2.1 q = some (.inr (15, [.null, .null, .int 0, .int 0, .int 0]))) : fX16_init w σ q u p = some ((), sP σ q (.inr (15, [.ref (zsK w u), .ref (w.2.2 (100 + 16)), .int p, .int 0, .int 0]))) := by
  unfold fX16_init
  rw [h, show oC5 15 (some (.inr (15, [.null, .null, .int 0, .int 0, .int 0]))) = some (.null, .null, .int 0, .int 0, .int 0) from rfl, bo_some]
  simp only [nm_eq, sPP]
