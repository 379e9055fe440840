/-! the plain law, 6: rows changed at places; the invariant of a row -/
theorem upd_s {f : Nat → Int32} {k : Nat} {v : Int32} : upd f k v k = v := by simp [upd]
theorem upd_n {f : Nat → Int32} {k j : Nat} {v : Int32} (h : j ≠ k) : upd f k v j = f j := by simp [upd, h]
/-- rows alike where depths hang on them -/
def sBed (f g : Nat → Int32) : Prop := ∀ j, (9 ≤ j ∧ j ≤ 32) ∨ 138 ≤ j → f j = g j
theorem sBed.rf {f : Nat → Int32} : sBed f f := fun _ _ => rfl
theorem sBed.tr {f g h : Nat → Int32} (h1 : sBed f g) (h2 : sBed g h) : sBed f h := fun j hj => (h1 j hj).trans (h2 j hj)
theorem sBed.upd {f : Nat → Int32} {k : Nat} {v : Int32} (h : k < 9 ∨ (33 ≤ k ∧ k < 138)) : sBed f (upd f k v) := fun j hj => (upd_n (by omega)).symm
theorem cds_congr {f g : Nat → Int32} (h : sBed f g) (u : Nat) : cds f u = cds g u := by
  unfold cds
  rw [h (138 + 52 * u) (by omega)]
  apply List.map_congr_left
  intro k _
  exact h _ (by omega)
theorem giv_congr {f g : Nat → Int32} (h : sBed f g) {u : Nat} {a b c : Int32} : giv f u a b c = giv g u a b c := by
  unfold giv
  rw [cds_congr h u, h (138 + 52 * u) (by omega)]
theorem dpt_congr {f g : Nat → Int32} (h : sBed f g) {c : Nat} {y : Int32} (hc : c < 8) : dpt f c y = dpt g c y := by
  unfold dpt
  rw [h (9 + 3 * c) (by omega), h (10 + 3 * c) (by omega), h (11 + 3 * c) (by omega), giv_congr h]
theorem txOk_congr {f g : Nat → Int32} (h : sBed f g) {u : Nat} (hx : txOk f u) : txOk g u := by
  unfold txOk at *
  rw [← cds_congr h u, ← h (138 + 52 * u) (by omega)]
  exact hx
theorem cOK_congr {σ : ZS} {f g : Nat → Int32} (h : sBed f g) (hk : cOK σ f) : cOK σ g := fun c y hc hy => by
  rw [← dpt_congr h hc]
  exact hk c y hc hy
/-- the invariant of a row -/
def FI (f : Nat → Int32) : Prop := (∃ nc : Nat, f 1 = on nc ∧ 3 ≤ nc ∧ nc ≤ 8 ∧ f 5 ≤ on (2 ^ nc - 1) ∧ ∀ s, s < 7 → on s < f 2 → ∃ a, a < nc ∧ f (36 + 5 * s) = on a) ∧ (∃ ns : Nat, f 2 = on ns ∧ ns ≤ 7) ∧ (0 ≤ f 3 ∧ f 3 ≤ 999) ∧ (0 ≤ f 4 ∧ f 4 ≤ 99) ∧ 0 ≤ f 5 ∧ (∃ nt : Nat, f 7 = on nt ∧ nt ≤ 50) ∧ (∃ nw : Nat, f 8 = on nw ∧ nw ≤ 20) ∧ (∀ s, s < 7 → on s < f 2 → (f (37 + 5 * s) = 0 ∨ f (37 + 5 * s) = 1) ∧ ∃ k, k < 7 ∧ f (33 + 5 * s) = on k) ∧ txOk f 0 ∧ txOk f 1
/-- one ship of one hour -/
def shp (f : Nat → Int32) (s : Nat) : Nat → Int32 :=
  if f (37 + 5 * s) = 0 then (if f (36 + 5 * s) ≤ 0 then f else
    (if bel f s ((f (36 + 5 * s)).toNatClampNeg - 1) < f (35 + 5 * s) then
      (if giv f 1 (f (35 + 5 * s)) (f (34 + 5 * s)) (f 0) = 1 then (if f (36 + 5 * s) + 1 ≤ f 1 - 1 then upd f (36 + 5 * s) (f (36 + 5 * s) + 1) else f) else f)
    else upd (upd f (36 + 5 * s) (f (36 + 5 * s) - 1)) (37 + 5 * s) (if f (35 + 5 * s) ≤ tru f ((f (36 + 5 * s)).toNatClampNeg - 1) then 0 else 1)))
  else f
def shps (f : Nat → Int32) : Nat → Nat → Int32
  | 0 => f
  | n + 1 => shp (shps f n) n
def hr1 (f : Nat → Int32) : Nat → Int32 := upd (shps f (f 2).toNatClampNeg) 0 (f 0 + 1)
def hrs (f : Nat → Int32) : Nat → Nat → Int32
  | 0 => f
  | n + 1 => hr1 (hrs f n)
/-- what an hour may change: the hour, places and losses of ships -/
def sHr (f g : Nat → Int32) : Prop := ∀ j, j ≠ 0 → (∀ s, s < 7 → j ≠ 36 + 5 * s ∧ j ≠ 37 + 5 * s) → g j = f j
theorem sHr.rf {f : Nat → Int32} : sHr f f := fun _ _ _ => rfl
theorem sHr.tr {f g h : Nat → Int32} (h1 : sHr f g) (h2 : sHr g h) : sHr f h := fun j a b => (h2 j a b).trans (h1 j a b)
theorem sHr.bed {f g : Nat → Int32} (h : sHr f g) : sBed f g := fun j hj => (h j (by omega) (fun s hs => by omega)).symm
theorem shp_sHr {f : Nat → Int32} {s : Nat} (hs : s < 7) : sHr f (shp f s) ∧ shp f s 0 = f 0 := by
  unfold shp
  repeat' split
  all_goals constructor
  all_goals first | exact sHr.rf | rfl | skip
  all_goals first | (intro j h1 h2; have := h2 s hs; rw [upd_n (by omega), upd_n (by omega)]; done) | (intro j h1 h2; have := h2 s hs; rw [upd_n (by omega)]; done) | (rw [upd_n (by omega), upd_n (by omega)]; done) | (rw [upd_n (by omega)]; done)
theorem shps_sHr {f : Nat → Int32} : ∀ {n : Nat}, n ≤ 7 → sHr f (shps f n) ∧ shps f n 0 = f 0
  | 0, _ => ⟨sHr.rf, rfl⟩
  | n + 1, h => by
    obtain ⟨a, b⟩ := shps_sHr (f := f) (n := n) (by omega)
    obtain ⟨c, d⟩ := shp_sHr (f := shps f n) (s := n) (by omega)
    exact ⟨a.tr c, by rw [shps, d, b]⟩
/-- the invariant holds on, if only such things change -/
theorem FI.hr {f g : Nat → Int32} (h : FI f) (hg : sHr f g) (h1 : ∀ s, s < 7 → on s < f 2 → ∀ nc, f 1 = on nc → nc ≤ 8 → (∃ a, a < nc ∧ f (36 + 5 * s) = on a) → ∃ a, a < nc ∧ g (36 + 5 * s) = on a) (h2 : ∀ s, s < 7 → on s < f 2 → (f (37 + 5 * s) = 0 ∨ f (37 + 5 * s) = 1) → g (37 + 5 * s) = 0 ∨ g (37 + 5 * s) = 1) : FI g := by
  have e : ∀ j, 0 < j → j < 36 → g j = f j := fun j a b => hg j (by omega) (fun s hs => by omega)
  obtain ⟨⟨nc, c1, c2, c3, c4, c5⟩, ⟨ns, s1, s2⟩, y, bk, bm, ⟨nt, t1, t2⟩, ⟨nw, w1, w2⟩, sh, x0, x1⟩ := h
  refine ⟨⟨nc, by rw [e 1 (by omega) (by omega)]; exact c1, c2, c3, by rw [e 5 (by omega) (by omega)]; exact c4, fun s hs hl => ?_⟩, ⟨ns, by rw [e 2 (by omega) (by omega)]; exact s1, s2⟩, by rw [e 3 (by omega) (by omega)]; exact y, by rw [e 4 (by omega) (by omega)]; exact bk, by rw [e 5 (by omega) (by omega)]; exact bm, ⟨nt, by rw [e 7 (by omega) (by omega)]; exact t1, t2⟩, ⟨nw, by rw [e 8 (by omega) (by omega)]; exact w1, w2⟩, fun s hs hl => ?_, txOk_congr hg.bed x0, txOk_congr hg.bed x1⟩
  · rw [e 2 (by omega) (by omega)] at hl
    exact h1 s hs hl nc c1 c3 (c5 s hs hl)
  · rw [e 2 (by omega) (by omega)] at hl
    obtain ⟨a, k, k1, k2⟩ := sh s hs hl
    refine ⟨h2 s hs hl a, k, k1, ?_⟩
    rw [hg (33 + 5 * s) (by omega) (fun t ht => by omega)]
    exact k2
theorem on_pos {a : Nat} (ha : a < 2147483648) (h : ¬ on a ≤ 0) : ∃ k, a = k + 1 := by
  cases a with
  | zero => exact absurd (by decide) h
  | succ k => exact ⟨k, rfl⟩
theorem shp_FI {f : Nat → Int32} {s : Nat} (h : FI f) (hs : s < 7) : FI (shp f s) := by
  refine h.hr (shp_sHr hs).1 ?_ ?_
  · intro t ht hl nc c1 c8 ⟨a, a1, a2⟩
    unfold shp
    by_cases e : t = s
    · subst e
      split
      · split
        · exact ⟨a, a1, a2⟩
        · rename_i hp
          rw [a2] at hp
          obtain ⟨k, rfl⟩ := on_pos (by omega) hp
          split
          · split
            · split
              · rename_i h3
                rw [upd_s, a2, on_a1]
                refine ⟨k + 1 + 1, ?_, rfl⟩
                rw [c1, a2, on_a1] at h3
                obtain ⟨nc, rfl⟩ : ∃ m, nc = m + 1 := ⟨nc - 1, by omega⟩
                rw [on_s1, on_le (by omega) (by omega)] at h3
                omega
              · exact ⟨k + 1, a1, a2⟩
            · exact ⟨k + 1, a1, a2⟩
          · rw [upd_n (by omega), upd_s, a2, on_s1]
            exact ⟨k, by omega, rfl⟩
      · exact ⟨a, a1, a2⟩
    · refine ⟨a, a1, ?_⟩
      rw [← a2]
      repeat' split
      all_goals first | rfl | (rw [upd_n (by omega), upd_n (by omega)]) | (rw [upd_n (by omega)])
  · intro t ht hl hz
    unfold shp
    by_cases e : t = s
    · subst e
      repeat' split
      all_goals first | exact hz | (rw [upd_n (by omega)]; exact hz) | (rw [upd_s]; first | exact Or.inl rfl | exact Or.inr rfl)
    · repeat' split
      all_goals first | exact hz | (rw [upd_n (by omega), upd_n (by omega)]; exact hz) | (rw [upd_n (by omega)]; exact hz)
theorem shps_FI {f : Nat → Int32} (h : FI f) : ∀ {n : Nat}, n ≤ 7 → FI (shps f n)
  | 0, _ => h
  | n + 1, hn => shp_FI (shps_FI h (n := n) (by omega)) (by omega)
theorem FI.ns {f : Nat → Int32} (h : FI f) : ∃ ns, f 2 = on ns ∧ ns ≤ 7 ∧ (f 2).toNatClampNeg = ns := by
  obtain ⟨-, ⟨ns, s1, s2⟩, -⟩ := h
  exact ⟨ns, s1, s2, by rw [s1, tn_ofNat (by omega)]⟩
theorem hr1_sHr {f : Nat → Int32} (h : FI f) : sHr f (hr1 f) := by
  obtain ⟨ns, s1, s2, s3⟩ := h.ns
  unfold hr1
  rw [s3]
  intro j h1 h2
  rw [upd_n h1]
  exact (shps_sHr s2).1 j h1 h2
theorem hr1_FI {f : Nat → Int32} (h : FI f) : FI (hr1 f) := by
  obtain ⟨ns, s1, s2, s3⟩ := h.ns
  unfold hr1
  rw [s3]
  refine (shps_FI h s2).hr (fun j h1 h2 => upd_n h1) (fun s hs hl nc c1 c2 h3 => ?_) (fun s hs hl h3 => ?_)
  · rw [upd_n (by omega)]; exact h3
  · rw [upd_n (by omega)]; exact h3
theorem hrs_FI {f : Nat → Int32} (h : FI f) : ∀ {n : Nat}, FI (hrs f n)
  | 0 => h
  | n + 1 => hr1_FI (hrs_FI h (n := n))
theorem hrs_sHr {f : Nat → Int32} (h : FI f) : ∀ {n : Nat}, sHr f (hrs f n)
  | 0 => sHr.rf
  | n + 1 => (hrs_sHr h (n := n)).tr (hr1_sHr (hrs_FI h))
