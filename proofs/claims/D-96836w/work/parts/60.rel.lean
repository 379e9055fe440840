/-! the plain law, 11: the relation between the two sides -/
def wid (t : Nat) : Int32 := if t = 0 then 8 else if t = 1 then 16 else 32
def aty (t : Nat) : Nat := if t = 0 then 1 else if t = 1 then 2 else 0
/-- a value as a row of kind t keeps it -/
def nar (t : Nat) (v : Int32) : Int32 := if t = 0 then v.toInt8.toInt32 else if t = 1 then v.toInt16.toInt32 else v
/-- what a shelf holds, against the reference's sheet k -/
def shO (w : ZW) (σx σm : ZS) (k : Nat) (x : Option va_E) : Prop := (x = some (.inr (5, [.null])) ∧ σm.1 21 k = 0) ∨ ∃ (o r t n : Nat) (h : Nat → Int32), x = some (.inr (5, [.ref o])) ∧ t < 3 ∧ σx.2.2.1 o = some (.inr (20 + t, [.ref r])) ∧ σx.2.2.1 r = some (.inl (w.2.1 (aty t), n, .inl h)) ∧ n ≤ 40 ∧ σm.1 21 k = wid t ∧ σm.1 22 k = on n ∧ ∀ i, i < n → σm.1 23 (40 * k + i) = h i ∧ nar t (h i) = h i
def SH (w : ZW) (σx σm : ZS) : Prop := ∃ A : Nat → Nat, (∀ k, k < 4 → σx.2.1 7 k = some (A k) ∧ shO w σx σm k (σx.2.2.1 (A k))) ∧ (∀ k j, k < 4 → j < 4 → A k = A j → k = j) ∧ ∀ k j o o' c c' r, k < 4 → j < 4 → σx.2.2.1 (A k) = some (.inr (5, [.ref o])) → σx.2.2.1 (A j) = some (.inr (5, [.ref o'])) → σx.2.2.1 o = some (.inr (c, [.ref r])) → σx.2.2.1 o' = some (.inr (c', [.ref r])) → k = j
/-- the row that was kept, once one was -/
def kRow (σm : ZS) (g : Nat → Int32) : Prop := ∀ j, j < 242 → σm.1 0 3 = 0 ∨ σm.1 2 j = g j
/-- all but the bay now -/
def RT (w : ZW) (N : Nat) (σx σm : ZS) : Prop := (∃ g, BR w σx 200 g ∧ kRow σm g ∧ FI g) ∧ (∃ n : Nat, n ≤ N ∧ σx.1 0 4 = on n ∧ σm.1 0 3 = on n) ∧ (∀ k, k < 6 → σx.1 6 k = σm.1 5 k) ∧ (∃ t : Nat, t ≤ 40 ∧ σx.1 4 1 = on t ∧ σm.1 0 16 = on t ∧ ∀ k, k < t → σx.1 5 k = σm.1 16 k) ∧ SH w σx σm ∧ ∀ a x, σx.2.2.1 a = some x → a < σx.2.2.2.1
/-- the bay now -/
def RM (w : ZW) (f : Nat → Int32) (σx σm : ZS) : Prop := BR w σx 100 f ∧ isRow σm 1 f ∧ FI f ∧ cOK σm f
def RR (w : ZW) (N : Nat) (σx σm : ZS) : Prop := (∃ f, RM w f σx σm) ∧ RT w N σx σm
theorem SH.congr {w : ZW} {σx σm σx' σm' : ZS} (h : SH w σx σm) (h1 : σx'.2.1 7 = σx.2.1 7) (h2 : σx'.2.2.1 = σx.2.2.1) (h3 : σm'.1 21 = σm.1 21) (h4 : σm'.1 22 = σm.1 22) (h5 : σm'.1 23 = σm.1 23) : SH w σx' σm' := by
  unfold SH shO at *
  rw [h1, h2, h3, h4, h5]
  exact h
theorem RT.congr {w : ZW} {N N' : Nat} {σx σm σx' σm' : ZS} (h : RT w N σx σm) (hN : N ≤ N') (h1 : ∀ r, (200 ≤ r ∧ r ≤ 218) ∨ r = 0 ∨ r = 4 ∨ r = 5 ∨ r = 6 → σx'.1 r = σx.1 r) (h2 : ∀ r, r = 7 ∨ (200 ≤ r ∧ r ≤ 218) → σx'.2.1 r = σx.2.1 r) (h3 : σx'.2.2 = σx.2.2) (h4 : ∀ r, r = 0 ∨ r = 2 ∨ r = 5 ∨ r = 16 ∨ r = 21 ∨ r = 22 ∨ r = 23 → σm'.1 r = σm.1 r) : RT w N' σx' σm' := by
  obtain ⟨⟨g, g1, g2, g3⟩, ⟨n, n1, n2, n3⟩, e, ⟨t, t1, t2, t3, t4⟩, s, p⟩ := h
  refine ⟨⟨g, ?_, ?_, g3⟩, ⟨n, by omega, ?_, ?_⟩, ?_, ⟨t, t1, ?_, ?_, ?_⟩, ?_, ?_⟩
  · exact g1.congr (fun k hk => h1 _ (by omega)) (fun k hk => h2 _ (by omega)) (fun a ci vs q _ _ _ _ => by rw [h3]; exact q)
  · intro j hj
    rw [h4 2 (by omega), h4 0 (by omega)]
    exact g2 j hj
  · rw [h1 0 (by omega)]; exact n2
  · rw [h4 0 (by omega)]; exact n3
  · intro k hk
    rw [h1 6 (by omega), h4 5 (by omega)]
    exact e k hk
  · rw [h1 4 (by omega)]; exact t2
  · rw [h4 0 (by omega)]; exact t3
  · intro k hk
    rw [h1 5 (by omega), h4 16 (by omega)]
    exact t4 k hk
  · exact s.congr (h2 7 (by omega)) (by rw [h3]) (h4 21 (by omega)) (h4 22 (by omega)) (h4 23 (by omega))
  · rw [h3]; exact p
theorem RM.congr {w : ZW} {f : Nat → Int32} {σx σm σx' σm' : ZS} (h : RM w f σx σm) (h1 : ∀ r, 100 ≤ r ∧ r ≤ 118 → σx'.1 r = σx.1 r) (h2 : ∀ r, 100 ≤ r ∧ r ≤ 118 → σx'.2.1 r = σx.2.1 r) (h3 : pk σx σx') (h4 : σm'.1 1 = σm.1 1) (h5 : σm'.1 6 = σm.1 6) : RM w f σx' σm' :=
  ⟨h.1.congr (fun k hk => h1 _ (by omega)) (fun k hk => h2 _ (by omega)) h3, fun j hj => by rw [h4]; exact h.2.1 j hj, h.2.2.1, fun c y hc hy => by rw [h5]; exact h.2.2.2 c y hc hy⟩
/-- an act on both sides -/
def act (w : ZW) (N : Nat) (σm : ZS) (x m : Option (Int32 × ZS)) : Prop := ∃ r σx' σm', x = some (r, σx') ∧ m = some (r, σm') ∧ RR w (N + 1) σx' σm' ∧ σm'.2 = σm.2
theorem nd0 {σ : ZS} {c : Int32} : fX0_need σ 0 c = some (.inr (), sI σ 1 6 c) := rfl
theorem nd1 {σ : ZS} {v c : Int32} (h : ¬ v = 0) : fX0_need σ v c = some (.inl (), σ) := by
  unfold fX0_need
  rw [if_neg h]
theorem nd1' {σ : ZS} {c : Int32} : fX0_need σ 1 c = some (.inl (), σ) := rfl
theorem finds_ok {σ : ZS} {k : Nat} (hk : k < 6) : fX0_finds (sI σ 1 6 (on k)) = some ((-1000000000) - on k, sI (sI σ 1 6 (on k)) 6 k (σ.1 6 k + 1)) := by
  unfold fX0_finds
  rw [sI_s, gd_pos (on_in hk (by decide)), tn_ofNat (by omega), nm_eq, sI_r (show (1 : Nat) ≠ 6 by decide), sI_s, sI_r (show (6 : Nat) ≠ 1 by decide)]
theorem code_sub : ∀ k, k < 6 → (-1000000000 : Int32) - ((-1000000000) - on k) = on k := by decide +kernel
theorem finding_ok {σ : ZS} {k : Nat} (hk : k < 6) : fX6_finding σ ((-1000000000) - on k) = some ((-1000000000) - on k, sI σ 5 k (σ.1 5 k + 1)) := by
  unfold fX6_finding
  rw [code_sub k hk, gd_pos (on_in hk (by decide)), tn_ofNat (by omega), nm_eq]
/-- both sides find the same fault; on the class's side the world may differ where nothing hangs on it -/
theorem RR.err {w : ZW} {N k : Nat} {σx σm : ZS} (h : RR w N σx σm) (hk : k < 6) : RR w (N + 1) (sI (sI σx 1 6 (on k)) 6 k (σx.1 6 k + 1)) (sI σm 5 k (σm.1 5 k + 1)) := by
  obtain ⟨⟨f, hf⟩, ⟨g, n, e, t, s, p⟩⟩ := h
  refine ⟨⟨f, hf.congr (fun r hr => by rw [sI_r (by omega), sI_r (by omega)]) (fun r hr => rfl) pk.rf (sI_r (by decide)) (sI_r (by decide))⟩, ?_, ?_, ?_, ?_, ?_, p⟩
  · obtain ⟨g, g1, g2, g3⟩ := g
    exact ⟨g, g1.congr (fun k hk => by rw [sI_r (by omega), sI_r (by omega)]) (fun k hk => rfl) pk.rf, fun j hj => by rw [sI_r (show (2 : Nat) ≠ 5 by decide), sI_r (show (0 : Nat) ≠ 5 by decide)]; exact g2 j hj, g3⟩
  · obtain ⟨n, n1, n2, n3⟩ := n
    exact ⟨n, by omega, by rw [sI_r (by decide), sI_r (by decide)]; exact n2, by rw [sI_r (by decide)]; exact n3⟩
  · intro j hj
    by_cases q : j = k
    · subst q
      rw [sI_s, sI_s, e j hj]
    · rw [sI_n q, sI_n q, sI_r (by decide)]
      exact e j hj
  · obtain ⟨t, t1, t2, t3, t4⟩ := t
    exact ⟨t, t1, by rw [sI_r (by decide), sI_r (by decide)]; exact t2, by rw [sI_r (by decide)]; exact t3, fun j hj => by rw [sI_r (by decide), sI_r (by decide), sI_r (by decide)]; exact t4 j hj⟩
  · exact s.congr rfl rfl (sI_r (by decide)) (sI_r (by decide)) (sI_r (by decide))
theorem act_err {w : ZW} {N k : Nat} {σx σm : ZS} {c c' : Int32} {x m : Option (Int32 × ZS)} (h : RR w N σx σm) (hk : k < 6) (hc : c = on k) (hc' : c' = (-1000000000) - on k) (hx : x = bd (fX0_finds (sI σx 1 6 c)) (fun r s => some (r, s))) (hm : m = bd (fX6_finding σm c') (fun r s => some (r, s))) : act w N σm x m := by
  subst hc
  subst hc'
  rw [finds_ok hk] at hx
  rw [finding_ok hk] at hm
  exact ⟨_, _, _, hx, hm, h.err hk, rfl⟩
theorem act_mk {w : ZW} {N : Nat} {σm : ZS} {x m : Option (Int32 × ZS)} {r : Int32} {σx' σm' : ZS} (hx : x = some (r, σx')) (hm : m = some (r, σm')) (h : RR w (N + 1) σx' σm') (h2 : σm'.2 = σm.2) : act w N σm x m := ⟨r, σx', σm', hx, hm, h, h2⟩
theorem wi {p lo hi : Int32} : fX6_within p lo hi = if lo ≤ p ∧ p ≤ hi then 1 else 0 := by
  unfold fX6_within
  simp only [nm]
  by_cases h1 : p < lo
  · rw [if_pos h1, if_neg (by grind)]
  · rw [if_neg h1]
    by_cases h2 : hi < p
    · rw [if_pos h2, if_neg (by grind)]
    · rw [if_neg h2, if_pos (by grind)]
theorem xi {p lo hi : Int32} : fX0_in p lo hi = if lo ≤ p ∧ p ≤ hi then 1 else 0 := wi
theorem b10 {c : Prop} [Decidable c] : ((if c then (1 : Int32) else 0) = 0) ↔ ¬ c := by
  by_cases h : c
  · simp [h]
  · simp [h]
theorem RM.cells {w : ZW} {f : Nat → Int32} {σx σm : ZS} (h : RM w f σx σm) (p : Int32) : fX0_isCell σx p = (if 0 ≤ p ∧ p ≤ f 1 - 1 then 1 else 0) ∧ fX6_isCell σm p = if 0 ≤ p ∧ p ≤ f 1 - 1 then 1 else 0 := by
  refine ⟨?_, ?_⟩
  · unfold fX0_isCell
    rw [xi, ← h.1.1.2.1]
  · unfold fX6_isCell
    rw [wi, show σm.1 1 (1 : Int32).toNatClampNeg = f 1 from h.2.1 1 (by omega)]
theorem RM.ships {w : ZW} {f : Nat → Int32} {σx σm : ZS} (h : RM w f σx σm) (p : Int32) : fX0_isShip σx p = (if 0 ≤ p ∧ p ≤ f 2 - 1 then 1 else 0) ∧ fX6_isShip σm p = if 0 ≤ p ∧ p ≤ f 2 - 1 then 1 else 0 := by
  refine ⟨?_, ?_⟩
  · unfold fX0_isShip
    rw [xi, ← h.1.1.2.2.1]
  · unfold fX6_isShip
    rw [wi, show σm.1 1 (2 : Int32).toNatClampNeg = f 2 from h.2.1 2 (by omega)]
theorem FI.cell {f : Nat → Int32} (h : FI f) {p : Int32} (h1 : 0 ≤ p ∧ p ≤ f 1 - 1) : ∃ c, c < 8 ∧ p = on c ∧ ∀ nc, f 1 = on nc → nc ≤ 8 → c < nc := by
  obtain ⟨⟨nc, c1, c2, c3, -⟩, -⟩ := h
  obtain ⟨m, rfl⟩ : ∃ m, nc = m + 1 := ⟨nc - 1, by omega⟩
  have h2 := h1.2
  rw [c1, on_s1, i_le, i_ofNat (by omega)] at h2
  obtain ⟨k, hk, e⟩ := on_ex (n := m + 1) h1.1 (by omega)
  refine ⟨k, by omega, e, fun n hn h8 => ?_⟩
  rw [c1] at hn
  have := (on_eq (by omega) (by omega)).mp hn
  omega
theorem FI.ship {f : Nat → Int32} (h : FI f) {p : Int32} (h1 : 0 ≤ p ∧ p ≤ f 2 - 1) : ∃ s, s < 7 ∧ p = on s ∧ on s < f 2 := by
  obtain ⟨ns, s1, s2, -⟩ := h.ns
  have h2 := h1.2
  rw [s1] at h2
  cases ns with
  | zero => exact absurd h2 (by have := h1.1; show ¬ p ≤ (0 : Int32) - 1; grind)
  | succ m =>
    rw [on_s1, i_le, i_ofNat (by omega)] at h2
    obtain ⟨k, hk, e⟩ := on_ex (n := m + 1) h1.1 (by omega)
    exact ⟨k, by omega, e, by rw [s1]; exact (on_lt (by omega) (by omega)).mpr (by omega)⟩
