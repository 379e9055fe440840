/-! the plain law, 9: a bay becomes another -/
theorem sR_r {σ : ZS} {j a : Nat} {f : Nat → Int32} (h : a ≠ j) : (sR σ j f).1 a = σ.1 a := by
  funext b
  show (if a = j then f b else σ.1 a b) = σ.1 a b
  rw [if_neg h]
theorem sR_s {σ : ZS} {j : Nat} {f : Nat → Int32} : (sR σ j f).1 j = f := by
  funext b
  show (if j = j then f b else σ.1 j b) = f b
  rw [if_pos rfl]
theorem sR_2 {σ : ZS} {j : Nat} {f : Nat → Int32} : (sR σ j f).2 = σ.2 := rfl
theorem sRG_1 {σ : ZS} {j : Nat} {f : Nat → Option Nat} : (sRG σ j f).1 = σ.1 := rfl
theorem sRG_3 {σ : ZS} {j : Nat} {f : Nat → Option Nat} : (sRG σ j f).2.2 = σ.2.2 := rfl
theorem sRG_r {σ : ZS} {j a : Nat} {f : Nat → Option Nat} (h : a ≠ j) : (sRG σ j f).2.1 a = σ.2.1 a := by
  funext b
  show (if a = j then f b else σ.2.1 a b) = σ.2.1 a b
  rw [if_neg h]
theorem sRG_s {σ : ZS} {j : Nat} {f : Nat → Option Nat} : (sRG σ j f).2.1 j = f := by
  funext b
  show (if j = j then f b else σ.2.1 j b) = f b
  rw [if_pos rfl]
theorem cpy_lt {α : Type} {f g : Nat → α} {n j : Nat} (h : j < n) : va_cpy f g 0 0 n j = f j := by
  simp [va_cpy, h]
/-- what becoming another bay writes -/
def XB (b : Nat) (σ σ' : ZS) : Prop := σ'.2.2 = σ.2.2 ∧ (∀ r, r ≠ b → r ≠ b + 2 → r ≠ b + 3 → r ≠ b + 4 → r ≠ b + 11 → r ≠ b + 12 → r ≠ b + 13 → r ≠ b + 16 → r ≠ b + 18 → σ'.1 r = σ.1 r) ∧ ∀ r, r ≠ b + 10 → r ≠ b + 14 → σ'.2.1 r = σ.2.1 r
theorem elB_ship {w : ZW} {σ : ZS} {b : Nat} {f : Nat → Int32} (h : bH w σ b f) : zElB σ (b + 10) 7 [8, 9, 10, 11, 12, 13, 14] = true := by
  unfold zElB
  rw [List.all_eq_true]
  intro q hq
  rw [List.mem_range] at hq
  rcases h q hq with ⟨e, -⟩ | ⟨a, k, e, hk, e2, -⟩
  · rw [e]
  · rw [e]
    simp only
    rw [e2]
    rcases (show k = 0 ∨ k = 1 ∨ k = 2 ∨ k = 3 ∨ k = 4 ∨ k = 5 ∨ k = 6 by omega) with rfl | rfl | rfl | rfl | rfl | rfl | rfl <;> rfl
theorem TA.cls {P : Nat → Option va_E} {u d a : Nat} {cs : List Int32} (h : TA P u d a cs) : ∃ ci vs, P a = some (.inr (ci, vs)) ∧ (ci = 7 ∨ ci = 16 ∨ ci = 18 ∨ ci = 19) := by
  cases d with
  | zero => cases h
  | succ d =>
    rcases h with ⟨v, h0, -⟩ | ⟨k, -, h0, -⟩ | ⟨a1, c1, h0, -⟩ | ⟨sg, a1, a2, c1, c2, op, h0, -⟩
    · exact ⟨_, _, h0, by decide⟩
    · exact ⟨_, _, h0, by decide⟩
    · exact ⟨_, _, h0, by decide⟩
    · exact ⟨_, _, h0, by decide⟩
theorem elB_term {σ : ZS} {b : Nat} {f : Nat → Int32} (h : bX σ b f) : zElB σ (b + 14) 2 [7, 16, 18, 19] = true := by
  unfold zElB
  rw [List.all_eq_true]
  intro q hq
  rw [List.mem_range] at hq
  rcases h q hq with ⟨e, -⟩ | ⟨a, e, -, -, e2⟩
  · rw [e]
  · obtain ⟨ci, vs, e3, e4⟩ := e2.cls
    rw [e]
    simp only
    rw [e3]
    rcases e4 with rfl | rfl | rfl | rfl <;> rfl
theorem elB_eq {σ σ' : ZS} {i N : Nat} {cs : List Nat} (h1 : σ'.2.1 i = σ.2.1 i) (h2 : σ'.2.2 = σ.2.2) : zElB σ' i N cs = zElB σ i N cs := by
  unfold zElB
  rw [h1, h2]
set_option maxHeartbeats 4000000 in
theorem become_ok {w : ZW} {σ : ZS} {b b2 : Nat} {f : Nat → Int32} (h : BR w σ b2 f) (hb : zBay b) (hb2 : zBay b2) (hne : b ≠ b2) : ∃ σ', fX2_become σ b b2 = some ((), σ') ∧ BR w σ' b f ∧ XB b σ σ' := by
  have hd : b + 100 ≤ b2 ∨ b2 + 100 ≤ b := by unfold zBay at hb hb2; omega
  obtain ⟨hn, hc, hS, hh, ht, hw, hx⟩ := h
  have e1 := elB_ship hh
  have e2 := elB_term hx
  unfold fX2_become
  simp only [nm]
  rw [gd_pos (by rw [elB_eq (σ := σ)]; exact e1; all_goals rfl)]
  rw [gd_pos (by
    rw [elB_eq (σ := σ)]
    · exact e2
    · simp (disch := omega) only [sI_2, sR_2, sRG_r]
    · rfl)]
  rw [gd_pos (by
    intro q hq
    simp (disch := omega) only [sI_r, sR_r, sRG_1]
    exact (ht q hq).2)]
  refine ⟨_, rfl, ⟨?_, ?_, ?_, ?_, ?_, ?_, ?_⟩, ⟨rfl, ?_, ?_⟩⟩
  · obtain ⟨n0, n1, n2, n3, n4, n5, n6, n7, n8⟩ := hn
    unfold bN
    simp (disch := omega) only [sI_s, sI_n, sI_r, sR_r, sRG_1]
    exact ⟨n0, n1, n2, n3, n4, n5, n6, n7, n8⟩
  · intro c hc'
    simp (disch := omega) only [sI_r, sR_r, sR_s, sRG_1, cpy_lt hc']
    exact hc c hc'
  · intro c hc'
    simp (disch := omega) only [sI_r, sR_r, sR_s, sRG_1, cpy_lt hc']
    exact hS c hc'
  · intro c hc'
    simp (disch := omega) only [sI_2, sR_2, sRG_r, sRG_s, sRG_3, cpy_lt hc']
    exact hh c hc'
  · intro c hc'
    simp (disch := omega) only [sI_r, sR_r, sR_s, sRG_1, cpy_lt hc']
    exact ht c hc'
  · intro c hc'
    simp (disch := omega) only [sI_r, sR_r, sR_s, sRG_1, cpy_lt hc']
    exact hw c hc'
  · intro c hc'
    simp (disch := omega) only [sI_2, sR_2, sRG_r, sRG_s, sRG_3, cpy_lt hc']
    exact hx c hc'
  · intro r r0 r2 r3 r4 r11 r12 r13 r16 r18
    simp (disch := assumption) only [sI_r, sR_r, sRG_1]
  · intro r r10 r14
    simp (disch := assumption) only [sI_2, sR_2, sRG_r]
theorem BR.xb {w : ZW} {σ σ' : ZS} {b b' : Nat} {f : Nat → Int32} (h : BR w σ b f) (hb : zBay b) (hb' : zBay b') (hn : b ≠ b') (hx : XB b' σ σ') : BR w σ' b f := by
  unfold zBay at hb hb'
  exact h.congr (fun k hk => hx.2.1 _ (by omega) (by omega) (by omega) (by omega) (by omega) (by omega) (by omega) (by omega) (by omega)) (fun k hk => hx.2.2 _ (by omega) (by omega)) (fun a ci vs h1 _ _ _ _ => by rw [hx.1]; exact h1)
