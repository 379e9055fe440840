/-! the two worlds side by side in the law's own world (written by gen/mk94.py) -/
def offX (i : Nat) : Nat := match i with
  | 0 => 0
  | 1 => 1
  | 100 => 2
  | 102 => 3
  | 103 => 4
  | 104 => 5
  | 110 => 6
  | 111 => 7
  | 112 => 8
  | 113 => 9
  | 114 => 10
  | 116 => 11
  | 118 => 12
  | 120 => 13
  | 121 => 14
  | 200 => 15
  | 202 => 16
  | 203 => 17
  | 204 => 18
  | 210 => 19
  | 211 => 20
  | 212 => 21
  | 213 => 22
  | 214 => 23
  | 216 => 24
  | 218 => 25
  | 220 => 26
  | 221 => 27
  | 300 => 28
  | 302 => 29
  | 303 => 30
  | 304 => 31
  | 310 => 32
  | 311 => 33
  | 312 => 34
  | 313 => 35
  | 314 => 36
  | 316 => 37
  | 318 => 38
  | 320 => 39
  | 321 => 40
  | 4 => 41
  | 5 => 42
  | 6 => 43
  | 7 => 44
  | _ => 0
def invX (i : Nat) : Nat := match i with
  | 0 => 0
  | 1 => 1
  | 2 => 100
  | 3 => 102
  | 4 => 103
  | 5 => 104
  | 6 => 110
  | 7 => 111
  | 8 => 112
  | 9 => 113
  | 10 => 114
  | 11 => 116
  | 12 => 118
  | 13 => 120
  | 14 => 121
  | 15 => 200
  | 16 => 202
  | 17 => 203
  | 18 => 204
  | 19 => 210
  | 20 => 211
  | 21 => 212
  | 22 => 213
  | 23 => 214
  | 24 => 216
  | 25 => 218
  | 26 => 220
  | 27 => 221
  | 28 => 300
  | 29 => 302
  | 30 => 303
  | 31 => 304
  | 32 => 310
  | 33 => 311
  | 34 => 312
  | 35 => 313
  | 36 => 314
  | 37 => 316
  | 38 => 318
  | 39 => 320
  | 40 => 321
  | 41 => 4
  | 42 => 5
  | 43 => 6
  | 44 => 7
  | _ => 0
def offM (i : Nat) : Nat := match i with
  | 0 => 0
  | 1 => 1
  | 2 => 2
  | 3 => 3
  | 5 => 4
  | 6 => 5
  | 7 => 6
  | 12 => 7
  | 14 => 8
  | 15 => 9
  | 16 => 10
  | 21 => 11
  | 22 => 12
  | 23 => 13
  | 24 => 14
  | _ => 0
def invM (i : Nat) : Nat := match i with
  | 0 => 0
  | 1 => 1
  | 2 => 2
  | 3 => 3
  | 4 => 5
  | 5 => 6
  | 6 => 7
  | 7 => 12
  | 8 => 14
  | 9 => 15
  | 10 => 16
  | 11 => 21
  | 12 => 22
  | 13 => 23
  | 14 => 24
  | _ => 0
theorem offX_ok : ∀ i d, zLx i = some d → offX i < 45 ∧ invX (offX i) = i := by
  intro i d h
  unfold zLx at h
  split at h
  all_goals first | exact ⟨by decide, rfl⟩ | cases h
theorem offM_ok : ∀ i d, zLm i = some d → offM i < 15 ∧ invM (offM i) = i := by
  intro i d h
  unfold zLm at h
  split at h
  all_goals first | exact ⟨by decide, rfl⟩ | cases h
theorem invX_ok : ∀ k, k < 45 → offX (invX k) = k := by decide
theorem invM_ok : ∀ k, k < 15 → offM (invM k) = k := by decide
theorem noStr_x : ∀ i n, zLx i = some (.inl (6, n, true)) → False := by
  intro i n h
  unfold zLx at h
  split at h
  all_goals cases h
theorem str_m : ∀ i n, zLm i = some (.inl (6, n, true)) → i = 7 ∧ n = 2 := by
  intro i n h
  unfold zLm at h
  split at h
  all_goals first | (cases h; exact ⟨rfl, rfl⟩) | cases h
def wxOf (w : ZW) (B : Nat) : ZW := (w.1, w.2.1, fun i => B + offX i)
def wmOf (w : ZW) (B : Nat) : ZW := (w.1, w.2.1, fun i => B + 49 + offM i)
theorem inj_x {w : ZW} {B : Nat} : zInj (wxOf w B) zLx := by
  intro i j d d' hi hj e
  have e : B + offX i = B + offX j := e
  rw [← (offX_ok i d hi).2, ← (offX_ok j d' hj).2, show offX i = offX j by omega]
theorem inj_m {w : ZW} {B : Nat} : zInj (wmOf w B) zLm := by
  intro i j d d' hi hj e
  have e : B + 49 + offM i = B + 49 + offM j := e
  rw [← (offM_ok i d hi).2, ← (offM_ok j d' hj).2, show offM i = offM j by omega]
def outP (w : ZW) (B : Nat) (σx σm : ZS) (a : Nat) : Option va_E :=
  if a < B then none else if a < B + 45 then (zLx (invX (a - B))).map (zCellOf (wxOf w B) σx (invX (a - B)))
  else if B + 49 ≤ a ∧ a < B + 64 then (zLm (invM (a - (B + 49)))).map (zCellOf (wmOf w B) σm (invM (a - (B + 49)))) else σx.2.2.1 a
def out (w : ZW) (B : Nat) (σx σm : ZS) (c n : Nat) : ZS := (fun _ _ => 0, fun _ _ => none, outP w B σx σm, σx.2.2.2.1, c, n)
/-- the class's pool keeps away from the fixed cells -/
def Sep (B : Nat) (σx : ZS) : Prop := (∀ a x, σx.2.2.1 a = some x → (B + 45 ≤ a ∧ a < B + 49) ∨ B + 64 ≤ a) ∧ B + 64 ≤ σx.2.2.2.1
def bx (σx : ZS) : ZS := (σx.1, σx.2.1, σx.2.2.1, σx.2.2.2.1, 100, 5000)
def bm (σm : ZS) (S : Nat) : ZS := (σm.1, σm.2.1, fun _ => none, S, 0, 0)
theorem outP_x {w : ZW} {B i : Nat} {σx σm : ZS} {d : (Nat × Nat × Bool) ⊕ (Nat × List ZFd)} (h : zLx i = some d) : outP w B σx σm (B + offX i) = some (zCellOf (wxOf w B) σx i d) := by
  obtain ⟨h1, h2⟩ := offX_ok i d h
  unfold outP
  rw [if_neg (by omega), if_pos (by omega), show B + offX i - B = offX i by omega, h2, h]
  rfl
theorem outP_m {w : ZW} {B i : Nat} {σx σm : ZS} {d : (Nat × Nat × Bool) ⊕ (Nat × List ZFd)} (h : zLm i = some d) : outP w B σx σm (B + 49 + offM i) = some (zCellOf (wmOf w B) σm i d) := by
  obtain ⟨h1, h2⟩ := offM_ok i d h
  unfold outP
  rw [if_neg (by omega), if_neg (by omega), if_pos (by omega), show B + 49 + offM i - (B + 49) = offM i by omega, h2, h]
  rfl
theorem outP_p {w : ZW} {B a : Nat} {σx σm : ZS} {x : va_E} (hS : Sep B σx) (h : σx.2.2.1 a = some x) : outP w B σx σm a = some x := by
  have := hS.1 a x h
  unfold outP
  rw [if_neg (by omega), if_neg (by omega), if_neg (by omega)]
  exact h
theorem outP_c {w : ZW} {B a : Nat} {σx σm : ZS} {x : va_E} (h : outP w B σx σm a = some x) : (∃ i d, zLx i = some d ∧ a = B + offX i ∧ x = zCellOf (wxOf w B) σx i d) ∨ (∃ i d, zLm i = some d ∧ a = B + 49 + offM i ∧ x = zCellOf (wmOf w B) σm i d) ∨ σx.2.2.1 a = some x := by
  unfold outP at h
  by_cases h0 : a < B
  · rw [if_pos h0] at h; cases h
  · rw [if_neg h0] at h
    by_cases h1 : a < B + 45
    · rw [if_pos h1] at h
      obtain ⟨d, hd, e⟩ := Option.map_eq_some_iff.mp h
      exact Or.inl ⟨_, d, hd, by rw [invX_ok _ (by omega)]; omega, e.symm⟩
    · rw [if_neg h1] at h
      by_cases h2 : B + 49 ≤ a ∧ a < B + 64
      · rw [if_pos h2] at h
        obtain ⟨d, hd, e⟩ := Option.map_eq_some_iff.mp h
        exact Or.inr (Or.inl ⟨_, d, hd, by rw [invM_ok _ (by omega)]; omega, e.symm⟩)
      · rw [if_neg h2] at h
        exact Or.inr (Or.inr h)
theorem sub_x {w : ZW} {B c n : Nat} {σx σm : ZS} (hS : Sep B σx) : zSub w (wxOf w B) zLx (out w B σx σm c n) (bx σx) := by
  refine ⟨rfl, rfl, inj_x, rfl, fun i d hi => ?_, fun a x hx => ⟨outP_p hS hx, fun i d hi e => ?_⟩, fun i n hi => (noStr_x i n hi).elim⟩
  · rw [zCell_agree (σ := σx) (σ' := bx σx) rfl rfl d]
    exact outP_x hi
  · have h1 := hS.1 a x hx
    have h2 := (offX_ok i d hi).1
    have e : a = B + offX i := e
    omega
def hG (w : ZW) (σm : ZS) : Prop := ∀ j, j < 2 → σm.2.1 7 j = some (w.1.2 1000 (9 + j))
theorem sub_m {w : ZW} {B c n : Nat} {σx σm : ZS} (hg : hG w σm) : zSub w (wmOf w B) zLm (out w B σx σm c n) (bm σm σx.2.2.2.1) := by
  refine ⟨rfl, rfl, inj_m, rfl, fun i d hi => ?_, fun a x hx => (by cases hx), fun i n hi j hj => ?_⟩
  · rw [zCell_agree (σ := σm) (σ' := bm σm σx.2.2.2.1) rfl rfl d]
    exact outP_m hi
  · obtain ⟨rfl, rfl⟩ := str_m i n hi
    exact hg j hj
theorem bk_x {w : ZW} {B c n c' n' : Nat} {σx σm σx' : ZS} (hS : Sep B σx) : zBk (wxOf w B) zLx (out w B σx σm c n) (bx σx) σx' (out w B σx' σm c' n') := by
  refine ⟨rfl, fun a x hx => ?_⟩
  rcases outP_c (show outP w B σx' σm a = some x from hx) with ⟨i, d, hi, e, ex⟩ | ⟨i, d, hi, e, ex⟩ | h
  · exact Or.inl ⟨i, d, hi, e, ex⟩
  · have h1 := (offM_ok i d hi).1
    refine Or.inr (Or.inr ⟨?_, fun j d' hj e2 => ?_, ?_⟩)
    · subst e
      subst ex
      exact outP_m hi
    · have h2 := (offX_ok j d' hj).1
      have e2 : a = B + offX j := e2
      omega
    · show σx.2.2.1 a = none
      cases hp : σx.2.2.1 a with
      | none => rfl
      | some y =>
        have := hS.1 a y hp
        omega
  · exact Or.inr (Or.inl h)
theorem bk_m {w : ZW} {B c n c' n' : Nat} {σx σm σm' : ZS} (hS : Sep B σx) (h2 : σm'.2 = (bm σm σx.2.2.2.1).2) : zBk (wmOf w B) zLm (out w B σx σm c n) (bm σm σx.2.2.2.1) σm' (out w B σx σm' c' n') := by
  refine ⟨by rw [h2]; rfl, fun a x hx => ?_⟩
  rcases outP_c (show outP w B σx σm' a = some x from hx) with ⟨i, d, hi, e, ex⟩ | ⟨i, d, hi, e, ex⟩ | h
  · have h1 := (offX_ok i d hi).1
    refine Or.inr (Or.inr ⟨?_, fun j d' hj e2 => ?_, rfl⟩)
    · subst e
      subst ex
      exact outP_x hi
    · have e2 : a = B + 49 + offM j := e2
      omega
  · exact Or.inl ⟨i, d, hi, e, ex⟩
  · refine Or.inr (Or.inr ⟨outP_p hS h, fun j d' hj e2 => ?_, rfl⟩)
    have h1 := hS.1 a x h
    have h3 := (offM_ok j d' hj).1
    have e2 : a = B + 49 + offM j := e2
    omega
theorem Sep.next {w : ZW} {B : Nat} {σx σx' : ZS} (hS : Sep B σx) (h1 : ∀ a x, σx'.2.2.1 a = some x → zA (wxOf w B) zLx (bx σx) a) (h2 : ∀ a x, σx'.2.2.1 a = some x → ∀ i d, zLx i = some d → a ≠ (wxOf w B).2.2 i) (h3 : (bx σx).2.2.2.1 ≤ σx'.2.2.2.1) : Sep B σx' := by
  have h3 : σx.2.2.2.1 ≤ σx'.2.2.2.1 := h3
  refine ⟨fun a x hx => ?_, Nat.le_trans hS.2 h3⟩
  rcases h1 a x hx with ⟨i, d, hi, e⟩ | ⟨y, hy⟩ | hz
  · exact absurd e (h2 a x hx i d hi)
  · exact hS.1 a y hy
  · exact Or.inr (Nat.le_trans hS.2 hz)
/-- what holds between two rounds of the law's loop -/
def LI (w : ZW) (B N : Nat) (σx σm : ZS) : Prop := RR (wxOf w B) N σx σm ∧ Sep B σx ∧ hG w σm
theorem LI.rr {w : ZW} {B N : Nat} {σx σm : ZS} (h : LI w B N σx σm) (S : Nat) : RR (wxOf w B) N (bx σx) (bm σm S) := h.1
theorem act_S {w : ZW} {N : Nat} {σm : ZS} {x : Option (Int32 × ZS)} {m : ZS → Option (Int32 × ZS)} (h : ∀ S, act w N (bm σm S) x (m (bm σm S))) : ∃ r σx' σm', x = some (r, σx') ∧ m (bm σm σx'.2.2.2.1) = some (r, σm') ∧ RR w (N + 1) σx' σm' ∧ σm'.2 = (bm σm σx'.2.2.2.1).2 := by
  obtain ⟨r, σx', -, hx, -⟩ := h 0
  obtain ⟨r2, σx2, σm2, hx2, hm, hR, h2⟩ := h σx'.2.2.2.1
  rw [hx] at hx2
  cases hx2
  exact ⟨r, σx', σm2, hx, hm, hR, h2⟩
theorem LI.next {w : ZW} {B N S : Nat} {σx' σm σm' : ZS} (hR : RR (wxOf w B) (N + 1) σx' σm') (hS : Sep B σx') (hg : hG w σm) (h2 : σm'.2 = (bm σm S).2) : LI w B (N + 1) σx' σm' :=
  ⟨hR, hS, fun j hj => by rw [h2]; exact hg j hj⟩
