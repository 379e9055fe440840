/-! the start: behind the two constructors the two worlds stand alike -/
def u5 : Nat → Int32 := upd (upd (upd (upd (upd (upd (upd (upd (fun _ => 0) 0 5) 1 5) 2 5) 3 5) 4 5) 5 5) 6 5) 7 5
def u1 : Nat → Int32 := upd (upd (upd (upd (upd (upd (upd (upd (fun _ => 0) 0 1) 1 1) 2 1) 3 1) 4 1) 5 1) 6 1) 7 1
def bN0 : Nat → Int32 := fun k => match k with
  | 0 => 8
  | 4 => 200
  | 14 => 1
  | _ => 0
def X0x : Nat → Nat → Int32 := fun i => match i with
  | 100 => bN0
  | 200 => bN0
  | 300 => bN0
  | 102 => u5
  | 202 => u5
  | 302 => u5
  | 103 => u1
  | 203 => u1
  | 303 => u1
  | _ => fun _ => 0
def G0x (B : Nat) : Nat → Nat → Option Nat := fun i => match i with
  | 7 => va_up (va_up (va_up (va_up (fun _ => none) 0 (some (B + 45))) 1 (some (B + 46))) 2 (some (B + 47))) 3 (some (B + 48))
  | _ => fun _ => none
def P0x (B : Nat) : Nat → Option va_E := fun a => if B + 45 ≤ a ∧ a < B + 49 then some (.inr (5, [.null])) else none
def s0x (B : Nat) : ZS := (X0x, G0x B, P0x B, B + 64, 0, 0)
def g0 : Nat → Int32 := upd (upd (fun _ => 0) 6 1) 3 200
def X0m : Nat → Nat → Int32 := fun i => match i with
  | 1 => g0
  | _ => fun _ => 0
def G0m (w : ZW) : Nat → Nat → Option Nat := fun i => match i with
  | 7 => va_up (va_up (fun _ => none) 0 (some (zsK w 9))) 1 (some (zsK w 10))
  | _ => fun _ => none
def s0m (w : ZW) : ZS := (X0m, G0m w, fun _ => none, 0, 0, 0)
theorem P0x_c {B a : Nat} {x : va_E} (h : P0x B a = some x) : (B + 45 ≤ a ∧ a < B + 49) ∧ x = .inr (5, [.null]) := by
  unfold P0x at h
  split at h
  · rename_i h1
    exact ⟨h1, (Option.some.inj h).symm⟩
  · cases h
theorem sep0 {B : Nat} : Sep B (s0x B) := ⟨fun a x h => Or.inl (P0x_c h).1, Nat.le_refl _⟩
theorem hG0 {w : ZW} : hG w (s0m w) := by
  intro j hj
  rcases (show j = 0 ∨ j = 1 by omega) with rfl | rfl <;> rfl
def xm (w : ZW) (B : Nat) : List va_E := xR w B ++ mR w (B + 49)
set_option maxRecDepth 100000 in
set_option maxHeartbeats 4000000 in
theorem xm_x {w : ZW} {B : Nat} : ∀ i d, zLx i = some d → (xm w B)[offX i]? = some (zCellOf (wxOf w B) (s0x B) i d) := by
  intro i d h
  unfold zLx at h
  split at h
  all_goals first | (cases h; rfl) | cases h
set_option maxRecDepth 100000 in
set_option maxHeartbeats 4000000 in
theorem xm_m {w : ZW} {B : Nat} : ∀ i d, zLm i = some d → (xm w B)[49 + offM i]? = some (zCellOf (wmOf w B) (s0m w) i d) := by
  intro i d h
  unfold zLm at h
  split at h
  all_goals first | (cases h; rfl) | cases h
set_option maxRecDepth 100000 in
theorem xm_p {w : ZW} {B : Nat} : ∀ k, k < 4 → (xm w B)[45 + k]? = some (.inr (5, [.null])) := by
  intro k hk
  rcases (show k = 0 ∨ k = 1 ∨ k = 2 ∨ k = 3 by omega) with rfl | rfl | rfl | rfl <;> rfl
set_option maxRecDepth 100000 in
theorem xm_len {w : ZW} {B : Nat} : (xm w B).length = 64 := rfl
/-- the reference's world lies in what the constructors have made -/
theorem sub_m0 {w : ZW} {σ0 : ZS} {B c n : Nat} : zSub w (wmOf w B) zLm (mkP σ0 B (xm w B) c n) (bm (s0m w) (B + 64)) := by
  refine ⟨rfl, rfl, inj_m, by show B + 64 = B + (xm w B).length; rw [xm_len], fun i d hi => ?_, fun a x hx => (by cases hx), fun i n hi j hj => ?_⟩
  · show (mkP σ0 B (xm w B) c n).2.2.1 (B + 49 + offM i) = _
    rw [Nat.add_assoc, mkP_at, zCell_agree (σ := s0m w) (σ' := bm (s0m w) (B + 64)) rfl rfl d]
    exact xm_m i d hi
  · obtain ⟨rfl, rfl⟩ := str_m i n hi
    exact hG0 j hj
theorem bk_m0 {w : ZW} {σ0 : ZS} {B c n c' n' : Nat} {σm' : ZS} (h2 : σm'.2 = (bm (s0m w) (B + 64)).2) : zBk (wmOf w B) zLm (mkP σ0 B (xm w B) c n) (bm (s0m w) (B + 64)) σm' (out w B (s0x B) σm' c' n') := by
  refine ⟨by rw [h2]; rfl, fun a x hx => ?_⟩
  rcases outP_c (show outP w B (s0x B) σm' a = some x from hx) with ⟨i, d, hi, e, ex⟩ | ⟨i, d, hi, e, ex⟩ | h
  · have h1 := (offX_ok i d hi).1
    refine Or.inr (Or.inr ⟨?_, fun j d' hj e2 => ?_, rfl⟩)
    · subst e
      subst ex
      rw [mkP_at]
      exact xm_x i d hi
    · have e2 : a = B + 49 + offM j := e2
      omega
  · exact Or.inl ⟨i, d, hi, e, ex⟩
  · obtain ⟨h1, rfl⟩ := P0x_c h
    refine Or.inr (Or.inr ⟨?_, fun j d' hj e2 => ?_, rfl⟩)
    · obtain ⟨k, rfl⟩ : ∃ k, a = B + (45 + k) := ⟨a - (B + 45), by omega⟩
      rw [mkP_at]
      exact xm_p k (by omega)
    · have e2 : a = B + 49 + offM j := e2
      omega
/-- the first row -/
def f0 : Nat → Int32 := upd (upd (fl g0 8) 5 0) 1 8
theorem flat0 {w : ZW} {S : Nat} : ∃ r σm', fX6_flat (bm (s0m w) S) 8 = some (r, σm') ∧ σm'.2 = (bm (s0m w) S).2 ∧ (∀ i, i ≠ 1 → i ≠ 6 → σm'.1 i = X0m i) ∧ isRow σm' 1 f0 ∧ cOK σm' f0 := by
  obtain ⟨σ2, b1, b2, b3, b4⟩ := flat_L (y := 8) (g := g0) 8 0 (bm (s0m w) S) 10000 (by omega) (by omega) (by rw [fl0]; exact fun _ _ => rfl)
  obtain ⟨σ3, c1, c2, c3, c4⟩ := forget_ok (σ := sI σ2 1 5 0)
  have hr3 : isRow σ3 1 (upd (fl g0 8) 5 0) := fun j hj => by rw [c3 1 (by decide)]; exact b4.st j hj
  refine ⟨upd (fl g0 8) 5 0 1, sI σ3 1 1 8, ?_, ?_, fun i h1 h6 => ?_, hr3.st, (c4 _).st (by decide)⟩
  · unfold fX6_flat
    rw [show fX6_flat_L2 8 10000 0 (bm (s0m w) S) = _ from b1, bd_some, show (5 : Int32).toNatClampNeg = 5 from rfl, c1, bd_some, show (1 : Int32) = on 1 from rfl, turn_ok hr3 (by decide), bd_some]
  · rw [sI_2, c2, sI_2, b2]
  · rw [sI_r h1, c3 i h6, sI_r h1, b3 i h1]
    rfl
theorem bN_0 : ∀ b, zBay b → X0x b = bN0 ∧ X0x (b + 2) = u5 ∧ X0x (b + 3) = u1 := by
  intro b hb
  rcases hb with rfl | rfl | rfl <;> exact ⟨rfl, rfl, rfl⟩
theorem bZ_0 : ∀ b, zBay b → ∀ k, k = 4 ∨ k = 11 ∨ k = 12 ∨ k = 13 ∨ k = 16 ∨ k = 18 → X0x (b + k) = fun _ => 0 := by
  intro b hb k hk
  rcases hb with rfl | rfl | rfl <;> rcases hk with rfl | rfl | rfl | rfl | rfl | rfl <;> rfl
theorem bG_0 {B : Nat} : ∀ b, zBay b → ∀ k, k = 10 ∨ k = 14 → G0x B (b + k) = fun _ => none := by
  intro b hb k hk
  rcases hb with rfl | rfl | rfl <;> rcases hk with rfl | rfl <;> rfl
theorem f0_2 : f0 2 = 0 := by decide +kernel
theorem br0 {w : ZW} {B b : Nat} (hb : zBay b) : BR w (s0x B) b f0 := by
  obtain ⟨e0, e2, e3⟩ := bN_0 b hb
  refine ⟨?_, ?_, ?_, ?_, ?_, ?_, ?_⟩
  · unfold bN
    show f0 0 = X0x b 7 ∧ f0 1 = X0x b 0 ∧ f0 2 = X0x b 8 ∧ f0 3 = X0x b 4 ∧ f0 4 = X0x b 5 ∧ f0 5 = X0x b 6 ∧ f0 6 = X0x b 14 ∧ f0 7 = X0x b 16 ∧ f0 8 = X0x b 18
    rw [e0]
    decide +kernel
  · show ∀ c, c < 8 → f0 (9 + 3 * c) = X0x (b + 2) c ∧ f0 (10 + 3 * c) = X0x (b + 3) c ∧ f0 (11 + 3 * c) = X0x (b + 4) c
    rw [e2, e3, bZ_0 b hb 4 (by omega)]
    decide +kernel
  · show ∀ s, s < 7 → f0 (35 + 5 * s) = X0x (b + 11) s ∧ f0 (36 + 5 * s) = X0x (b + 12) s ∧ f0 (37 + 5 * s) = X0x (b + 13) s
    rw [bZ_0 b hb 11 (by omega), bZ_0 b hb 12 (by omega), bZ_0 b hb 13 (by omega)]
    decide +kernel
  · intro s hs
    refine Or.inl ⟨?_, ?_⟩
    · show G0x B (b + 10) s = none
      rw [bG_0 b hb 10 (by omega)]
    · rw [f0_2]
      exact on_ge (by omega)
  · show ∀ k, k < 50 → f0 (68 + k) = X0x (b + 16) k &&& 255 ∧ fits .byte (.int (X0x (b + 16) k)) = true
    rw [bZ_0 b hb 16 (by omega)]
    decide +kernel
  · show ∀ k, k < 20 → f0 (118 + k) = X0x (b + 18) k
    rw [bZ_0 b hb 18 (by omega)]
    decide +kernel
  · intro u hu
    refine Or.inl ⟨?_, ?_⟩
    · show G0x B (b + 14) u = none
      rw [bG_0 b hb 14 (by omega)]
    · rcases (show u = 0 ∨ u = 1 by omega) with rfl | rfl <;> decide +kernel
theorem fi0 : FI f0 := by
  have hno : ∀ s : Nat, s < 7 → ¬ on s < f0 2 := by
    intro s hs
    rw [f0_2]
    exact on_nn (by omega)
  refine ⟨⟨8, by decide +kernel, by decide, by decide, by decide +kernel, fun s hs hl => absurd hl (hno s hs)⟩, ⟨0, f0_2, by decide⟩, by decide +kernel, by decide +kernel, by decide +kernel, ⟨0, by decide +kernel, by decide⟩, ⟨0, by decide +kernel, by decide⟩, fun s hs hl => absurd hl (hno s hs), Or.inl (by decide +kernel), Or.inl (by decide +kernel)⟩
theorem li0 {w : ZW} {B : Nat} {σm' : ZS} (h2 : σm'.2 = (bm (s0m w) (B + 64)).2) (h3 : ∀ i, i ≠ 1 → i ≠ 6 → σm'.1 i = X0m i) (h4 : isRow σm' 1 f0) (h5 : cOK σm' f0) : LI w B 0 (s0x B) σm' := by
  have hz : ∀ i, i ≠ 1 → i ≠ 6 → σm'.1 i = fun _ => 0 := by
    intro i h1 h6
    rw [h3 i h1 h6]
    unfold X0m
    split
    · exact absurd rfl h1
    · rfl
  refine ⟨⟨⟨f0, br0 zb100, h4, fi0, h5⟩, ⟨f0, br0 zb200, fun j hj => Or.inl (by rw [hz 0 (by decide) (by decide)]), fi0⟩, ⟨0, by decide, rfl, by rw [hz 0 (by decide) (by decide)]; rfl⟩, fun k hk => by rw [hz 5 (by decide) (by decide)]; rfl, ⟨0, by decide, rfl, by rw [hz 0 (by decide) (by decide)]; rfl, fun k hk => absurd hk (by omega)⟩, ?_, fun a x h => ?_⟩, sep0, fun j hj => by rw [h2]; exact hG0 j hj⟩
  · have hA : ∀ k, k < 4 → (s0x B).2.2.1 (B + 45 + k) = some (.inr (5, [.null])) := by
      intro k hk
      show P0x B (B + 45 + k) = _
      unfold P0x
      rw [if_pos (by omega)]
    refine ⟨fun k => B + 45 + k, fun k hk => ⟨?_, Or.inl ⟨hA k hk, by rw [hz 21 (by decide) (by decide)]⟩⟩, fun k j hk hj e => ?_, fun k j o o' c c' r hk hj e1 => ?_⟩
    · rcases (show k = 0 ∨ k = 1 ∨ k = 2 ∨ k = 3 by omega) with rfl | rfl | rfl | rfl <;> rfl
    · have e : B + 45 + k = B + 45 + j := e
      omega
    · have e1 : (s0x B).2.2.1 (B + 45 + k) = _ := e1
      rw [hA k hk] at e1
      cases e1
  · have := (P0x_c h).1
    show a < B + 64
    omega
