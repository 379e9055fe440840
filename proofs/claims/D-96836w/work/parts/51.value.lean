/-! the plain law, 2: the value of a text, by its codes -/
def dn (op a b : Int32) : Int32 := if op = 20000 then (if a = 0 then (if b = 0 then 0 else 1) else 1) else if op = 20001 then (if a = 0 then 0 else (if b = 0 then 0 else 1)) else if op = 20002 then (if b ≤ a then 0 else 1) else if op = 20003 then (if a = b then 1 else 0) else if op = 20004 then (if a ≤ b then 0 else 1) else if op = 20005 then a + b else if op = 20006 then a - b else if op = 20007 then a * b else if op = 20008 then (if b = 0 then 0 else a / b) else (if b = 0 then 0 else a - a / b * b)
def stp (nd : Nat → Int32) (c : Int32) (st : List Int32) : List Int32 :=
  if 20000 ≤ c then (if c = 20010 then (match st with
    | x :: t => (if x = 0 then 1 else 0) :: t
    | [] => []) else (match st with
    | y :: x :: t => dn c x y :: t
    | _ => [])) else ((if 10000 ≤ c then nd (c - 10000).toNatClampNeg else c) :: st)
def val (nd : Nat → Int32) (cs : List Int32) : Int32 := ((cs.foldl (fun st c => stp nd c st) []).head?).getD 0
/-- codes of a tree, by depth -/
def Pf : Nat → List Int32 → Prop
  | 0, _ => False
  | d + 1, cs => (∃ v : Int32, 0 ≤ v ∧ v < 10000 ∧ cs = [v]) ∨ (∃ k : Nat, k < 3 ∧ cs = [10000 + on k]) ∨ (∃ c1, Pf d c1 ∧ cs = c1 ++ [20010]) ∨ (∃ c1 c2 op, Pf d c1 ∧ Pf d c2 ∧ 20000 ≤ op ∧ op < (20010 : Int32) ∧ cs = c1 ++ c2 ++ [op])
theorem nd3 : ∀ k, k < 3 → ¬ (20000 : Int32) ≤ 10000 + on k ∧ (10000 : Int32) ≤ 10000 + on k ∧ (10000 + on k - 10000).toNatClampNeg = k := by decide +kernel
theorem stp_fig {nd : Nat → Int32} {v : Int32} (h1 : 0 ≤ v) (h2 : v < 10000) (st : List Int32) : stp nd v st = v :: st := by
  unfold stp
  rw [if_neg (by lia), if_neg (by lia)]
theorem stp_nam {nd : Nat → Int32} {k : Nat} (h : k < 3) (st : List Int32) : stp nd (10000 + on k) st = nd k :: st := by
  obtain ⟨a, b, c⟩ := nd3 k h
  unfold stp
  rw [if_neg a, if_pos b, c]
theorem stp_not {nd : Nat → Int32} (x : Int32) (st : List Int32) : stp nd 20010 (x :: st) = (if x = 0 then 1 else 0) :: st := rfl
theorem stp_two {nd : Nat → Int32} {op : Int32} (h1 : 20000 ≤ op) (h2 : op < 20010) (x y : Int32) (st : List Int32) : stp nd op (y :: x :: st) = dn op x y :: st := by
  unfold stp
  rw [if_pos h1, if_neg (by lia)]
theorem run_pf (nd : Nat → Int32) : ∀ (d : Nat) (cs : List Int32), Pf d cs → ∀ st, cs.foldl (fun st c => stp nd c st) st = val nd cs :: st
  | 0, _, h => by cases h
  | d + 1, cs, h => by
    intro st
    rcases h with ⟨v, h1, h2, rfl⟩ | ⟨k, hk, rfl⟩ | ⟨c1, h1, rfl⟩ | ⟨c1, c2, op, h1, h2, h3, h4, rfl⟩
    · simp [val, stp_fig h1 h2]
    · simp only [val, List.foldl_cons, List.foldl_nil, stp_nam hk, List.head?_cons, Option.getD_some]
    · have e := run_pf nd d c1 h1
      rw [val, List.foldl_append, List.foldl_append, e st, e []]
      rfl
    · have e1 := run_pf nd d c1 h1
      have e2 := run_pf nd d c2 h2
      rw [val, List.foldl_append, List.foldl_append, List.foldl_append, List.foldl_append, e1 st, e1 [], e2, e2]
      simp [stp_two h3 h4]
theorem val_fig {nd : Nat → Int32} {v : Int32} (h1 : 0 ≤ v) (h2 : v < 10000) : val nd [v] = v := by simp [val, stp_fig h1 h2]
theorem val_nam {nd : Nat → Int32} {k : Nat} (h : k < 3) : val nd [10000 + on k] = nd k := by
  simp only [val, List.foldl_cons, List.foldl_nil, stp_nam h, List.head?_cons, Option.getD_some]
theorem val_not {nd : Nat → Int32} {d : Nat} {c1 : List Int32} (h : Pf d c1) : val nd (c1 ++ [20010]) = if val nd c1 = 0 then 1 else 0 := by
  have e := run_pf nd d c1 h
  rw [val, List.foldl_append, e []]
  rfl
theorem val_two {nd : Nat → Int32} {d : Nat} {c1 c2 : List Int32} {op : Int32} (h1 : Pf d c1) (h2 : Pf d c2) (h3 : 20000 ≤ op) (h4 : op < 20010) : val nd (c1 ++ c2 ++ [op]) = dn op (val nd c1) (val nd c2) := by
  have e1 := run_pf nd d c1 h1
  have e2 := run_pf nd d c2 h2
  rw [val, List.foldl_append, List.foldl_append, e1 [], e2]
  simp [stp_two h3 h4]
theorem done_ok {op a b : Int32} (h1 : 20000 ≤ op) (h2 : op < 20010) : fX6_done op a b = some (dn op a b) := by
  unfold fX6_done dn
  simp only [nm]
  split
  · rfl
  split
  · rfl
  split
  · rfl
  split
  · rfl
  split
  · rfl
  split
  · rfl
  split
  · rfl
  split
  · rfl
  split
  · rfl
  rw [gd_pos]
  right
  have h3 : op = 20009 := by grind
  rw [h3]
  decide
/-! the class's trees -/
def ltr (u k : Nat) : Int32 := if u = 0 then (if k = 0 then 99 else if k = 1 then 121 else 98) else (if k = 0 then 100 else if k = 1 then 109 else 104)
def opOf (sg : Int32) : Option Int32 := if sg = 124 then some 20000 else if sg = 38 then some 20001 else if sg = 60 then some 20002 else if sg = 61 then some 20003 else if sg = 62 then some 20004 else if sg = 43 then some 20005 else if sg = 45 then some 20006 else if sg = 42 then some 20007 else if sg = 47 then some 20008 else if sg = 37 then some 20009 else none
def TA (P : Nat → Option va_E) (u : Nat) : Nat → Nat → List Int32 → Prop
  | 0, _, _ => False
  | d + 1, a, cs => (∃ v : Int32, P a = some (.inr (19, [.int v])) ∧ 0 ≤ v ∧ v < 10000 ∧ cs = [v]) ∨ (∃ k : Nat, k < 3 ∧ P a = some (.inr (16, [.int (ltr u k)])) ∧ cs = [10000 + on k]) ∨ (∃ a1 c1, P a = some (.inr (18, [.ref a1])) ∧ TA P u d a1 c1 ∧ cs = c1 ++ [20010]) ∨ (∃ sg a1 a2 c1 c2 op, P a = some (.inr (7, [.int sg, .ref a1, .ref a2])) ∧ opOf sg = some op ∧ TA P u d a1 c1 ∧ TA P u d a2 c2 ∧ cs = c1 ++ c2 ++ [op])
theorem opOf_rng {sg op : Int32} (h : opOf sg = some op) : 20000 ≤ op ∧ op < 20010 := by
  unfold opOf at h
  repeat' split at h
  all_goals first | (cases h; decide) | cases h
theorem TA.pf {P : Nat → Option va_E} {u : Nat} : ∀ {d a : Nat} {cs : List Int32}, TA P u d a cs → Pf d cs
  | 0, _, _, h => by cases h
  | d + 1, a, cs, h => by
    rcases h with ⟨v, -, h1, h2, rfl⟩ | ⟨k, hk, -, rfl⟩ | ⟨a1, c1, -, h1, rfl⟩ | ⟨sg, a1, a2, c1, c2, op, -, h1, h2, h3, rfl⟩
    · exact Or.inl ⟨v, h1, h2, rfl⟩
    · exact Or.inr (Or.inl ⟨k, hk, rfl⟩)
    · exact Or.inr (Or.inr (Or.inl ⟨c1, TA.pf h1, rfl⟩))
    · obtain ⟨o1, o2⟩ := opOf_rng h1
      exact Or.inr (Or.inr (Or.inr ⟨c1, c2, op, TA.pf h2, TA.pf h3, o1, o2, rfl⟩))
theorem TA.more {P : Nat → Option va_E} {u : Nat} : ∀ {d a : Nat} {cs : List Int32}, TA P u d a cs → TA P u (d + 1) a cs
  | 0, _, _, h => by cases h
  | d + 1, a, cs, h => by
    rcases h with h | h | ⟨a1, c1, h0, h1, h2⟩ | ⟨sg, a1, a2, c1, c2, op, h0, h1, h2, h3, h4⟩
    · exact Or.inl h
    · exact Or.inr (Or.inl h)
    · exact Or.inr (Or.inr (Or.inl ⟨a1, c1, h0, TA.more h1, h2⟩))
    · exact Or.inr (Or.inr (Or.inr ⟨sg, a1, a2, c1, c2, op, h0, h1, TA.more h2, TA.more h3, h4⟩))
theorem TA.le {P : Nat → Option va_E} {u d a : Nat} {cs : List Int32} (h : TA P u d a cs) : ∀ {d' : Nat}, d ≤ d' → TA P u d' a cs := by
  intro d' hd
  induction hd with
  | refl => exact h
  | step _ ih => exact ih.more
/-- the pool may grow, or change elsewhere -/
theorem TA.mono {P P' : Nat → Option va_E} {u : Nat} (hp : ∀ a ci vs, P a = some (.inr (ci, vs)) → (ci = 7 ∨ ci = 16 ∨ ci = 18 ∨ ci = 19) → P' a = some (.inr (ci, vs))) : ∀ {d a : Nat} {cs : List Int32}, TA P u d a cs → TA P' u d a cs
  | 0, _, _, h => by cases h
  | d + 1, a, cs, h => by
    rcases h with ⟨v, h0, h⟩ | ⟨k, hk, h0, h⟩ | ⟨a1, c1, h0, h1, h2⟩ | ⟨sg, a1, a2, c1, c2, op, h0, h1, h2, h3, h4⟩
    · exact Or.inl ⟨v, hp _ _ _ h0 (by decide), h⟩
    · exact Or.inr (Or.inl ⟨k, hk, hp _ _ _ h0 (by decide), h⟩)
    · exact Or.inr (Or.inr (Or.inl ⟨a1, c1, hp _ _ _ h0 (by decide), TA.mono hp h1, h2⟩))
    · exact Or.inr (Or.inr (Or.inr ⟨sg, a1, a2, c1, c2, op, hp _ _ _ h0 (by decide), h1, TA.mono hp h2, TA.mono hp h3, h4⟩))
theorem ltr_in : ∀ u, u < 2 → ∀ k, k < 3 → ¬ (ltr u k < 0 ∨ 128 ≤ (ltr u k).toNatClampNeg) := by decide +kernel
set_option maxHeartbeats 1000000 in
theorem two_ok {rc : Nat → Option Int32} {σ : ZS} {sg op x y : Int32} {a1 a2 b : Nat} (h : opOf sg = some op) (h1 : rc a1 = some x) (h2 : rc a2 = some y) : fX8_value rc σ sg a1 a2 b = some (dn op x y) := by
  unfold opOf at h
  unfold fX8_value
  rw [h1, h2, bo_some, bo_some]
  simp only [nm, fX8_is]
  repeat' split at h
  all_goals first | (rename_i e; subst e; cases h; simp [dn, gd]; done) | (rename_i e; subst e; cases h; simp [dn, gd]; (repeat' split) <;> first | rfl | (exfalso; grind) | simp_all) | cases h
theorem fV_ok {σ : ZS} {b u : Nat} {nd : Nat → Int32} (hu : u < 2) (hn : ∀ k, k < 3 → σ.1 (b + 21) (ltr u k).toNatClampNeg = nd k) : ∀ {d a : Nat} {cs : List Int32}, TA σ.2.2.1 u d a cs → fV d σ b a = some (val nd cs)
  | 0, _, _, h => by cases h
  | d + 1, a, cs, h => by
    rcases h with ⟨v, h0, h1, h2, rfl⟩ | ⟨k, hk, h0, rfl⟩ | ⟨a1, c1, h0, h1, rfl⟩ | ⟨sg, a1, a2, c1, c2, op, h0, h1, h2, h3, rfl⟩
    · rw [fV, h0, val_fig h1 h2]
      rfl
    · rw [fV, h0, val_nam hk]
      show fX17_value _ _ _ _ = _
      unfold fX17_value
      rw [gd_pos (ltr_in u hu k hk), hn k hk]
    · rw [fV, h0, val_not h1.pf]
      show fX19_value _ _ _ _ = _
      unfold fX19_value
      rw [fV_ok hu hn h1]
      rfl
    · obtain ⟨o1, o2⟩ := opOf_rng h1
      rw [fV, h0, val_two h2.pf h3.pf o1 o2]
      exact two_ok h1 (fV_ok hu hn h2) (fV_ok hu hn h3)
