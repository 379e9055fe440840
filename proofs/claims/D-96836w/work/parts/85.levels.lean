/-! the plain law, 36: the two readers, the levels -/
theorem bd_assoc {α β γ : Type} {x : Option (α × ZS)} {f : α → ZS → Option (β × ZS)} {g : β → ZS → Option γ} : bd (bd x f) g = bd x (fun a s => bd (f a s) g) := by
  cases x with
  | none => rfl
  | some v => rfl
theorem sc_id {x : Option ((Nat ⊕ Nat) × ZS)} : bd x (fun r s => sc r (fun (z : Nat) => some (.inl z, s)) (fun (t : Nat) => some (.inr t, s))) = x := by
  cases x with
  | none => rfl
  | some v =>
    obtain ⟨r, s⟩ := v
    cases r <;> rfl
theorem PG.lt {w : ZW} {a u n pos o c r pos' : Nat} {σ τ σ' τ' : ZS} {cs : List Int32} (h : PG w a u n σ τ pos o c σ' τ' r pos' cs) : pos' ≤ n ∧ n ≤ 50 := ⟨h.1.2.2.2.2.2.2.2.1.1, h.1.2.2.2.2.2.2.2.1.2.1⟩
theorem ch_lt {σ : ZS} {n pos : Nat} {v : Int32} (h : ch σ n pos = v) (hv : ¬ v = -1) : pos < n := by
  rcases ch_rng (σ := σ) (n := n) (pos := pos) with ⟨h1, -⟩ | ⟨-, h1⟩
  · exact h1
  · exact absurd (h.symm.trans h1) hv
theorem either_L {w : ZW} {a u n : Nat} {bn : List Int32} {rx : Nat → ZS → Option ((Nat ⊕ Nat) × ZS)} {rm : Nat → ZS → Option (Unit × ZS)} {o : Nat} (hRC : RC w a u n rx rm 1 o) {σ0 τ0 : ZS} {pos0 c0 : Nat} : ∀ (d m m' : Nat) (σ τ : ZS) (y1 pos : Nat) (cs : List Int32), n - pos ≤ d → d < m → d < m' → KP a σ0 σ → KM τ0 τ → PG w a u n σ0 τ0 pos0 o c0 σ τ y1 pos cs → PO w a u n σ0 τ0 pos0 o c0 (fX16_either_L5 rx w a u bn m y1 σ) (fX6_either_L4 rm m' τ)
  | d, 0, m', σ, τ, y1, pos, cs, hd, hm, hm', hK, hM, hG => by omega
  | d, m + 1, 0, σ, τ, y1, pos, cs, hd, hm, hm', hK, hM, hG => by omega
  | d, m + 1, m' + 1, σ, τ, y1, pos, cs, hd, hm, hm', hK, hM, hG => by
    rw [fX16_either_L5, fX6_either_L4, hG.1.rd, bo_some, hG.1.takes 124]
    rcases hG.1.isOne (i := 8) (bn := bn) (by omega) with ⟨h1, h2⟩ | ⟨h1, h2⟩
    · have e : ch σ n pos = 124 := List.mem_singleton.mp h1
      have hp := ch_lt e (by decide)
      rw [show fX16_isOne w σ a u bn [124] = _ from h2, bo_some, if_neg (show ¬ (1 : Int32) = 0 by decide), if_pos e, bd_some, if_neg (show ¬ (1 : Int32) = 0 by decide)]
      show PO w a u n σ0 τ0 pos0 o c0 (nodeX rx w a u 1 σ (on n) (on pos) (on o) 124 y1 (fun q s => fX16_either_L5 rx w a u bn m q s)) _
      obtain ⟨σ', τ', k1, k2, k3, k4⟩ := node_ok (op := 20000) hRC hK hM hG hp (show opOf 124 = some 20000 from rfl)
      rw [k3]
      rcases k4 with ⟨q, pos', cs', q1, q2, q3⟩ | ⟨t, q2, q3⟩
      · rw [q2]
        exact either_L hRC (d - 1) m m' σ' τ' q pos' cs' (by omega) (by omega) (by omega) k1 k2 q3
      · rw [q2]
        obtain ⟨m', rfl⟩ : ∃ x, m' = x + 1 := ⟨m' - 1, by omega⟩
        rw [fX6_either_L4, wrong_takes q3.2.1 (by decide), bd_some, if_pos rfl]
        exact ⟨σ', τ', k1, k2, rfl, Or.inr ⟨t, rfl, q3⟩⟩
    · have e : ¬ ch σ n pos = 124 := fun x => h1 (List.mem_singleton.mpr x)
      rw [show fX16_isOne w σ a u bn [124] = _ from h2, bo_some, if_pos rfl, if_neg e, bd_some, if_pos rfl]
      exact ⟨σ, τ, hK, hM, rfl, Or.inl ⟨y1, pos, cs, rfl, hG⟩⟩
theorem either_lv {w : ZW} {a u n : Nat} {bn : List Int32} {rx : Nat → ZS → Option ((Nat ⊕ Nat) × ZS)} {rm : Nat → ZS → Option (Unit × ZS)} {o : Nat} (hRC : RC w a u n rx rm 1 o) {σ τ : ZS} {pos c : Nat} (h : PS w a u n σ τ pos o c) : PO w a u n σ τ pos o c (fX16_either rx w σ a u bn) (fX6_either rm τ) := by
  unfold fX16_either fX6_either
  rw [h.rd, bo_some]
  simp only [sc_id, bd_id]
  obtain ⟨σ1, τ1, k1, k2, k3, k4⟩ := hRC σ τ pos c h
  rw [k3, bd_some]
  rcases k4 with ⟨r, pos', cs, x1, x2⟩ | ⟨t, x1, x2⟩
  · rw [x1, bd_some, sc_inl]
    have := x2.lt
    exact either_L hRC 100 10000 10000 σ1 τ1 r pos' cs (by omega) (by omega) (by omega) k1 k2 x2
  · rw [x1, bd_some, sc_inr, show (10000 : Nat) = 9999 + 1 from rfl, fX6_either_L4, wrong_takes x2.2.1 (by decide), bd_some, if_pos rfl]
    exact ⟨σ1, τ1, k1, k2, rfl, Or.inr ⟨t, rfl, x2⟩⟩
theorem both_L {w : ZW} {a u n : Nat} {bn : List Int32} {rx : Nat → ZS → Option ((Nat ⊕ Nat) × ZS)} {rm : Nat → ZS → Option (Unit × ZS)} {o : Nat} (hRC : RC w a u n rx rm 2 o) {σ0 τ0 : ZS} {pos0 c0 : Nat} : ∀ (d m m' : Nat) (σ τ : ZS) (y1 pos : Nat) (cs : List Int32), n - pos ≤ d → d < m → d < m' → KP a σ0 σ → KM τ0 τ → PG w a u n σ0 τ0 pos0 o c0 σ τ y1 pos cs → PO w a u n σ0 τ0 pos0 o c0 (fX16_both_L5 rx w a u bn m y1 σ) (fX6_both_L4 rm m' τ)
  | d, 0, m', σ, τ, y1, pos, cs, hd, hm, hm', hK, hM, hG => by omega
  | d, m + 1, 0, σ, τ, y1, pos, cs, hd, hm, hm', hK, hM, hG => by omega
  | d, m + 1, m' + 1, σ, τ, y1, pos, cs, hd, hm, hm', hK, hM, hG => by
    rw [fX16_both_L5, fX6_both_L4, hG.1.rd, bo_some, hG.1.takes 38]
    rcases hG.1.isOne (i := 7) (bn := bn) (by omega) with ⟨h1, h2⟩ | ⟨h1, h2⟩
    · have e : ch σ n pos = 38 := List.mem_singleton.mp h1
      have hp := ch_lt e (by decide)
      rw [show fX16_isOne w σ a u bn [38] = _ from h2, bo_some, if_neg (show ¬ (1 : Int32) = 0 by decide), if_pos e, bd_some, if_neg (show ¬ (1 : Int32) = 0 by decide)]
      show PO w a u n σ0 τ0 pos0 o c0 (nodeX rx w a u 2 σ (on n) (on pos) (on o) 38 y1 (fun q s => fX16_both_L5 rx w a u bn m q s)) _
      obtain ⟨σ', τ', k1, k2, k3, k4⟩ := node_ok (op := 20001) hRC hK hM hG hp (show opOf 38 = some 20001 from rfl)
      rw [k3]
      rcases k4 with ⟨q, pos', cs', q1, q2, q3⟩ | ⟨t, q2, q3⟩
      · rw [q2]
        exact both_L hRC (d - 1) m m' σ' τ' q pos' cs' (by omega) (by omega) (by omega) k1 k2 q3
      · rw [q2]
        obtain ⟨m', rfl⟩ : ∃ x, m' = x + 1 := ⟨m' - 1, by omega⟩
        rw [fX6_both_L4, wrong_takes q3.2.1 (by decide), bd_some, if_pos rfl]
        exact ⟨σ', τ', k1, k2, rfl, Or.inr ⟨t, rfl, q3⟩⟩
    · have e : ¬ ch σ n pos = 38 := fun x => h1 (List.mem_singleton.mpr x)
      rw [show fX16_isOne w σ a u bn [38] = _ from h2, bo_some, if_pos rfl, if_neg e, bd_some, if_pos rfl]
      exact ⟨σ, τ, hK, hM, rfl, Or.inl ⟨y1, pos, cs, rfl, hG⟩⟩
theorem both_lv {w : ZW} {a u n : Nat} {bn : List Int32} {rx : Nat → ZS → Option ((Nat ⊕ Nat) × ZS)} {rm : Nat → ZS → Option (Unit × ZS)} {o : Nat} (hRC : RC w a u n rx rm 2 o) {σ τ : ZS} {pos c : Nat} (h : PS w a u n σ τ pos o c) : PO w a u n σ τ pos o c (fX16_both rx w σ a u bn) (fX6_both rm τ) := by
  unfold fX16_both fX6_both
  rw [h.rd, bo_some]
  simp only [sc_id, bd_id]
  obtain ⟨σ1, τ1, k1, k2, k3, k4⟩ := hRC σ τ pos c h
  rw [k3, bd_some]
  rcases k4 with ⟨r, pos', cs, x1, x2⟩ | ⟨t, x1, x2⟩
  · rw [x1, bd_some, sc_inl]
    have := x2.lt
    exact both_L hRC 100 10000 10000 σ1 τ1 r pos' cs (by omega) (by omega) (by omega) k1 k2 x2
  · rw [x1, bd_some, sc_inr, show (10000 : Nat) = 9999 + 1 from rfl, fX6_both_L4, wrong_takes x2.2.1 (by decide), bd_some, if_pos rfl]
    exact ⟨σ1, τ1, k1, k2, rfl, Or.inr ⟨t, rfl, x2⟩⟩
def mS {α : Type} (τ : ZS) (K : Int32 → ZS → Option α) : Option α := bd (fX6_takes τ 43) (fun r_17 σ_19 => bd (if r_17 = 0 then (bd (fX6_takes σ_19 45) (fun r_24 σ_26 => if r_24 = 0 then (some (0, σ_26)) else (some (20006, σ_26)))) else (some (20005, σ_19))) K)
def mP {α : Type} (τ : ZS) (K : Int32 → ZS → Option α) : Option α := bd (fX6_takes τ 42) (fun r_17 σ_19 => bd (if r_17 = 0 then (bd (fX6_takes σ_19 47) (fun r_24 σ_26 => if r_24 = 0 then (bd (fX6_takes σ_26 37) (fun r_28 σ_30 => if r_28 = 0 then (some (0, σ_30)) else (some (20009, σ_30)))) else (some (20008, σ_26)))) else (some (20007, σ_19))) K)
def mC {α : Type} (τ : ZS) (K : Int32 → ZS → Option α) : Option α := bd (fX6_takes τ 60) (fun r_17 σ_19 => bd (if r_17 = 0 then (bd (fX6_takes σ_19 61) (fun r_24 σ_26 => if r_24 = 0 then (bd (fX6_takes σ_26 62) (fun r_28 σ_30 => if r_28 = 0 then (some (0, σ_30)) else (some (20004, σ_30)))) else (some (20003, σ_26)))) else (some (20002, σ_19))) K)
theorem mS_w {α : Type} {τ : ZS} {K : Int32 → ZS → Option α} (h : τ.1 0 10 = 1) : mS τ K = K 0 τ := by
  unfold mS
  rw [wrong_takes h (by decide), bd_some, if_pos rfl, wrong_takes h (by decide), bd_some, if_pos rfl, bd_some]
theorem mS_ok {w : ZW} {a u n pos o c : Nat} {σ τ : ZS} (h : PS w a u n σ τ pos o c) : (ch σ n pos ∈ ([43, 45] : List Int32) → ∃ op, opOf (ch σ n pos) = some op ∧ ¬ op ≤ 0 ∧ ∀ (α : Type) (K : Int32 → ZS → Option α), mS τ K = K op (sI τ 0 7 (on (pos + 1)))) ∧ (¬ ch σ n pos ∈ ([43, 45] : List Int32) → ∀ (α : Type) (K : Int32 → ZS → Option α), mS τ K = K 0 τ) := by
  unfold mS
  simp only [h.takes]
  by_cases q0 : ch σ n pos = 43
  · refine ⟨fun _ => ⟨20005, by rw [q0]; rfl, by decide, fun α K => ?_⟩, fun hn => absurd (by rw [q0]; decide) hn⟩
    rw [if_pos q0, bd_some, if_neg (show ¬ (1 : Int32) = 0 by decide), bd_some]
  by_cases q1 : ch σ n pos = 45
  · refine ⟨fun _ => ⟨20006, by rw [q1]; rfl, by decide, fun α K => ?_⟩, fun hn => absurd (by rw [q1]; decide) hn⟩
    rw [if_neg q0, bd_some, if_pos rfl, h.takes, if_pos q1, bd_some, if_neg (show ¬ (1 : Int32) = 0 by decide), bd_some]
  refine ⟨fun hn => ?_, fun _ α K => ?_⟩
  · simp only [List.mem_cons, List.not_mem_nil, or_false] at hn
    exact absurd hn (by simp [q0, q1])
  · rw [if_neg q0, bd_some, if_pos rfl, h.takes, if_neg q1, bd_some, if_pos rfl, bd_some]
theorem mP_w {α : Type} {τ : ZS} {K : Int32 → ZS → Option α} (h : τ.1 0 10 = 1) : mP τ K = K 0 τ := by
  unfold mP
  rw [wrong_takes h (by decide), bd_some, if_pos rfl, wrong_takes h (by decide), bd_some, if_pos rfl, wrong_takes h (by decide), bd_some, if_pos rfl, bd_some]
theorem mP_ok {w : ZW} {a u n pos o c : Nat} {σ τ : ZS} (h : PS w a u n σ τ pos o c) : (ch σ n pos ∈ ([42, 47, 37] : List Int32) → ∃ op, opOf (ch σ n pos) = some op ∧ ¬ op ≤ 0 ∧ ∀ (α : Type) (K : Int32 → ZS → Option α), mP τ K = K op (sI τ 0 7 (on (pos + 1)))) ∧ (¬ ch σ n pos ∈ ([42, 47, 37] : List Int32) → ∀ (α : Type) (K : Int32 → ZS → Option α), mP τ K = K 0 τ) := by
  unfold mP
  simp only [h.takes]
  by_cases q0 : ch σ n pos = 42
  · refine ⟨fun _ => ⟨20007, by rw [q0]; rfl, by decide, fun α K => ?_⟩, fun hn => absurd (by rw [q0]; decide) hn⟩
    rw [if_pos q0, bd_some, if_neg (show ¬ (1 : Int32) = 0 by decide), bd_some]
  by_cases q1 : ch σ n pos = 47
  · refine ⟨fun _ => ⟨20008, by rw [q1]; rfl, by decide, fun α K => ?_⟩, fun hn => absurd (by rw [q1]; decide) hn⟩
    rw [if_neg q0, bd_some, if_pos rfl, h.takes, if_pos q1, bd_some, if_neg (show ¬ (1 : Int32) = 0 by decide), bd_some]
  by_cases q2 : ch σ n pos = 37
  · refine ⟨fun _ => ⟨20009, by rw [q2]; rfl, by decide, fun α K => ?_⟩, fun hn => absurd (by rw [q2]; decide) hn⟩
    rw [if_neg q0, bd_some, if_pos rfl, h.takes, if_neg q1, bd_some, if_pos rfl, h.takes, if_pos q2, bd_some, if_neg (show ¬ (1 : Int32) = 0 by decide), bd_some]
  refine ⟨fun hn => ?_, fun _ α K => ?_⟩
  · simp only [List.mem_cons, List.not_mem_nil, or_false] at hn
    exact absurd hn (by simp [q0, q1, q2])
  · rw [if_neg q0, bd_some, if_pos rfl, h.takes, if_neg q1, bd_some, if_pos rfl, h.takes, if_neg q2, bd_some, if_pos rfl, bd_some]
theorem mC_w {α : Type} {τ : ZS} {K : Int32 → ZS → Option α} (h : τ.1 0 10 = 1) : mC τ K = K 0 τ := by
  unfold mC
  rw [wrong_takes h (by decide), bd_some, if_pos rfl, wrong_takes h (by decide), bd_some, if_pos rfl, wrong_takes h (by decide), bd_some, if_pos rfl, bd_some]
theorem mC_ok {w : ZW} {a u n pos o c : Nat} {σ τ : ZS} (h : PS w a u n σ τ pos o c) : (ch σ n pos ∈ ([60, 61, 62] : List Int32) → ∃ op, opOf (ch σ n pos) = some op ∧ ¬ op ≤ 0 ∧ ∀ (α : Type) (K : Int32 → ZS → Option α), mC τ K = K op (sI τ 0 7 (on (pos + 1)))) ∧ (¬ ch σ n pos ∈ ([60, 61, 62] : List Int32) → ∀ (α : Type) (K : Int32 → ZS → Option α), mC τ K = K 0 τ) := by
  unfold mC
  simp only [h.takes]
  by_cases q0 : ch σ n pos = 60
  · refine ⟨fun _ => ⟨20002, by rw [q0]; rfl, by decide, fun α K => ?_⟩, fun hn => absurd (by rw [q0]; decide) hn⟩
    rw [if_pos q0, bd_some, if_neg (show ¬ (1 : Int32) = 0 by decide), bd_some]
  by_cases q1 : ch σ n pos = 61
  · refine ⟨fun _ => ⟨20003, by rw [q1]; rfl, by decide, fun α K => ?_⟩, fun hn => absurd (by rw [q1]; decide) hn⟩
    rw [if_neg q0, bd_some, if_pos rfl, h.takes, if_pos q1, bd_some, if_neg (show ¬ (1 : Int32) = 0 by decide), bd_some]
  by_cases q2 : ch σ n pos = 62
  · refine ⟨fun _ => ⟨20004, by rw [q2]; rfl, by decide, fun α K => ?_⟩, fun hn => absurd (by rw [q2]; decide) hn⟩
    rw [if_neg q0, bd_some, if_pos rfl, h.takes, if_neg q1, bd_some, if_pos rfl, h.takes, if_pos q2, bd_some, if_neg (show ¬ (1 : Int32) = 0 by decide), bd_some]
  refine ⟨fun hn => ?_, fun _ α K => ?_⟩
  · simp only [List.mem_cons, List.not_mem_nil, or_false] at hn
    exact absurd hn (by simp [q0, q1, q2])
  · rw [if_neg q0, bd_some, if_pos rfl, h.takes, if_neg q1, bd_some, if_pos rfl, h.takes, if_neg q2, bd_some, if_pos rfl, bd_some]
theorem sum_L {w : ZW} {a u n : Nat} {bn : List Int32} {rx : Nat → ZS → Option ((Nat ⊕ Nat) × ZS)} {rm : Nat → ZS → Option (Unit × ZS)} {o : Nat} (hRC : RC w a u n rx rm 4 o) {σ0 τ0 : ZS} {pos0 c0 : Nat} : ∀ (d m m' : Nat) (σ τ : ZS) (y1 pos : Nat) (cs : List Int32), n - pos ≤ d → d < m → d < m' → KP a σ0 σ → KM τ0 τ → PG w a u n σ0 τ0 pos0 o c0 σ τ y1 pos cs → PO w a u n σ0 τ0 pos0 o c0 (fX16_sum_L5 rx w a u bn m y1 σ) (mS τ (fun j s => bd (fX6_sum_L36 rm m' j s) (fun _ s' => some ((), s'))))
  | d, 0, m', σ, τ, y1, pos, cs, hd, hm, hm', hK, hM, hG => by omega
  | d, m + 1, 0, σ, τ, y1, pos, cs, hd, hm, hm', hK, hM, hG => by omega
  | d, m + 1, m' + 1, σ, τ, y1, pos, cs, hd, hm, hm', hK, hM, hG => by
    rw [fX16_sum_L5, hG.1.rd, bo_some]
    rcases hG.1.isOne (i := 5) (bn := bn) (by omega) with ⟨h1, h2⟩ | ⟨h1, h2⟩
    · obtain ⟨op, o1, o2, o3⟩ := (mS_ok hG.1).1 h1
      have hp : pos < n := ch_lt rfl (fun x => by rw [x] at h1; exact absurd h1 (by decide))
      rw [show fX16_isOne w σ a u bn [43, 45] = _ from h2, bo_some, if_neg (show ¬ (1 : Int32) = 0 by decide), hG.1.look, bo_some, o3, fX6_sum_L36, if_neg o2]
      show PO w a u n σ0 τ0 pos0 o c0 (nodeX rx w a u 4 σ (on n) (on pos) (on o) (ch σ n pos) y1 (fun q s => fX16_sum_L5 rx w a u bn m q s)) (bd (bd (rm 4 (sI τ 0 7 (on (pos + 1)))) (fun _ s => bd (fX6_codes s op) (fun _ s => mS s (fun j s => fX6_sum_L36 rm m' j s)))) (fun _ s' => some ((), s')))
      obtain ⟨σ', τ', k1, k2, k3, k4⟩ := node_ok (op := op) hRC hK hM hG hp o1
      rw [k3]
      rcases k4 with ⟨q, pos', cs', q1, q2, q3⟩ | ⟨t, q2, q3⟩
      · rw [q2]
        have := sum_L (bn := bn) hRC (d - 1) m m' σ' τ' q pos' cs' (by omega) (by omega) (by omega) k1 k2 q3
        unfold mS at this ⊢
        simp only [bd_assoc]
        exact this
      · rw [q2]
        obtain ⟨m', rfl⟩ : ∃ x, m' = x + 1 := ⟨m' - 1, by omega⟩
        rw [mS_w q3.2.1, fX6_sum_L36, if_pos (by decide), bd_some]
        exact ⟨σ', τ', k1, k2, rfl, Or.inr ⟨t, rfl, q3⟩⟩
    · rw [show fX16_isOne w σ a u bn [43, 45] = _ from h2, bo_some, if_pos rfl, (mS_ok hG.1).2 h1, fX6_sum_L36, if_pos (by decide), bd_some]
      exact ⟨σ, τ, hK, hM, rfl, Or.inl ⟨y1, pos, cs, rfl, hG⟩⟩
theorem sum_lv {w : ZW} {a u n : Nat} {bn : List Int32} {rx : Nat → ZS → Option ((Nat ⊕ Nat) × ZS)} {rm : Nat → ZS → Option (Unit × ZS)} {o : Nat} (hRC : RC w a u n rx rm 4 o) {σ τ : ZS} {pos c : Nat} (h : PS w a u n σ τ pos o c) : PO w a u n σ τ pos o c (fX16_sum rx w σ a u bn) (fX6_sum rm τ) := by
  unfold fX16_sum fX6_sum
  rw [h.rd, bo_some]
  simp only [sc_id]
  show PO w a u n σ τ pos o c _ (bd (rm 4 τ) (fun _ s => mS s (fun j s => bd (fX6_sum_L36 rm 10000 j s) (fun _ s' => some ((), s')))))
  obtain ⟨σ1, τ1, k1, k2, k3, k4⟩ := hRC σ τ pos c h
  rw [k3, bd_some]
  rcases k4 with ⟨r, pos', cs, x1, x2⟩ | ⟨t, x1, x2⟩
  · rw [x1, bd_some, sc_inl]
    have := x2.lt
    exact sum_L hRC 100 10000 10000 σ1 τ1 r pos' cs (by omega) (by omega) (by omega) k1 k2 x2
  · rw [x1, bd_some, sc_inr, mS_w x2.2.1, show (10000 : Nat) = 9999 + 1 from rfl, fX6_sum_L36, if_pos (by decide), bd_some]
    exact ⟨σ1, τ1, k1, k2, rfl, Or.inr ⟨t, rfl, x2⟩⟩
theorem product_L {w : ZW} {a u n : Nat} {bn : List Int32} {rx : Nat → ZS → Option ((Nat ⊕ Nat) × ZS)} {rm : Nat → ZS → Option (Unit × ZS)} {o : Nat} (hRC : RC w a u n rx rm 5 o) {σ0 τ0 : ZS} {pos0 c0 : Nat} : ∀ (d m m' : Nat) (σ τ : ZS) (y1 pos : Nat) (cs : List Int32), n - pos ≤ d → d < m → d < m' → KP a σ0 σ → KM τ0 τ → PG w a u n σ0 τ0 pos0 o c0 σ τ y1 pos cs → PO w a u n σ0 τ0 pos0 o c0 (fX16_product_L5 rx w a u bn m y1 σ) (mP τ (fun j s => bd (fX6_product_L51 rm m' j s) (fun _ s' => some ((), s'))))
  | d, 0, m', σ, τ, y1, pos, cs, hd, hm, hm', hK, hM, hG => by omega
  | d, m + 1, 0, σ, τ, y1, pos, cs, hd, hm, hm', hK, hM, hG => by omega
  | d, m + 1, m' + 1, σ, τ, y1, pos, cs, hd, hm, hm', hK, hM, hG => by
    rw [fX16_product_L5, hG.1.rd, bo_some]
    rcases hG.1.isOne (i := 4) (bn := bn) (by omega) with ⟨h1, h2⟩ | ⟨h1, h2⟩
    · obtain ⟨op, o1, o2, o3⟩ := (mP_ok hG.1).1 h1
      have hp : pos < n := ch_lt rfl (fun x => by rw [x] at h1; exact absurd h1 (by decide))
      rw [show fX16_isOne w σ a u bn [42, 47, 37] = _ from h2, bo_some, if_neg (show ¬ (1 : Int32) = 0 by decide), hG.1.look, bo_some, o3, fX6_product_L51, if_neg o2]
      show PO w a u n σ0 τ0 pos0 o c0 (nodeX rx w a u 5 σ (on n) (on pos) (on o) (ch σ n pos) y1 (fun q s => fX16_product_L5 rx w a u bn m q s)) (bd (bd (rm 5 (sI τ 0 7 (on (pos + 1)))) (fun _ s => bd (fX6_codes s op) (fun _ s => mP s (fun j s => fX6_product_L51 rm m' j s)))) (fun _ s' => some ((), s')))
      obtain ⟨σ', τ', k1, k2, k3, k4⟩ := node_ok (op := op) hRC hK hM hG hp o1
      rw [k3]
      rcases k4 with ⟨q, pos', cs', q1, q2, q3⟩ | ⟨t, q2, q3⟩
      · rw [q2]
        have := product_L (bn := bn) hRC (d - 1) m m' σ' τ' q pos' cs' (by omega) (by omega) (by omega) k1 k2 q3
        unfold mP at this ⊢
        simp only [bd_assoc]
        exact this
      · rw [q2]
        obtain ⟨m', rfl⟩ : ∃ x, m' = x + 1 := ⟨m' - 1, by omega⟩
        rw [mP_w q3.2.1, fX6_product_L51, if_pos (by decide), bd_some]
        exact ⟨σ', τ', k1, k2, rfl, Or.inr ⟨t, rfl, q3⟩⟩
    · rw [show fX16_isOne w σ a u bn [42, 47, 37] = _ from h2, bo_some, if_pos rfl, (mP_ok hG.1).2 h1, fX6_product_L51, if_pos (by decide), bd_some]
      exact ⟨σ, τ, hK, hM, rfl, Or.inl ⟨y1, pos, cs, rfl, hG⟩⟩
theorem product_lv {w : ZW} {a u n : Nat} {bn : List Int32} {rx : Nat → ZS → Option ((Nat ⊕ Nat) × ZS)} {rm : Nat → ZS → Option (Unit × ZS)} {o : Nat} (hRC : RC w a u n rx rm 5 o) {σ τ : ZS} {pos c : Nat} (h : PS w a u n σ τ pos o c) : PO w a u n σ τ pos o c (fX16_product rx w σ a u bn) (fX6_product rm τ) := by
  unfold fX16_product fX6_product
  rw [h.rd, bo_some]
  simp only [sc_id]
  show PO w a u n σ τ pos o c _ (bd (rm 5 τ) (fun _ s => mP s (fun j s => bd (fX6_product_L51 rm 10000 j s) (fun _ s' => some ((), s')))))
  obtain ⟨σ1, τ1, k1, k2, k3, k4⟩ := hRC σ τ pos c h
  rw [k3, bd_some]
  rcases k4 with ⟨r, pos', cs, x1, x2⟩ | ⟨t, x1, x2⟩
  · rw [x1, bd_some, sc_inl]
    have := x2.lt
    exact product_L hRC 100 10000 10000 σ1 τ1 r pos' cs (by omega) (by omega) (by omega) k1 k2 x2
  · rw [x1, bd_some, sc_inr, mP_w x2.2.1, show (10000 : Nat) = 9999 + 1 from rfl, fX6_product_L51, if_pos (by decide), bd_some]
    exact ⟨σ1, τ1, k1, k2, rfl, Or.inr ⟨t, rfl, x2⟩⟩
theorem relation_lv {w : ZW} {a u n : Nat} {bn : List Int32} {rx : Nat → ZS → Option ((Nat ⊕ Nat) × ZS)} {rm : Nat → ZS → Option (Unit × ZS)} {o : Nat} (hRC : RC w a u n rx rm 3 o) {σ τ : ZS} {pos c : Nat} (h : PS w a u n σ τ pos o c) : PO w a u n σ τ pos o c (fX16_relation rx w σ a u bn) (fX6_compared rm τ) := by
  unfold fX16_relation fX6_compared
  rw [h.rd, bo_some]
  show PO w a u n σ τ pos o c _ (bd (rm 3 τ) (fun _ s => mC s (fun j s => bd (if j ≤ 0 then (some ((), s)) else (bd (rm 3 s) (fun _ s1 => bd (fX6_codes s1 j) (fun _ s2 => some ((), s2))))) (fun (_ : Unit) s => some ((), s)))))
  obtain ⟨σ1, τ1, k1, k2, k3, k4⟩ := hRC σ τ pos c h
  rw [k3, bd_some]
  rcases k4 with ⟨r, pos', cs, x1, x2⟩ | ⟨t, x1, x2⟩
  · rw [x1, bd_some, sc_inl, x2.1.rd, bo_some]
    rcases x2.1.isOne (i := 6) (bn := bn) (by omega) with ⟨h1, h2⟩ | ⟨h1, h2⟩
    · obtain ⟨op, o1, o2, o3⟩ := (mC_ok x2.1).1 h1
      have hp : pos' < n := ch_lt rfl (fun x => by rw [x] at h1; exact absurd h1 (by decide))
      rw [show fX16_isOne w σ1 a u bn [60, 61, 62] = _ from h2, bo_some, if_neg (show ¬ (1 : Int32) = 0 by decide), x2.1.look, bo_some, o3, if_neg o2]
      show PO w a u n σ τ pos o c (nodeX rx w a u 3 σ1 (on n) (on pos') (on o) (ch σ1 n pos') r (fun q s => some (.inl q, s))) _
      obtain ⟨σ', τ', j1, j2, j3, j4⟩ := node_ok (op := op) hRC k1 k2 x2 hp o1
      rw [j3, bd_some]
      rcases j4 with ⟨q, pos2, cs', q1, q2, q3⟩ | ⟨t, q2, q3⟩
      · rw [q2]
        exact ⟨σ', τ', j1, j2, rfl, Or.inl ⟨q, pos2, cs', rfl, q3⟩⟩
      · rw [q2]
        exact ⟨σ', τ', j1, j2, rfl, Or.inr ⟨t, rfl, q3⟩⟩
    · rw [show fX16_isOne w σ1 a u bn [60, 61, 62] = _ from h2, bo_some, if_pos rfl, (mC_ok x2.1).2 h1, if_pos (by decide), bd_some]
      exact ⟨σ1, τ1, k1, k2, rfl, Or.inl ⟨r, pos', cs, rfl, x2⟩⟩
  · rw [x1, bd_some, sc_inr, mC_w x2.2.1, if_pos (by decide), bd_some]
    exact ⟨σ1, τ1, k1, k2, rfl, Or.inr ⟨t, rfl, x2⟩⟩
