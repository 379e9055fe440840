/-! the plain law, 10: rows copied and forgotten; sets of ships -/
theorem copy_L {q1 q2 : Nat} (hq : q1 ≠ q2) : ∀ (k i : Nat) (σ : ZS) (n : Nat), i + k = 242 → k < n → ∃ σ', fX6_copy_L2 q1 q2 n (on i) σ = some (on 242, σ') ∧ σ'.2 = σ.2 ∧ (∀ r, r ≠ q2 → σ'.1 r = σ.1 r) ∧ (∀ j, i ≤ j → j < 242 → σ'.1 q2 j = σ.1 q1 j) ∧ ∀ j, j < i → σ'.1 q2 j = σ.1 q2 j
  | 0, i, σ, n, hi, hk => by
    obtain ⟨n, rfl⟩ : ∃ m, n = m + 1 := ⟨n - 1, by omega⟩
    have hii : i = 242 := by omega
    subst hii
    rw [fX6_copy_L2, if_pos (by decide)]
    exact ⟨σ, rfl, rfl, fun _ _ => rfl, fun j h1 h2 => by omega, fun _ _ => rfl⟩
  | k + 1, i, σ, n, hi, hk => by
    obtain ⟨n, rfl⟩ : ∃ m, n = m + 1 := ⟨n - 1, by omega⟩
    obtain ⟨σ1, a1, a2, a3, a4, a5⟩ := copy_L hq k (i + 1) (sI σ q2 i (σ.1 q1 i)) n (by omega) (by omega)
    rw [fX6_copy_L2, if_neg (by rw [show (242 : Int32) = on 242 from rfl, on_le (by omega) (by omega)]; omega), gd_pos (on_in (by omega) (by omega)), nm_eq, nm_eq, on_a1, tn_ofNat (by omega), a1]
    refine ⟨σ1, rfl, a2, fun r hr => by rw [a3 r hr, sI_r hr], fun j h1 h2 => ?_, fun j h1 => by rw [a5 j (by omega), sI_n (by omega)]⟩
    by_cases e : j = i
    · subst e
      rw [a5 j (by omega), sI_s]
    · rw [a4 j (by omega) h2, sI_r hq]
theorem copy_ok {σ : ZS} {q1 q2 : Nat} (hq : q1 ≠ q2) : ∃ σ', fX6_copy σ q1 q2 = some ((), σ') ∧ σ'.2 = σ.2 ∧ (∀ r, r ≠ q2 → σ'.1 r = σ.1 r) ∧ ∀ f, isRow σ q1 f → isRow σ' q2 f := by
  obtain ⟨σ1, a1, a2, a3, a4, -⟩ := copy_L hq 242 0 σ 10000 (by omega) (by omega)
  unfold fX6_copy
  rw [show (0 : Int32) = on 0 from rfl, a1]
  exact ⟨σ1, rfl, a2, a3, fun f h j hj => by rw [a4 j (by omega) hj]; exact h j hj⟩
theorem forget_L : ∀ (k i : Nat) (σ : ZS) (n : Nat), i + k = 8000 → k < n → ∃ σ', fX6_forgetDepths_L2 n (on i) σ = some (on 8000, σ') ∧ σ'.2 = σ.2 ∧ (∀ r, r ≠ 6 → σ'.1 r = σ.1 r) ∧ (∀ j, i ≤ j → j < 8000 → σ'.1 6 j = 0) ∧ ∀ j, j < i → σ'.1 6 j = σ.1 6 j
  | 0, i, σ, n, hi, hk => by
    obtain ⟨n, rfl⟩ : ∃ m, n = m + 1 := ⟨n - 1, by omega⟩
    have hii : i = 8000 := by omega
    subst hii
    rw [fX6_forgetDepths_L2, if_pos (by decide)]
    exact ⟨σ, rfl, rfl, fun _ _ => rfl, fun j h1 h2 => by omega, fun _ _ => rfl⟩
  | k + 1, i, σ, n, hi, hk => by
    obtain ⟨n, rfl⟩ : ∃ m, n = m + 1 := ⟨n - 1, by omega⟩
    obtain ⟨σ1, a1, a2, a3, a4, a5⟩ := forget_L k (i + 1) (sI σ 6 i 0) n (by omega) (by omega)
    rw [fX6_forgetDepths_L2, if_neg (by rw [show (8000 : Int32) = on 8000 from rfl, on_le (by omega) (by omega)]; omega), gd_pos (on_in (by omega) (by omega)), nm_eq, on_a1, tn_ofNat (by omega), a1]
    refine ⟨σ1, rfl, a2, fun r hr => by rw [a3 r hr, sI_r hr], fun j h1 h2 => ?_, fun j h1 => by rw [a5 j (by omega), sI_n (by omega)]⟩
    by_cases e : j = i
    · subst e
      rw [a5 j (by omega), sI_s]
    · rw [a4 j (by omega) h2]
theorem forget_ok {σ : ZS} : ∃ σ', fX6_forgetDepths σ = some ((), σ') ∧ σ'.2 = σ.2 ∧ (∀ r, r ≠ 6 → σ'.1 r = σ.1 r) ∧ ∀ f, cOK σ' f := by
  obtain ⟨σ1, a1, a2, a3, a4, -⟩ := forget_L 8000 0 σ 10000 (by omega) (by omega)
  unfold fX6_forgetDepths
  rw [show (0 : Int32) = on 0 from rfl, a1]
  exact ⟨σ1, rfl, a2, a3, fun f c y hc hy => Or.inl (a4 _ (by omega) (by omega))⟩
/-! sets of ships, as numbers -/
def lst (f : Nat → Int32) : Nat → Int32
  | 0 => 0
  | n + 1 => lst f n ||| (f (37 + 5 * n) <<< (on n &&& 31))
def ats (f : Nat → Int32) (c : Int32) : Nat → Int32
  | 0 => 0
  | n + 1 => ats f c n ||| (if f (36 + 5 * n) = c then (1 <<< (on n &&& 31)) else 0)
def hom (f : Nat → Int32) : Nat → Int32
  | 0 => 0
  | n + 1 => hom f n + (if f (36 + 5 * n) = 0 then 1 else 0)
abbrev nsh (f : Nat → Int32) : Nat := (f 2).toNatClampNeg
theorem lost_L {σ : ZS} {f : Nat → Int32} {ns : Nat} (hr : isRow σ 1 f) (hn : f 2 = on ns) (h7 : ns ≤ 7) : ∀ (k i n : Nat), i + k = ns → k < n → fX6_lostNow_L4 σ n (lst f i) (on i) = some (lst f ns, on ns)
  | 0, i, n, hi, hk => by
    obtain ⟨n, rfl⟩ : ∃ m, n = m + 1 := ⟨n - 1, by omega⟩
    have hii : i = ns := by omega
    subst hii
    rw [fX6_lostNow_L4, show σ.1 1 (2 : Int32).toNatClampNeg = on i from by rw [← hn]; exact hr 2 (by omega), if_pos ((on_le (by omega) (by omega)).mpr (Nat.le_refl _))]
  | k + 1, i, n, hi, hk => by
    obtain ⟨n, rfl⟩ : ∃ m, n = m + 1 := ⟨n - 1, by omega⟩
    rw [fX6_lostNow_L4, show σ.1 1 (2 : Int32).toNatClampNeg = on ns from by rw [← hn]; exact hr 2 (by omega), if_neg (by rw [on_le (by omega) (by omega)]; omega), si4 hr (by omega), bo_some, nm_eq, nm_eq, on_a1]
    exact lost_L hr hn h7 k (i + 1) n (by omega) (by omega)
theorem lostNow_ok {σ : ZS} {f : Nat → Int32} (hr : isRow σ 1 f) (hI : FI f) : fX6_lostNow σ = some (lst f (nsh f)) := by
  obtain ⟨ns, s1, s2, s3⟩ := hI.ns
  unfold fX6_lostNow nsh
  rw [s3, show fX6_lostNow_L4 σ 10000 0 0 = _ from lost_L hr s1 s2 ns 0 10000 (by omega) (by omega)]
  rfl
theorem xlost_L {w : ZW} {σ : ZS} {b : Nat} {f : Nat → Int32} {ns : Nat} (hr : BR w σ b f) (hn : f 2 = on ns) (h7 : ns ≤ 7) : ∀ (k i n : Nat), i + k = ns → k < n → fX2_whoAreLost_L4 σ b n (lst f i) (on i) = some (lst f ns, on ns)
  | 0, i, n, hi, hk => by
    obtain ⟨n, rfl⟩ : ∃ m, n = m + 1 := ⟨n - 1, by omega⟩
    have hii : i = ns := by omega
    subst hii
    rw [fX2_whoAreLost_L4, ← hr.1.2.2.1, hn, if_pos ((on_le (by omega) (by omega)).mpr (Nat.le_refl _))]
  | k + 1, i, n, hi, hk => by
    obtain ⟨n, rfl⟩ : ∃ m, n = m + 1 := ⟨n - 1, by omega⟩
    rw [fX2_whoAreLost_L4, ← hr.1.2.2.1, hn, if_neg (by rw [on_le (by omega) (by omega)]; omega), gd_pos (on_in (by omega) (by decide)), nm_eq, nm_eq, on_a1, tn_ofNat (by omega), ← (hr.2.2.1 i (by omega)).2.2]
    exact xlost_L hr hn h7 k (i + 1) n (by omega) (by omega)
theorem xlost_ok {w : ZW} {σ : ZS} {b : Nat} {f : Nat → Int32} (hr : BR w σ b f) (hI : FI f) : fX2_whoAreLost σ b = some (lst f (nsh f)) := by
  obtain ⟨ns, s1, s2, s3⟩ := hI.ns
  unfold fX2_whoAreLost nsh
  rw [s3, show fX2_whoAreLost_L4 σ b 10000 0 0 = _ from xlost_L hr s1 s2 ns 0 10000 (by omega) (by omega)]
  rfl
theorem ats_L {σ : ZS} {f : Nat → Int32} {ns : Nat} {c : Int32} (hr : isRow σ 1 f) (hn : f 2 = on ns) (h7 : ns ≤ 7) : ∀ (k i n : Nat), i + k = ns → k < n → fX6_shipsAt_L4 σ c n (ats f c i) (on i) = some (ats f c ns, on ns)
  | 0, i, n, hi, hk => by
    obtain ⟨n, rfl⟩ : ∃ m, n = m + 1 := ⟨n - 1, by omega⟩
    have hii : i = ns := by omega
    subst hii
    rw [fX6_shipsAt_L4, show σ.1 1 (2 : Int32).toNatClampNeg = on i from by rw [← hn]; exact hr 2 (by omega), if_pos ((on_le (by omega) (by omega)).mpr (Nat.le_refl _))]
  | k + 1, i, n, hi, hk => by
    obtain ⟨n, rfl⟩ : ∃ m, n = m + 1 := ⟨n - 1, by omega⟩
    rw [fX6_shipsAt_L4, show σ.1 1 (2 : Int32).toNatClampNeg = on ns from by rw [← hn]; exact hr 2 (by omega), if_neg (by rw [on_le (by omega) (by omega)]; omega), si3 hr (by omega), bo_some, nm_eq, nm_eq, nm_eq, on_a1]
    exact ats_L hr hn h7 k (i + 1) n (by omega) (by omega)
theorem shipsAt_ok {σ : ZS} {f : Nat → Int32} {c : Int32} (hr : isRow σ 1 f) (hI : FI f) : fX6_shipsAt σ c = some (ats f c (nsh f)) := by
  obtain ⟨ns, s1, s2, s3⟩ := hI.ns
  unfold fX6_shipsAt nsh
  rw [s3, show fX6_shipsAt_L4 σ c 10000 0 0 = _ from ats_L hr s1 s2 ns 0 10000 (by omega) (by omega)]
  rfl
theorem xats_L {w : ZW} {σ : ZS} {b : Nat} {f : Nat → Int32} {ns : Nat} {c : Int32} (hr : BR w σ b f) (hn : f 2 = on ns) (h7 : ns ≤ 7) : ∀ (k i n : Nat), i + k = ns → k < n → fX2_whoAreAt_L4 σ b c n (ats f c i) (on i) = some (ats f c ns, on ns)
  | 0, i, n, hi, hk => by
    obtain ⟨n, rfl⟩ : ∃ m, n = m + 1 := ⟨n - 1, by omega⟩
    have hii : i = ns := by omega
    subst hii
    rw [fX2_whoAreAt_L4, ← hr.1.2.2.1, hn, if_pos ((on_le (by omega) (by omega)).mpr (Nat.le_refl _))]
  | k + 1, i, n, hi, hk => by
    obtain ⟨n, rfl⟩ : ∃ m, n = m + 1 := ⟨n - 1, by omega⟩
    rw [fX2_whoAreAt_L4, ← hr.1.2.2.1, hn, if_neg (by rw [on_le (by omega) (by omega)]; omega), gd_pos (on_in (by omega) (by decide)), nm_eq, nm_eq, nm_eq, on_a1, tn_ofNat (by omega), ← (hr.2.2.1 i (by omega)).2.1]
    exact xats_L hr hn h7 k (i + 1) n (by omega) (by omega)
theorem xats_ok {w : ZW} {σ : ZS} {b : Nat} {f : Nat → Int32} {c : Int32} (hr : BR w σ b f) (hI : FI f) : fX2_whoAreAt σ b c = some (ats f c (nsh f)) := by
  obtain ⟨ns, s1, s2, s3⟩ := hI.ns
  unfold fX2_whoAreAt nsh
  rw [s3, show fX2_whoAreAt_L4 σ b c 10000 0 0 = _ from xats_L hr s1 s2 ns 0 10000 (by omega) (by omega)]
  rfl
theorem xhom_L {w : ZW} {σ : ZS} {b : Nat} {f : Nat → Int32} {ns : Nat} (hr : BR w σ b f) (hn : f 2 = on ns) (h7 : ns ≤ 7) : ∀ (k i n : Nat), i + k = ns → k < n → fX2_atHome_L4 σ b n (hom f i) (on i) = some (hom f ns, on ns)
  | 0, i, n, hi, hk => by
    obtain ⟨n, rfl⟩ : ∃ m, n = m + 1 := ⟨n - 1, by omega⟩
    have hii : i = ns := by omega
    subst hii
    rw [fX2_atHome_L4, ← hr.1.2.2.1, hn, if_pos ((on_le (by omega) (by omega)).mpr (Nat.le_refl _))]
  | k + 1, i, n, hi, hk => by
    obtain ⟨n, rfl⟩ : ∃ m, n = m + 1 := ⟨n - 1, by omega⟩
    rw [fX2_atHome_L4, ← hr.1.2.2.1, hn, if_neg (by rw [on_le (by omega) (by omega)]; omega), gd_pos (on_in (by omega) (by decide)), nm_eq, nm_eq, nm_eq, on_a1, tn_ofNat (by omega), ← (hr.2.2.1 i (by omega)).2.1]
    exact xhom_L hr hn h7 k (i + 1) n (by omega) (by omega)
theorem xhom_ok {w : ZW} {σ : ZS} {b : Nat} {f : Nat → Int32} (hr : BR w σ b f) (hI : FI f) : fX2_atHome σ b = some (hom f (nsh f)) := by
  obtain ⟨ns, s1, s2, s3⟩ := hI.ns
  unfold fX2_atHome nsh
  rw [s3, show fX2_atHome_L4 σ b 10000 0 0 = _ from xhom_L hr s1 s2 ns 0 10000 (by omega) (by omega)]
  rfl
/-! bits -/
def pc (m : Nat) : Nat := m % 2 + m / 2 % 2 + m / 4 % 2 + m / 8 % 2 + m / 16 % 2 + m / 32 % 2 + m / 64 % 2 + m / 128 % 2
theorem bits_L : ∀ m, m < 256 → fX6_bits_L4 (on m) 10000 0 (on m) = some (on (pc m), 0) := by decide +kernel
theorem bits_ok {σ : ZS} {m : Nat} (h : m < 256) : fX6_bits σ (on m) = some (on (pc m)) := by
  unfold fX6_bits
  rw [bits_L m h]
  rfl
theorem bitCount_ok : ∀ m, m < 256 → fJ9_bitCount (on m) = on (pc m) := by decide +kernel
theorem bit_add : ∀ n, n < 7 → ∀ m, m < 2 ^ n → on m ||| (1 <<< (on n &&& 31)) = on (m + 2 ^ n) ∧ pc (m + 2 ^ n) = pc m + 1 := by decide +kernel
theorem or_zero {x : Int32} : x ||| 0 = x := Int32.or_zero
theorem ats_on {f : Nat → Int32} {c : Int32} : ∀ {n : Nat}, n ≤ 7 → ∃ m, m < 2 ^ n ∧ ats f c n = on m
  | 0, _ => ⟨0, by decide, rfl⟩
  | n + 1, h => by
    obtain ⟨m, h1, h2⟩ := ats_on (f := f) (c := c) (n := n) (by omega)
    have hp : 2 ^ (n + 1) = 2 ^ n + 2 ^ n := by rw [Nat.pow_succ]; omega
    rw [ats, h2]
    split
    · exact ⟨m + 2 ^ n, by omega, (bit_add n (by omega) m h1).1⟩
    · exact ⟨m, by omega, or_zero⟩
theorem hom_on {f : Nat → Int32} : ∀ {n : Nat}, n ≤ 7 → ∃ m, m < 2 ^ n ∧ ats f 0 n = on m ∧ hom f n = on (pc m)
  | 0, _ => ⟨0, by decide, rfl, rfl⟩
  | n + 1, h => by
    obtain ⟨m, h1, h2, h3⟩ := hom_on (f := f) (n := n) (by omega)
    have hp : 2 ^ (n + 1) = 2 ^ n + 2 ^ n := by rw [Nat.pow_succ]; omega
    rw [ats, hom, h2, h3]
    split
    · obtain ⟨b1, b2⟩ := bit_add n (by omega) m h1
      exact ⟨m + 2 ^ n, by omega, b1, by rw [b2, on_a1]⟩
    · exact ⟨m, by omega, or_zero, by grind⟩
theorem pow7 {n : Nat} (h : n ≤ 7) : 2 ^ n ≤ 128 := Nat.pow_le_pow_right (n := 2) (by decide) h
theorem manyIn_ok {σ : ZS} {f : Nat → Int32} (hr : isRow σ 1 f) (hI : FI f) : fX6_manyIn σ = some (hom f (nsh f)) := by
  obtain ⟨ns, s1, s2, s3⟩ := hI.ns
  obtain ⟨m, h1, h2, h3⟩ := hom_on (f := f) (n := nsh f) (by unfold nsh; omega)
  have := pow7 (n := nsh f) (by unfold nsh; omega)
  unfold fX6_manyIn
  rw [shipsAt_ok hr hI, bo_some, h2, bits_ok (by omega), h3]
  rfl
/-- the lost: each 0 or 1 -/
def l01 (f : Nat → Int32) (n : Nat) : Prop := ∀ s, s < n → f (37 + 5 * s) = 0 ∨ f (37 + 5 * s) = 1
theorem FI.l01 {f : Nat → Int32} (h : FI f) : l01 f (nsh f) := by
  obtain ⟨ns, s1, s2, s3⟩ := h.ns
  intro s hs
  unfold nsh at hs
  exact (h.2.2.2.2.2.2.2.1 s (by omega) (by rw [s1]; exact (on_lt (by omega) (by omega)).mpr (by omega))).1
theorem zshl : ∀ n, n < 7 → (0 : Int32) <<< (on n &&& 31) = 0 := by decide +kernel
theorem lst_on {f : Nat → Int32} : ∀ {n : Nat}, n ≤ 7 → l01 f n → ∃ m, m < 2 ^ n ∧ lst f n = on m
  | 0, _, _ => ⟨0, by decide, rfl⟩
  | n + 1, h, hl => by
    obtain ⟨m, h1, h2⟩ := lst_on (f := f) (n := n) (by omega) (fun s hs => hl s (by omega))
    have hp : 2 ^ (n + 1) = 2 ^ n + 2 ^ n := by rw [Nat.pow_succ]; omega
    rw [lst, h2]
    rcases hl n (by omega) with e | e
    · rw [e, zshl n (by omega)]
      exact ⟨m, by omega, or_zero⟩
    · rw [e]
      exact ⟨m + 2 ^ n, by omega, (bit_add n (by omega) m h1).1⟩
theorem bit_le : ∀ n, n < 7 → ∀ m, m < 2 ^ n → ∀ k, k < 2 ^ n → pc m ≤ pc k → pc (m + 2 ^ n) ≤ pc (k + 2 ^ n) ∧ pc m ≤ pc (k + 2 ^ n) ∧ (pc (k + 2 ^ n) ≤ pc m → False ∨ pc k < pc m) := by
  intro n hn m hm k hk h
  have h1 := (bit_add n hn m hm).2
  have h2 := (bit_add n hn k hk).2
  exact ⟨by omega, by omega, fun h3 => Or.inr (by omega)⟩
theorem bit_mor : ∀ n, n < 7 → ∀ m, m < 2 ^ n → ∀ k, k < 2 ^ n → ((on k &&& (on m ^^^ (-1)) = on (k - m) ∧ m ≤ k) → ((on (k + 2 ^ n) &&& (on m ^^^ (-1)) = on (k + 2 ^ n - m)) ∧ (on (k + 2 ^ n) &&& (on (m + 2 ^ n) ^^^ (-1)) = on (k - m)))) := by decide +kernel
/-- the lost of f are among those of g: what is more -/
theorem lst_more {f g : Nat → Int32} : ∀ {n : Nat}, n ≤ 7 → l01 f n → l01 g n → (∀ s, s < n → f (37 + 5 * s) = 1 → g (37 + 5 * s) = 1) → ∃ m k, m ≤ k ∧ k < 2 ^ n ∧ lst f n = on m ∧ lst g n = on k ∧ lst g n &&& (lst f n ^^^ (-1)) = on (k - m) ∧ pc m ≤ pc k ∧ (pc k ≤ pc m → k = m)
  | 0, _, _, _, _ => ⟨0, 0, by decide, by decide, rfl, rfl, (by show (0 : Int32) &&& (0 ^^^ (-1)) = 0; decide), by decide, fun _ => rfl⟩
  | n + 1, h, hf, hg, hm => by
    obtain ⟨m, k, a1, a2, a3, a4, a5, a6, a7⟩ := lst_more (f := f) (g := g) (n := n) (by omega) (fun s hs => hf s (by omega)) (fun s hs => hg s (by omega)) (fun s hs => hm s (by omega))
    have hp : 2 ^ (n + 1) = 2 ^ n + 2 ^ n := by rw [Nat.pow_succ]; omega
    rw [a3, a4] at a5
    obtain ⟨b1, b2⟩ := bit_mor n (by omega) m (by omega) k a2 ⟨a5, a1⟩
    obtain ⟨c1, c2⟩ := bit_add n (by omega) m (by omega)
    obtain ⟨d1, d2⟩ := bit_add n (by omega) k a2
    rw [lst, lst, a3, a4]
    rcases hf n (by omega) with e | e
    · rw [e, zshl n (by omega), or_zero]
      rcases hg n (by omega) with e' | e'
      · rw [e', zshl n (by omega), or_zero]
        exact ⟨m, k, a1, by omega, rfl, rfl, a5, a6, a7⟩
      · rw [e', d1]
        exact ⟨m, k + 2 ^ n, by omega, by omega, rfl, rfl, b1, by omega, fun q => by omega⟩
    · rw [e, hm n (by omega) e, c1, d1]
      exact ⟨m + 2 ^ n, k + 2 ^ n, by omega, by omega, rfl, rfl, by rw [b2]; congr 1; omega, by omega, fun q => by have := a7 (by omega); omega⟩
