/-! the plain law, 1: words for functions that may be stuck -/
def ok {α : Type} (x : Option α) (Q : α → Prop) : Prop := ∃ r, x = some r ∧ Q r
theorem ok_some {α : Type} {a : α} {Q : α → Prop} (h : Q a) : ok (some a) Q := ⟨a, rfl, h⟩
theorem ok_nm {α β : Type} {e : α} {f : α → Option β} {Q : β → Prop} (h : ok (f e) Q) : ok (nm e f) Q := h
theorem ok_gd {α : Type} {c : Prop} [Decidable c] {x : Option α} {Q : α → Prop} (hc : c) (h : ok x Q) : ok (gd c x) Q := by
  unfold gd
  rw [if_pos hc]
  exact h
theorem ok_bo {α β : Type} {x : Option α} {f : α → Option β} {P : α → Prop} {Q : β → Prop} (hx : ok x P) (h : ∀ a, P a → ok (f a) Q) : ok (bo x f) Q := by
  obtain ⟨r, e, hr⟩ := hx
  rw [e]
  exact h r hr
theorem ok_bd {α β : Type} {x : Option (α × ZS)} {f : α → ZS → Option β} {P : α × ZS → Prop} {Q : β → Prop} (hx : ok x P) (h : ∀ a s, P (a, s) → ok (f a s) Q) : ok (bd x f) Q := by
  obtain ⟨⟨a, s⟩, e, hr⟩ := hx
  rw [e]
  exact h a s hr
theorem ok_if {α : Type} {c : Prop} [Decidable c] {x y : Option α} {Q : α → Prop} (h1 : c → ok x Q) (h2 : ¬ c → ok y Q) : ok (if c then x else y) Q := by
  split
  · exact h1 (by assumption)
  · exact h2 (by assumption)
theorem ok_ift {α : Type} {c : Prop} [Decidable c] {x y : Option α} {Q : α → Prop} (hc : c) (h1 : ok x Q) : ok (if c then x else y) Q := by rw [if_pos hc]; exact h1
theorem ok_iff {α : Type} {c : Prop} [Decidable c] {x y : Option α} {Q : α → Prop} (hc : ¬ c) (h1 : ok y Q) : ok (if c then x else y) Q := by rw [if_neg hc]; exact h1
theorem ok_mono {α : Type} {x : Option α} {P Q : α → Prop} (hx : ok x P) (h : ∀ a, P a → Q a) : ok x Q := by
  obtain ⟨r, e, hr⟩ := hx
  exact ⟨r, e, h r hr⟩
theorem ok_eq {α : Type} {x : Option α} {a : α} {Q : α → Prop} (hx : x = some a) (h : Q a) : ok x Q := ⟨a, hx, h⟩
theorem bd_some {α β : Type} {a : α} {s : ZS} {f : α → ZS → Option β} : bd (some (a, s)) f = f a s := rfl
theorem bo_some {α β : Type} {a : α} {f : α → Option β} : bo (some a) f = f a := rfl
theorem nm_eq {α β : Type} {a : α} {f : α → β} : nm a f = f a := rfl
theorem sc_inl {α β γ : Type} {a : α} {f : α → γ} {g : β → γ} : sc (.inl a) f g = f a := rfl
theorem sc_inr {α β γ : Type} {b : β} {f : α → γ} {g : β → γ} : sc (.inr b) f g = g b := rfl
theorem gd_pos {α : Type} {c : Prop} [Decidable c] {x : Option α} (hc : c) : gd c x = x := by unfold gd; rw [if_pos hc]
/-! numbers -/
theorem tn_of {x : Int32} {k : Nat} (h : x.toInt = (k : Int)) : x.toNatClampNeg = k := by
  show x.toInt.toNat = k
  omega
/-- an Int32 that is not negative is the number of its clamp -/
theorem tn_le {x : Int32} (h : 0 ≤ x) : x.toInt = (x.toNatClampNeg : Int) := by
  have h1 : (0 : Int) ≤ x.toInt := by simpa using Int32.le_iff_toInt_le.mp h
  show x.toInt = ((x.toInt.toNat : Nat) : Int)
  omega
theorem i_add {x y : Int32} (h1 : -2147483648 ≤ x.toInt + y.toInt) (h2 : x.toInt + y.toInt ≤ 2147483647) : (x + y).toInt = x.toInt + y.toInt := by
  rw [Int32.toInt_add]
  exact Int.bmod_eq_of_le (by omega) (by omega)
theorem i_sub {x y : Int32} (h1 : -2147483648 ≤ x.toInt - y.toInt) (h2 : x.toInt - y.toInt ≤ 2147483647) : (x - y).toInt = x.toInt - y.toInt := by
  rw [Int32.toInt_sub]
  exact Int.bmod_eq_of_le (by omega) (by omega)
theorem i_mul {x y : Int32} (h1 : -2147483648 ≤ x.toInt * y.toInt) (h2 : x.toInt * y.toInt ≤ 2147483647) : (x * y).toInt = x.toInt * y.toInt := by
  rw [Int32.toInt_mul]
  exact Int.bmod_eq_of_le (by omega) (by omega)
theorem i_ofNat {k : Nat} (h : k < 2147483648) : (Int32.ofNat k).toInt = (k : Int) := Int32.toInt_ofNat_of_lt h
theorem tn_ofNat {k : Nat} (h : k < 2147483648) : (Int32.ofNat k).toNatClampNeg = k := tn_of (i_ofNat h)
theorem i_lt {x y : Int32} : x < y ↔ x.toInt < y.toInt := Int32.lt_iff_toInt_lt
theorem i_le {x y : Int32} : x ≤ y ↔ x.toInt ≤ y.toInt := Int32.le_iff_toInt_le
theorem i_eq {x y : Int32} (h : x.toInt = y.toInt) : x = y := Int32.toInt_inj.mp h
/-- a natural number as an Int32 -/
abbrev on (k : Nat) : Int32 := Int32.ofNat k
theorem on_ex {x : Int32} {n : Nat} (h1 : 0 ≤ x) (h2 : x.toInt < (n : Int)) : ∃ k : Nat, k < n ∧ x = on k := by
  have e := tn_le h1
  have hx := Int32.toInt_lt x
  refine ⟨x.toNatClampNeg, by omega, ?_⟩
  apply i_eq
  rw [i_ofNat (by omega)]
  exact e
theorem on_a1 (k : Nat) : on k + 1 = on (k + 1) := (Int32.ofNat_add k 1).symm
theorem on_add (k j : Nat) : on k + on j = on (k + j) := (Int32.ofNat_add k j).symm
theorem on_s1 (k : Nat) : on (k + 1) - 1 = on k := by
  rw [← on_a1]
  exact Int32.add_sub_cancel _ _
theorem on_le {a b : Nat} (ha : a < 2147483648) (hb : b < 2147483648) : (on a ≤ on b) ↔ a ≤ b := by
  rw [i_le, i_ofNat ha, i_ofNat hb]
  omega
theorem on_lt {a b : Nat} (ha : a < 2147483648) (hb : b < 2147483648) : (on a < on b) ↔ a < b := by
  rw [i_lt, i_ofNat ha, i_ofNat hb]
  omega
theorem on_eq {a b : Nat} (ha : a < 2147483648) (hb : b < 2147483648) : (on a = on b) ↔ a = b := by
  constructor
  · intro h
    have := congrArg Int32.toInt h
    rw [i_ofNat ha, i_ofNat hb] at this
    omega
  · intro h; rw [h]
theorem on_nn {a : Nat} (ha : a < 2147483648) : ¬ on a < 0 := by
  rw [i_lt, i_ofNat ha]
  show ¬ (a : Int) < 0
  omega
theorem on_ge {a : Nat} (ha : a < 2147483648) : 0 ≤ on a := by
  rw [i_le, i_ofNat ha]
  show (0 : Int) ≤ (a : Int)
  omega
theorem on_in {a n : Nat} (ha : a < n) (hn : n < 2147483648) : ¬ (on a < 0 ∨ n ≤ (on a).toNatClampNeg) := by
  rw [tn_ofNat (by omega)]
  exact fun h => h.elim (on_nn (by omega)) (by omega)
