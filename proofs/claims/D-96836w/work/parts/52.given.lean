/-! the plain law, 3: the reference's value of a text -/
theorem sI_1 {σ : ZS} {r j a b : Nat} {v : Int32} : (sI σ r j v).1 a b = if a = r then (if b = j then v else σ.1 a b) else σ.1 a b := rfl
theorem sI_2 {σ : ZS} {r j : Nat} {v : Int32} : (sI σ r j v).2 = σ.2 := rfl
theorem sI_r {σ : ZS} {r j a : Nat} {v : Int32} (h : a ≠ r) : (sI σ r j v).1 a = σ.1 a := by
  funext b
  rw [sI_1, if_neg h]
theorem sI_s {σ : ZS} {r j : Nat} {v : Int32} : (sI σ r j v).1 r j = v := by rw [sI_1, if_pos rfl, if_pos rfl]
theorem sI_n {σ : ZS} {r j b : Nat} {v : Int32} (h : b ≠ j) : (sI σ r j v).1 r b = σ.1 r b := by rw [sI_1, if_pos rfl, if_neg h]
theorem sI_u {σ : ZS} {r j : Nat} {v : Int32} : (sI σ r j v).1 r = upd (σ.1 r) j v := by
  funext b
  rw [sI_1, if_pos rfl]
  rfl
/-- the codes of a text in a row -/
def cds (f : Nat → Int32) (u : Nat) : List Int32 := (List.range (f (138 + 52 * u)).toNatClampNeg).map (fun k => f (139 + 52 * u + k))
def nm3 (a b c : Int32) : Nat → Int32 := fun k => if k = 0 then a else if k = 1 then b else c
def giv (f : Nat → Int32) (u : Nat) (a b c : Int32) : Int32 := fX6_held (if f (138 + 52 * u) ≤ 0 then (if u = 0 then c else 0) else val (nm3 a b c) (cds f u)) 0 (if u = 0 then 19 else 1)
/-- a text is none, or a tree's codes -/
def txOk (f : Nat → Int32) (u : Nat) : Prop := f (138 + 52 * u) = 0 ∨ (0 < f (138 + 52 * u) ∧ f (138 + 52 * u) ≤ 50 ∧ Pf 50 (cds f u))
/-- where the work at codes goes on -/
def wkAt (B len : Nat) (nd : Nat → Int32) (σ : ZS) : Prop := 1 ≤ B ∧ B + len ≤ 242 ∧ σ.1 1 (B - 1) = on len ∧ ∀ j, j < 3 → σ.1 14 j = nd j
theorem wk_eq {y1 y2 y3 : Int32} {n : Nat} {σ : ZS} {c : Int32} (g1 : ¬ ((y1 - 1) < 0 ∨ 242 ≤ (y1 - 1).toNatClampNeg)) (g2 : ¬ (y1 + (σ.1 1 (y1 - 1).toNatClampNeg)) ≤ y3) (g3 : ¬ (y3 < 0 ∨ 242 ≤ y3.toNatClampNeg)) (hc : σ.1 1 y3.toNatClampNeg = c) : fX6_worked_L4 y1 (n + 1) y2 y3 σ = bd (if 20000 ≤ c then (if c = 20010 then (gd (¬ ((y2 - 1) < 0 ∨ 60 ≤ (y2 - 1).toNatClampNeg)) (nm (if (σ.1 15 (y2 - 1).toNatClampNeg) = 0 then 1 else 0) (fun (j_17 : Int32) => some (y2, sI σ 15 ((y2 - 1).toNatClampNeg) j_17)))) else (nm (y2 + (-1)) (fun (x2_11 : Int32) => gd (¬ ((x2_11 - 1) < 0 ∨ 60 ≤ (x2_11 - 1).toNatClampNeg)) (gd (¬ (x2_11 < 0 ∨ 60 ≤ x2_11.toNatClampNeg)) (bo (fX6_done c (σ.1 15 (x2_11 - 1).toNatClampNeg) (σ.1 15 x2_11.toNatClampNeg)) (fun r_14 => some (x2_11, sI σ 15 ((x2_11 - 1).toNatClampNeg) r_14))))))) else (bo (if 10000 ≤ c then (gd (¬ ((c - 10000) < 0 ∨ 4 ≤ (c - 10000).toNatClampNeg)) (some (σ.1 14 (c - 10000).toNatClampNeg))) else (some c)) (fun (j_19 : Int32) => gd (¬ (y2 < 0 ∨ 60 ≤ y2.toNatClampNeg)) (nm (y2 + 1) (fun (x2_23 : Int32) => some (x2_23, sI σ 15 (y2.toNatClampNeg) j_19)))))) (fun (x2_5 : Int32) σ_6 => nm (y3 + 1) (fun (x3_8 : Int32) => fX6_worked_L4 y1 n x2_5 x3_8 σ_6)) := by
  subst hc
  rw [fX6_worked_L4, gd_pos g1, if_neg g2, gd_pos g3]
  rfl
theorem wk_pre {B len i : Nat} {nd : Nat → Int32} {σ : ZS} (h : wkAt B len nd σ) (hi : i < len) : ¬ ((on B - 1) < 0 ∨ 242 ≤ (on B - 1).toNatClampNeg) ∧ ¬ (on B + (σ.1 1 (on B - 1).toNatClampNeg)) ≤ on (B + i) ∧ ¬ (on (B + i) < 0 ∨ 242 ≤ (on (B + i)).toNatClampNeg) ∧ (on (B + i)).toNatClampNeg = B + i := by
  obtain ⟨h1, h2, h3, -⟩ := h
  obtain ⟨B, rfl⟩ : ∃ B', B = B' + 1 := ⟨B - 1, by omega⟩
  rw [Nat.add_sub_cancel] at h3
  rw [on_s1]
  refine ⟨on_in (by omega) (by omega), ?_, on_in (by omega) (by omega), tn_ofNat (by omega)⟩
  rw [tn_ofNat (by omega), h3, on_add, on_le (by omega) (by omega)]
  omega
theorem wk_one {B len i n k : Nat} {nd : Nat → Int32} {σ : ZS} {c v : Int32} (h : wkAt B len nd σ) (hi : i < len) (hk : k < 60) (hc : σ.1 1 (B + i) = c) (h1 : ¬ 20000 ≤ c) (h2 : (if 10000 ≤ c then (gd (¬ ((c - 10000) < 0 ∨ 4 ≤ (c - 10000).toNatClampNeg)) (some (σ.1 14 (c - 10000).toNatClampNeg))) else (some c)) = some v) : fX6_worked_L4 (on B) (n + 1) (on k) (on (B + i)) σ = fX6_worked_L4 (on B) n (on (k + 1)) (on (B + i + 1)) (sI σ 15 k v) := by
  obtain ⟨p1, p2, p3, p4⟩ := wk_pre h hi
  rw [wk_eq (c := c) p1 p2 p3 (by rw [p4]; exact hc), if_neg h1, h2, bo_some, gd_pos (on_in (by omega) (by omega)), nm_eq, bd_some, nm_eq, tn_ofNat (by omega), on_a1, on_a1]
theorem wk_not {B len i n k : Nat} {nd : Nat → Int32} {σ : ZS} (h : wkAt B len nd σ) (hi : i < len) (hk : k < 60) (hc : σ.1 1 (B + i) = 20010) : fX6_worked_L4 (on B) (n + 1) (on (k + 1)) (on (B + i)) σ = fX6_worked_L4 (on B) n (on (k + 1)) (on (B + i + 1)) (sI σ 15 k (if σ.1 15 k = 0 then 1 else 0)) := by
  obtain ⟨p1, p2, p3, p4⟩ := wk_pre h hi
  rw [wk_eq (c := 20010) p1 p2 p3 (by rw [p4]; exact hc), if_pos (by decide), if_pos rfl, on_s1, gd_pos (on_in (by omega) (by omega)), nm_eq, bd_some, nm_eq, tn_ofNat (by omega), on_a1]
theorem on_m1 (k : Nat) : on (k + 1) + (-1) = on k := by
  rw [← on_a1]
  grind
theorem wk_two {B len i n k : Nat} {nd : Nat → Int32} {σ : ZS} {op : Int32} (h : wkAt B len nd σ) (hi : i < len) (hk : k + 1 < 60) (hc : σ.1 1 (B + i) = op) (h1 : 20000 ≤ op) (h2 : op < 20010) : fX6_worked_L4 (on B) (n + 1) (on (k + 1 + 1)) (on (B + i)) σ = fX6_worked_L4 (on B) n (on (k + 1)) (on (B + i + 1)) (sI σ 15 k (dn op (σ.1 15 k) (σ.1 15 (k + 1)))) := by
  obtain ⟨p1, p2, p3, p4⟩ := wk_pre h hi
  rw [wk_eq (c := op) p1 p2 p3 (by rw [p4]; exact hc), if_pos h1, if_neg (by lia), on_m1, nm_eq, on_s1, gd_pos (on_in (by omega) (by omega)), gd_pos (on_in (by omega) (by omega)), tn_ofNat (by omega), tn_ofNat (by omega), done_ok h1 h2, bo_some, bd_some, nm_eq, on_a1]
theorem Pf.pos : ∀ {d : Nat} {cs : List Int32}, Pf d cs → 1 ≤ cs.length
  | 0, _, h => by cases h
  | d + 1, cs, h => by
    rcases h with ⟨v, -, -, rfl⟩ | ⟨k, -, rfl⟩ | ⟨c1, -, rfl⟩ | ⟨c1, c2, op, -, -, -, -, rfl⟩ <;> simp <;> omega
theorem getD_l {l m : List Int32} {j : Nat} (h : j < l.length) : (l ++ m).getD j 0 = l.getD j 0 := by
  rw [List.getD_eq_getElem?_getD, List.getD_eq_getElem?_getD, List.getElem?_append_left h]
theorem getD_r {l m : List Int32} {j : Nat} : (l ++ m).getD (l.length + j) 0 = m.getD j 0 := by
  rw [List.getD_eq_getElem?_getD, List.getD_eq_getElem?_getD, List.getElem?_append_right (by omega), Nat.add_sub_cancel_left]
theorem wk (nd : Nat → Int32) : ∀ (d : Nat) (cs : List Int32), Pf d cs → ∀ (B len i k : Nat) (σ : ZS) (n : Nat), wkAt B len nd σ → i + cs.length ≤ len → (∀ j, j < cs.length → σ.1 1 (B + i + j) = cs.getD j 0) → k + cs.length ≤ 60 →
    ∃ σ', fX6_worked_L4 (on B) (cs.length + n) (on k) (on (B + i)) σ = fX6_worked_L4 (on B) n (on (k + 1)) (on (B + i + cs.length)) σ' ∧ σ'.2 = σ.2 ∧ (∀ r, r ≠ 15 → σ'.1 r = σ.1 r) ∧ (∀ j, j < k → σ'.1 15 j = σ.1 15 j) ∧ σ'.1 15 k = val nd cs
  | 0, _, h => by cases h
  | d + 1, cs, h => by
    intro B len i k σ n hA hi hc hk
    rcases h with ⟨v, h1, h2, rfl⟩ | ⟨q, hq, rfl⟩ | ⟨c1, h1, rfl⟩ | ⟨c1, c2, op, h1, h2, h3, h4, rfl⟩
    · have e0 : σ.1 1 (B + i) = v := hc 0 (by simp)
      simp only [List.length_cons, List.length_nil] at *
      refine ⟨sI σ 15 k v, ?_, rfl, fun r hr => sI_r hr, fun j hj => sI_n (by omega), by rw [sI_s, val_fig h1 h2]⟩
      rw [show 0 + 1 + n = n + 1 by omega]
      exact wk_one hA (by omega) (by omega) e0 (by lia) (if_neg (by lia))
    · have e0 : σ.1 1 (B + i) = 10000 + on q := hc 0 (by simp)
      obtain ⟨a, b, c⟩ := nd3 q hq
      simp only [List.length_cons, List.length_nil] at *
      refine ⟨sI σ 15 k (nd q), ?_, rfl, fun r hr => sI_r hr, fun j hj => sI_n (by omega), by rw [sI_s, val_nam hq]⟩
      rw [show 0 + 1 + n = n + 1 by omega]
      refine wk_one hA (by omega) (by omega) e0 a ?_
      rw [if_pos b, c, gd_pos (by rcases (show q = 0 ∨ q = 1 ∨ q = 2 by omega) with rfl | rfl | rfl <;> decide), hA.2.2.2 q hq]
    · simp only [List.length_append, List.length_cons, List.length_nil] at hi hk hc
      obtain ⟨σ1, e1, e2, e3, e4, e5⟩ := wk nd d c1 h1 B len i k σ (1 + n) hA (by omega) (fun j hj => by rw [hc j (by omega), getD_l hj]) (by omega)
      have hA1 : wkAt B len nd σ1 := ⟨hA.1, hA.2.1, by rw [e3 1 (by decide)]; exact hA.2.2.1, fun j hj => by rw [e3 14 (by decide)]; exact hA.2.2.2 j hj⟩
      have e0 : σ1.1 1 (B + i + c1.length) = 20010 := by
        rw [e3 1 (by decide), hc c1.length (by omega)]
        simp
      refine ⟨sI σ1 15 k (if σ1.1 15 k = 0 then 1 else 0), ?_, e2, fun r hr => by rw [sI_r hr, e3 r hr], fun j hj => by rw [sI_n (by omega), e4 j hj], by rw [sI_s, e5, val_not h1]⟩
      have l1 : (c1 ++ [(20010 : Int32)]).length + n = c1.length + (1 + n) := by simp; omega
      have l2 : B + i + (c1 ++ [(20010 : Int32)]).length = B + (i + c1.length) + 1 := by simp; omega
      rw [l1, e1, l2, show 1 + n = n + 1 by omega, show B + i + c1.length = B + (i + c1.length) by omega]
      exact wk_not hA1 (by omega) (by omega) (by rw [← Nat.add_assoc]; exact e0)
    · simp only [List.length_append, List.length_cons, List.length_nil] at hi hk hc
      obtain ⟨σ1, e1, e2, e3, e4, e5⟩ := wk nd d c1 h1 B len i k σ (c2.length + (1 + n)) hA (by omega) (fun j hj => by rw [hc j (by omega), List.append_assoc, getD_l hj]) (by omega)
      have hA1 : wkAt B len nd σ1 := ⟨hA.1, hA.2.1, by rw [e3 1 (by decide)]; exact hA.2.2.1, fun j hj => by rw [e3 14 (by decide)]; exact hA.2.2.2 j hj⟩
      obtain ⟨σ2, f1, f2, f3, f4, f5⟩ := wk nd d c2 h2 B len (i + c1.length) (k + 1) σ1 (1 + n) hA1 (by omega) (fun j hj => by rw [e3 1 (by decide), show B + (i + c1.length) + j = B + i + (c1.length + j) by omega, hc _ (by omega), List.append_assoc, getD_r, getD_l hj]) (by omega)
      have hA2 : wkAt B len nd σ2 := ⟨hA.1, hA.2.1, by rw [f3 1 (by decide)]; exact hA1.2.2.1, fun j hj => by rw [f3 14 (by decide)]; exact hA1.2.2.2 j hj⟩
      have e0 : σ2.1 1 (B + i + c1.length + c2.length) = op := by
        rw [f3 1 (by decide), e3 1 (by decide), show B + i + c1.length + c2.length = B + i + (c1.length + c2.length) by omega, hc _ (by omega)]
        simp
      have e6 : σ2.1 15 k = val nd c1 := by rw [f4 k (by omega), e5]
      refine ⟨sI σ2 15 k (dn op (val nd c1) (val nd c2)), ?_, by rw [sI_2, f2, e2], fun r hr => by rw [sI_r hr, f3 r hr, e3 r hr], fun j hj => by rw [sI_n (by omega), f4 j (by omega), e4 j hj], by rw [sI_s, val_two h1 h2 h3 h4]⟩
      have l1 : (c1 ++ c2 ++ [op]).length + n = c1.length + (c2.length + (1 + n)) := by simp; omega
      have l2 : B + i + (c1 ++ c2 ++ [op]).length = B + (i + c1.length + c2.length) + 1 := by simp; omega
      rw [l1, e1, show B + i + c1.length = B + (i + c1.length) by omega, f1, l2, show 1 + n = n + 1 by omega, show B + (i + c1.length) + c2.length = B + (i + c1.length + c2.length) by omega, ← f5, ← e6]
      have lp := Pf.pos h1
      exact wk_two hA2 (by omega) (by omega) (by rw [show B + (i + c1.length + c2.length) = B + i + c1.length + c2.length by omega]; exact e0) h3 h4
/-- what the reference writes beside its answers: the depths found, the names, the pile -/
def MS (σ σ' : ZS) : Prop := σ'.2 = σ.2 ∧ ∀ r, r ≠ 6 → r ≠ 14 → r ≠ 15 → σ'.1 r = σ.1 r
theorem MS.rf {σ : ZS} : MS σ σ := ⟨rfl, fun _ _ _ _ => rfl⟩
theorem MS.tr {σ σ1 σ2 : ZS} (h1 : MS σ σ1) (h2 : MS σ1 σ2) : MS σ σ2 := ⟨h2.1.trans h1.1, fun r a b c => (h2.2 r a b c).trans (h1.2 r a b c)⟩
/-- a row of the reference is f -/
def isRow (σ : ZS) (r : Nat) (f : Nat → Int32) : Prop := ∀ j, j < 242 → σ.1 r j = f j
theorem isRow.ms {σ σ' : ZS} {f : Nat → Int32} {r : Nat} (h : isRow σ r f) (hm : MS σ σ') (h1 : r ≠ 6 := by decide) (h2 : r ≠ 14 := by decide) (h3 : r ≠ 15 := by decide) : isRow σ' r f := fun j hj => by rw [hm.2 r h1 h2 h3]; exact h j hj
theorem cds_len {f : Nat → Int32} {u : Nat} : (cds f u).length = (f (138 + 52 * u)).toNatClampNeg := by simp [cds]
theorem cds_get {f : Nat → Int32} {u j : Nat} (h : j < (cds f u).length) : (cds f u).getD j 0 = f (139 + 52 * u + j) := by
  rw [cds_len] at h
  simp [cds, h]
set_option maxHeartbeats 1000000 in
theorem worked_ok {σ : ZS} {f nd : Nat → Int32} {u : Nat} (hu : u < 2) (hr : isRow σ 1 f) (hn : ∀ j, j < 3 → σ.1 14 j = nd j) (h0 : 0 < f (138 + 52 * u)) (h50 : f (138 + 52 * u) ≤ 50) (hp : Pf 50 (cds f u)) : ∃ σ', fX6_worked σ (on (139 + 52 * u)) = some (val nd (cds f u), σ') ∧ MS σ σ' ∧ σ'.1 6 = σ.1 6 := by
  have hl := cds_len (f := f) (u := u)
  have hlen : (cds f u).length ≤ 50 := by
    rw [hl]
    have e1 := tn_le (show (0 : Int32) ≤ f (138 + 52 * u) by lia)
    have e2 : (f (138 + 52 * u)).toInt ≤ 50 := i_le.mp h50
    omega
  have hon : f (138 + 52 * u) = on (cds f u).length := by
    rw [hl]
    apply i_eq
    rw [i_ofNat (by omega)]
    exact tn_le (by lia)
  have hA : wkAt (139 + 52 * u) (cds f u).length nd σ := ⟨by omega, by omega, by rw [show 139 + 52 * u - 1 = 138 + 52 * u by omega, hr _ (by omega), hon], hn⟩
  obtain ⟨σ1, e1, e2, e3, e4, e5⟩ := wk nd 50 (cds f u) hp (139 + 52 * u) (cds f u).length 0 0 σ (10000 - (cds f u).length) hA (by omega) (fun j hj => by rw [Nat.add_zero, hr _ (by omega), cds_get hj]) (by omega)
  refine ⟨σ1, ?_, ⟨e2, fun r _ _ h => e3 r h⟩, e3 6 (by decide)⟩
  unfold fX6_worked
  rw [show (cds f u).length + (10000 - (cds f u).length) = 10000 by omega] at e1
  rw [show (on 0 : Int32) = 0 from rfl, Nat.add_zero] at e1
  rw [e1]
  obtain ⟨m, hm⟩ : ∃ m, 10000 - (cds f u).length = m + 1 := ⟨10000 - (cds f u).length - 1, by omega⟩
  rw [hm, fX6_worked_L4]
  obtain ⟨B, hB⟩ : ∃ B, 139 + 52 * u = B + 1 := ⟨138 + 52 * u, by omega⟩
  have hA3 : σ1.1 1 B = on (cds f u).length := by rw [e3 1 (by decide), hr _ (by omega), ← hon]; congr 1; omega
  rw [hB, on_s1, gd_pos (on_in (by omega) (by omega)), tn_ofNat (by omega), hA3, on_add, if_pos ((on_le (by omega) (by omega)).mpr (Nat.le_refl _))]
  show some (σ1.1 15 0, σ1) = _
  rw [e5]
set_option maxHeartbeats 1000000 in
theorem given_ok {σ : ZS} {f : Nat → Int32} {u : Nat} {a b c : Int32} (hu : u < 2) (hr : isRow σ 1 f) (hx : txOk f u) : ∃ σ', fX6_given σ (on u) a b c = some (giv f u a b c, σ') ∧ MS σ σ' ∧ σ'.1 6 = σ.1 6 := by
  have hs : MS σ (sI (sI (sI σ 14 ((0 : Int32).toNatClampNeg) a) 14 ((1 : Int32).toNatClampNeg) b) 14 ((2 : Int32).toNatClampNeg) c) := ⟨rfl, fun r _ h _ => by rw [sI_r h, sI_r h, sI_r h]⟩
  have h6 : (sI (sI (sI σ 14 ((0 : Int32).toNatClampNeg) a) 14 ((1 : Int32).toNatClampNeg) b) 14 ((2 : Int32).toNatClampNeg) c).1 6 = σ.1 6 := by rw [sI_r (by decide), sI_r (by decide), sI_r (by decide)]
  have hn : ∀ j, j < 3 → (sI (sI (sI σ 14 ((0 : Int32).toNatClampNeg) a) 14 ((1 : Int32).toNatClampNeg) b) 14 ((2 : Int32).toNatClampNeg) c).1 14 j = nm3 a b c j := by
    intro j hj
    rcases (show j = 0 ∨ j = 1 ∨ j = 2 by omega) with rfl | rfl | rfl <;> rfl
  unfold fX6_given
  generalize hσ : sI (sI (sI σ 14 ((0 : Int32).toNatClampNeg) a) 14 ((1 : Int32).toNatClampNeg) b) 14 ((2 : Int32).toNatClampNeg) c = σ1
  rw [hσ] at hs h6 hn
  have hr1 := hr.ms hs
  have hz : (on u = 0) ↔ u = 0 := on_eq (a := u) (b := 0) (by omega) (by omega)
  have ht : (138 + (52 * on u)).toNatClampNeg = 138 + 52 * u ∧ ¬ ((138 + (52 * on u)) < 0 ∨ 242 ≤ (138 + (52 * on u)).toNatClampNeg) ∧ (138 + (52 * on u)) + 1 = on (139 + 52 * u) := by
    rcases (show u = 0 ∨ u = 1 by omega) with rfl | rfl <;> decide
  have hh : fX6_hasText σ1 (on u) = some (if f (138 + 52 * u) ≤ 0 then 0 else 1) := by
    unfold fX6_hasText
    rw [gd_pos ht.2.1, ht.1, hr1 _ (by omega)]
    rfl
  rw [nm_eq, hh, bo_some, ht.2.2]
  unfold giv
  by_cases hp : f (138 + 52 * u) ≤ 0
  · rw [if_pos hp, if_pos rfl, if_pos hp, bd_some, nm_eq]
    refine ⟨σ1, ?_, hs, h6⟩
    simp only [hz]
  · rw [if_neg hp, if_neg (by decide), if_neg hp]
    rcases hx with hx | ⟨x1, x2, x3⟩
    · exact absurd (by rw [hx]; decide) hp
    · obtain ⟨σ2, g1, g2, g3⟩ := worked_ok hu hr1 hn x1 x2 x3
      rw [g1]
      refine ⟨σ2, ?_, hs.tr g2, by rw [g3, h6]⟩
      simp only [bd, nm, hz]
