/-! the plain law, 27: which, put -/
theorem which_act {w : ZW} {N : Nat} {σx σm : ZS} {p1 p2 : Int32} (h : RR w N σx σm) : act w N σm (fX0_which w σx p1 p2) (fX6_which σm p1 p2) := by
  have h0 := h
  obtain ⟨⟨f, hf⟩, hT⟩ := h
  have hI := hf.2.2.1
  obtain ⟨A, hA, -, -⟩ := hT.2.2.2.2.1
  unfold fX0_which fX6_which fX0_isSheet fX6_isSheet
  simp only [xi, wi]
  by_cases q1 : 0 ≤ p1 ∧ p1 ≤ 3
  · by_cases q2 : 0 ≤ p2 ∧ p2 ≤ 1
    · simp only [if_pos q1, if_pos q2, i10, eq_self, ↓reduceIte, nm_eq, nd1', bd_some, sc_inl]
      obtain ⟨k, -, k2, rfl⟩ := on_rng (lo := 0) (hi := 3) (by omega) q1
      obtain ⟨hA1, hA2⟩ := hA k (by omega)
      rw [gd_pos (on_in (n := 4) (by omega) (by omega)), tn_ofNat (show k < 2147483648 by omega)]
      rcases hA2 with ⟨s1, s2⟩ | ⟨o, r, t, n, g, s1, s2, s3, s4, s5, s6, s7, s8⟩
      · rw [sheetAt_n (by omega) hA1 s1, bd_some, sc_inr, s2, if_pos rfl]
        exact err2 h0 bd_id bd_id
      · rw [sheetAt_s (by omega) hA1 s1 s2 s3, bd_some, sc_inl, s3, oSheet_of s2, bo_some, size_ok s2 s4, bo_some, s6, if_neg (wid0 s2), s7, show σm.1 1 (1 : Int32).toNatClampNeg = f 1 from hf.2.1 1 (by omega), ← hf.1.1.2.1]
        obtain ⟨nc, n1, n2, n3, -⟩ := hI.1
        rw [n1]
        by_cases q3 : n = nc
        · subst q3
          rw [if_pos rfl, if_pos rfl, nd1', bd_some, sc_inl]
          have hS : ∀ y, y ≤ 1000 → ∀ σ1 τ1, XS 100 σx σ1 → MS σm τ1 → cOK τ1 f → ∃ σ' τ', fX0_isShownSo w σ1 o (on y) = some (bz (sso f g (on y) n), σ') ∧ fX6_isShownSo τ1 (on k) (on y) = some (bz (sso f g (on y) n), τ') ∧ XS 100 σ1 σ' ∧ MS τ1 τ' ∧ cOK τ' f := by
            intro y hy σ1 τ1 hx hm hc
            exact shown_ok hI n1 n3 hy (by omega) s2 (hf.1.xs zB1 zB1 hx) (by rw [hx.1]; exact s3) (by rw [hx.1]; exact s4) (hf.2.1.ms hm) hc (fun i hi => by rw [hm.2 23 (by decide) (by decide) (by decide)]; exact (s8 i hi).1)
          obtain ⟨z, σ2, a1, a2⟩ := xwhich_L (y1 := on k) (y2 := p2) hI n1 n3 s2 (fun y => sso f g (on y) n) (fun _ => rfl) 100 0 10000 σx (by omega) (by omega) (fun y hy σ1 hx => by obtain ⟨σ', -, b1, -, b2, -⟩ := hS y hy σ1 σm hx MS.rf hf.2.2.2; exact ⟨σ', b1, b2⟩) hf.1 s3 s4
          obtain ⟨z', τ2, c1, c2, c3⟩ := mwhich_L (f := f) (k := k) (y1 := on k) (y2 := p2) (fun y => sso f g (on y) n) 100 10000 0 0 σm (by omega) (by omega) (by omega) (fun y hy τ1 hm hc => by obtain ⟨-, τ', -, b1, -, b2, b3⟩ := hS y hy σx τ1 XS.rf hm hc; exact ⟨τ', b1, b2, b3⟩) hf.2.2.2
          have l1 := cu_fu (P := fun y => sso f g (on y) n) 100
          have l2 := cu_le (P := fun y => sso f g (on y) n) 100
          have l3 := fu_le (P := fun y => sso f g (on y) n) 100
          rw [show fX0_which_L65 w o (on k) p2 10000 0 (-1) 0 σx = _ from a1, bd_some, show fX6_which_L64 (on k) p2 10000 0 (-1) 99 σm = _ from c1, bd_some]
          generalize cu (fun y => sso f g (on y) n) 100 = C at *
          generalize fu (fun y => sso f g (on y) n) 100 = F at *
          simp only [nm_eq, Nat.zero_add]
          by_cases q4 : p2 = 0
          · rw [if_pos q4, if_pos q4, nd1', bd_some, sc_inl, if_pos q4]
            exact act_mk (r := on C) (σx' := σ2) (σm' := τ2) rfl rfl (RR.q hf hT zB1 a2 c2 c3) c2.1
          · rw [if_neg q4, if_neg q4, if_neg q4]
            by_cases q5 : F = 0
            · subst q5
              obtain rfl : C = 0 := l1.mpr rfl
              rw [if_pos (show on 0 ≤ 0 by decide), nd0, bd_some, sc_inr, if_pos rfl, if_neg (show ¬ 0 ≤ dw 0 by decide)]
              exact (err2 (RR.q0 hf hT zB1 a2 c2 c3) bd_id (by rw [bd_id, bd_id])).of c2.1
            · have hC : ¬ C = 0 := fun e => q5 (l1.mp e)
              obtain ⟨F, rfl⟩ : ∃ m, F = m + 1 := ⟨F - 1, by omega⟩
              rw [if_neg (show ¬ on C ≤ 0 by rw [show (0 : Int32) = on 0 from rfl, on_le (by omega) (by omega)]; omega), nd1', bd_some, sc_inl, if_neg q5, if_pos (show 0 ≤ dw (F + 1) from on_ge (show F < 2147483648 by omega)), bd_some]
              exact act_mk (r := dw (F + 1)) (σx' := σ2) (σm' := τ2) rfl rfl (RR.q hf hT zB1 a2 c2 c3) c2.1
        · have q3' : ¬ on n = on nc := by rw [on_eq (by omega) (by omega)]; exact q3
          rw [if_neg q3', if_neg q3', nd0, bd_some, sc_inr]
          exact err2 h0 bd_id bd_id
    · simp only [if_pos q1, if_neg q2, i10, eq_self, ↓reduceIte, nm_eq, nd0, bd_some, sc_inr, bd_id]
      exact err1 h0 rfl rfl
  · simp only [if_neg q1, eq_self, ↓reduceIte, nm_eq, nd0, bd_some, sc_inr, bd_id]
    exact err1 h0 rfl rfl
theorem nar2 {t : Nat} {v : Int32} : nar t (nar t v) = nar t v := by
  unfold nar
  split
  · rw [Int8.toInt8_toInt32]
  · split
    · rw [Int16.toInt16_toInt32]
    · rfl
theorem put_ok {w : ZW} {σ : ZS} {a t r n i : Nat} {v : Int32} {h : Nat → Int32} (ht : t < 3) (hr : σ.2.2.1 r = some (.inl (w.2.1 (aty t), n, .inl h))) (hi : i < n) (hn : n ≤ 40) : fS_Sheet_put w σ a (20 + t) r (on i) v = some ((), sP σ r (.inl (w.2.1 (aty t), n, .inl (upd h i (nar t v))))) := by
  have ti : (on i).toNatClampNeg = i := tn_ofNat (by omega)
  rcases (show t = 0 ∨ t = 1 ∨ t = 2 by omega) with rfl | rfl | rfl
  · show fX22_put w σ r (on i) v = _
    unfold fX22_put
    rw [nm_eq, hr, show aty 0 = 1 from rfl, oRow_of, bo_some, gd_pos (on_in (n := n) (by omega) (by omega)), ti, by_nar]
    rfl
  · show fX23_put w σ r (on i) v = _
    unfold fX23_put
    rw [nm_eq, hr, show aty 1 = 2 from rfl, oRow_of, bo_some, gd_pos (on_in (n := n) (by omega) (by omega)), ti, show vp_nar .short v.toInt16.toInt32 = v.toInt16.toInt32 by show v.toInt16.toInt32.toInt16.toInt32 = _; rw [Int16.toInt16_toInt32]]
    rfl
  · show fX24_put w σ r (on i) v = _
    unfold fX24_put
    rw [hr, show aty 2 = 0 from rfl, oRow_of, bo_some, gd_pos (on_in (n := n) (by omega) (by omega)), ti]
    rfl
theorem RR.sheets {w : ZW} {N : Nat} {f : Nat → Int32} {σx σm σx' σm' : ZS} (hf : RM w f σx σm) (hT : RT w N σx σm) (h1 : σx'.1 = σx.1) (h2 : σx'.2.1 = σx.2.1) (hp : pk σx σx') (hs : SH w σx' σm') (hw : ∀ a x, σx'.2.2.1 a = some x → a < σx'.2.2.2.1) (hm : ∀ r, r ≠ 21 → r ≠ 22 → r ≠ 23 → r ≠ 24 → σm'.1 r = σm.1 r) : RR w (N + 1) σx' σm' := by
  obtain ⟨⟨g, g1, g2, g3⟩, ⟨n, n1, n2, n3⟩, t2, ⟨t, t3, t4, t5, t6⟩, -, -⟩ := hT
  refine ⟨⟨f, hf.1.congr (fun k hk => by rw [h1]) (fun k hk => by rw [h2]) hp, fun j hj => by rw [hm 1 (by decide) (by decide) (by decide) (by decide)]; exact hf.2.1 j hj, hf.2.2.1, fun c y hc hy => by rw [hm 6 (by decide) (by decide) (by decide) (by decide)]; exact hf.2.2.2 c y hc hy⟩, ⟨g, g1.congr (fun k hk => by rw [h1]) (fun k hk => by rw [h2]) hp, fun j hj => by rw [hm 2 (by decide) (by decide) (by decide) (by decide), hm 0 (by decide) (by decide) (by decide) (by decide)]; exact g2 j hj, g3⟩, ⟨n, by omega, by rw [h1]; exact n2, by rw [hm 0 (by decide) (by decide) (by decide) (by decide)]; exact n3⟩, fun k hk => by rw [h1, hm 5 (by decide) (by decide) (by decide) (by decide)]; exact t2 k hk, ⟨t, t3, by rw [h1]; exact t4, by rw [hm 0 (by decide) (by decide) (by decide) (by decide)]; exact t5, fun k hk => by rw [h1, hm 16 (by decide) (by decide) (by decide) (by decide)]; exact t6 k hk⟩, hs, hw⟩
theorem sP_s {σ : ZS} {r : Nat} {x : va_E} : (sP σ r x).2.2.1 r = some x := by
  show (if r = r then some x else _) = _
  rw [if_pos rfl]
theorem sP_n {σ : ZS} {r a : Nat} {x : va_E} (h : a ≠ r) : (sP σ r x).2.2.1 a = σ.2.2.1 a := by
  show (if a = r then some x else _) = _
  rw [if_neg h]
theorem sP_pk {σ : ZS} {r : Nat} {x y : va_E} (hr : σ.2.2.1 r = some y) (hy : ∀ ci vs, y = .inr (ci, vs) → 7 ≤ ci → ci ≤ 19 → ci ≠ 15 → ci ≠ 17 → False) : pk σ (sP σ r x) := by
  intro a ci vs h i1 i2 i3 i4
  by_cases e : a = r
  · subst e
    rw [hr] at h
    exact absurd (hy ci vs (Option.some.inj h) i1 i2 i3 i4) (fun x => x)
  · rw [sP_n e]; exact h
theorem sP_wf {σ : ZS} {r : Nat} {x y : va_E} (hr : σ.2.2.1 r = some y) (hw : ∀ a x, σ.2.2.1 a = some x → a < σ.2.2.2.1) : ∀ a z, (sP σ r x).2.2.1 a = some z → a < (sP σ r x).2.2.2.1 := by
  intro a z h
  by_cases e : a = r
  · subst e; exact hw a y hr
  · rw [sP_n e] at h; exact hw a z h
/-- one figure put into a sheet -/
theorem SH.put {w : ZW} {σx σm : ZS} {A : Nat → Nat} {k o r t n i : Nat} {g : Nat → Int32} {v : Int32} (hA : ∀ k, k < 4 → σx.2.1 7 k = some (A k) ∧ shO w σx σm k (σx.2.2.1 (A k))) (hi : ∀ k j, k < 4 → j < 4 → A k = A j → k = j) (hd : ∀ k j o o' c c' r, k < 4 → j < 4 → σx.2.2.1 (A k) = some (.inr (5, [.ref o])) → σx.2.2.1 (A j) = some (.inr (5, [.ref o'])) → σx.2.2.1 o = some (.inr (c, [.ref r])) → σx.2.2.1 o' = some (.inr (c', [.ref r])) → k = j) (hk : k < 4) (s1 : σx.2.2.1 (A k) = some (.inr (5, [.ref o]))) (s2 : t < 3) (s3 : σx.2.2.1 o = some (.inr (20 + t, [.ref r]))) (s4 : σx.2.2.1 r = some (.inl (w.2.1 (aty t), n, .inl g))) (s5 : n ≤ 40) (s6 : σm.1 21 k = wid t) (s7 : σm.1 22 k = on n) (s8 : ∀ i, i < n → σm.1 23 (40 * k + i) = g i ∧ nar t (g i) = g i) (hin : i < n) :
    let σx' := sP σx r (.inl (w.2.1 (aty t), n, .inl (upd g i (nar t v))))
    let σm' := sI σm 23 (40 * k + i) (nar t v)
    (∀ k, k < 4 → σx'.2.1 7 k = some (A k) ∧ shO w σx' σm' k (σx'.2.2.1 (A k))) ∧ (∀ k j o o' c c' r, k < 4 → j < 4 → σx'.2.2.1 (A k) = some (.inr (5, [.ref o])) → σx'.2.2.1 (A j) = some (.inr (5, [.ref o'])) → σx'.2.2.1 o = some (.inr (c, [.ref r])) → σx'.2.2.1 o' = some (.inr (c', [.ref r])) → k = j) ∧ σx'.2.2.1 (A k) = some (.inr (5, [.ref o])) ∧ σx'.2.2.1 o = some (.inr (20 + t, [.ref r])) ∧ σx'.2.2.1 r = some (.inl (w.2.1 (aty t), n, .inl (upd g i (nar t v)))) ∧ σm'.1 21 k = wid t ∧ σm'.1 22 k = on n ∧ ∀ j, j < n → σm'.1 23 (40 * k + j) = upd g i (nar t v) j ∧ nar t (upd g i (nar t v) j) = upd g i (nar t v) j := by
  intro σx' σm'
  have ne : ∀ a ci vs, σx.2.2.1 a = some (.inr (ci, vs)) → a ≠ r := by
    intro a ci vs h e
    rw [e, s4] at h
    exact absurd h (by simp)
  have old : ∀ a ci vs, σx'.2.2.1 a = some (.inr (ci, vs)) → σx.2.2.1 a = some (.inr (ci, vs)) := by
    intro a ci vs h
    by_cases e : a = r
    · rw [e, show σx'.2.2.1 r = _ from sP_s] at h
      exact absurd h (by simp)
    · rwa [show σx'.2.2.1 a = _ from sP_n e] at h
  have new : ∀ a ci vs, σx.2.2.1 a = some (.inr (ci, vs)) → σx'.2.2.1 a = some (.inr (ci, vs)) := by
    intro a ci vs h
    rw [show σx'.2.2.1 a = _ from sP_n (ne a ci vs h)]
    exact h
  have hg : ∀ j, j < n → σm'.1 23 (40 * k + j) = upd g i (nar t v) j ∧ nar t (upd g i (nar t v) j) = upd g i (nar t v) j := by
    intro j hj
    by_cases e : j = i
    · subst e
      rw [upd_s, show σm'.1 23 (40 * k + j) = _ from sI_s]
      exact ⟨rfl, nar2⟩
    · rw [upd_n e, show σm'.1 23 (40 * k + j) = _ from sI_n (by omega)]
      exact s8 j hj
  have t1 : σx'.2.2.1 (A k) = some (.inr (5, [.ref o])) := new _ _ _ s1
  have t3 : σx'.2.2.1 o = some (.inr (20 + t, [.ref r])) := new _ _ _ s3
  have t4 : σx'.2.2.1 r = some (.inl (w.2.1 (aty t), n, .inl (upd g i (nar t v)))) := sP_s
  have t6 : σm'.1 21 k = wid t := by rw [show σm'.1 21 = _ from sI_r (by decide)]; exact s6
  have t7 : σm'.1 22 k = on n := by rw [show σm'.1 22 = _ from sI_r (by decide)]; exact s7
  refine ⟨fun j hj => ⟨(hA j hj).1, ?_⟩, fun k j o o' c c' r hk hj a1 a2 a3 a4 => hd k j o o' c c' r hk hj (old _ _ _ a1) (old _ _ _ a2) (old _ _ _ a3) (old _ _ _ a4), t1, t3, t4, t6, t7, hg⟩
  by_cases e : j = k
  · subst e
    exact Or.inr ⟨o, r, t, n, upd g i (nar t v), t1, s2, t3, t4, s5, t6, t7, hg⟩
  · rcases (hA j hj).2 with ⟨u1, u2⟩ | ⟨o', r', t', n', g', u1, u2, u3, u4, u5, u6, u7, u8⟩
    · exact Or.inl ⟨new _ _ _ u1, by rw [show σm'.1 21 = _ from sI_r (by decide)]; exact u2⟩
    · have hr : r' ≠ r := fun h => e (by subst h; exact hd j k o' o _ _ r' hj hk u1 s1 u3 s3)
      exact Or.inr ⟨o', r', t', n', g', new _ _ _ u1, u2, new _ _ _ u3, by rw [show σx'.2.2.1 r' = _ from sP_n hr]; exact u4, u5, by rw [show σm'.1 21 = _ from sI_r (by decide)]; exact u6, by rw [show σm'.1 22 = _ from sI_r (by decide)]; exact u7, fun i' hi' => by rw [show σm'.1 23 (40 * j + i') = _ from sI_n (by omega)]; exact u8 i' hi'⟩
theorem mnar {t : Nat} {v : Int32} (ht : t < 3) : (if wid t = 8 then v.toInt8.toInt32 else (if wid t = 16 then v.toInt16.toInt32 else v)) = nar t v := by
  rcases (show t = 0 ∨ t = 1 ∨ t = 2 by omega) with rfl | rfl | rfl <;> rfl
theorem put_act {w : ZW} {N : Nat} {σx σm : ZS} {p1 p2 p3 : Int32} (h : RR w N σx σm) : act w N σm (fX0_put w σx p1 p2 p3) (fX6_put σm p1 p2 p3) := by
  have h0 := h
  obtain ⟨⟨f, hf⟩, hT⟩ := h
  obtain ⟨A, hA, hi, hd⟩ := hT.2.2.2.2.1
  unfold fX0_put fX6_put fX0_isSheet fX6_isSheet
  simp only [xi, wi]
  by_cases q1 : 0 ≤ p1 ∧ p1 ≤ 3
  · simp only [if_pos q1, i10, eq_self, ↓reduceIte, nm_eq, nd1', bd_some, sc_inl]
    obtain ⟨k, -, k2, rfl⟩ := on_rng (lo := 0) (hi := 3) (by omega) q1
    obtain ⟨hA1, hA2⟩ := hA k (by omega)
    rw [gd_pos (on_in (n := 4) (by omega) (by omega)), tn_ofNat (show k < 2147483648 by omega)]
    rcases hA2 with ⟨s1, s2⟩ | ⟨o, r, t, n, g, s1, s2, s3, s4, s5, s6, s7, s8⟩
    · rw [sheetAt_n (by omega) hA1 s1, bd_some, sc_inr, s2, if_pos rfl]
      exact err2 h0 bd_id bd_id
    · rw [sheetAt_s (by omega) hA1 s1 s2 s3, bd_some, sc_inl, s3, oSheet_of s2, bo_some, size_ok s2 s4, bo_some, s6, if_neg (wid0 s2), s7]
      by_cases q2 : 0 ≤ p2 ∧ p2 ≤ on n - 1
      · simp only [if_pos q2, i10, ↓reduceIte, nd1', bd_some, sc_inl]
        have hn : 1 ≤ n := by
          rcases Nat.eq_zero_or_pos n with e | e
          · subst e
            exact absurd (show (0 : Int32) ≤ 0 - 1 from Int32.le_trans q2.1 q2.2) (by decide)
          · exact e
        obtain ⟨n, rfl⟩ : ∃ m, n = m + 1 := ⟨n - 1, by omega⟩
        rw [on_s1] at q2
        obtain ⟨i, -, i2, rfl⟩ := on_rng (lo := 0) (hi := n) (by omega) q2
        rw [gd_pos (show oSheet (σx.2.2.1 o) = some (20 + t, r) by rw [s3, oSheet_of s2]), put_ok s2 s4 (by omega) s5, bd_some, mnar s2, i40 (by omega) (by omega), gd_pos (on_in (n := 160) (by omega) (by omega)), tn_ofNat (show 40 * k + i < 2147483648 by omega)]
        obtain ⟨b1, b2, -⟩ := SH.put (v := p3) (i := i) hA hi hd (by omega) s1 s2 s3 s4 s5 s6 s7 s8 (by omega)
        exact act_mk rfl rfl (RR.sheets hf hT rfl rfl (sP_pk s4 (fun ci vs e => by cases e)) ⟨A, b1, hi, b2⟩ (sP_wf s4 hT.2.2.2.2.2) (fun r a b c d => sI_r c)) rfl
      · simp only [if_neg q2, ↓reduceIte, nd0, bd_some, sc_inr, bd_id]
        exact err1 h0 rfl rfl
  · simp only [if_neg q1, eq_self, ↓reduceIte, nm_eq, nd0, bd_some, sc_inr, bd_id]
    exact err1 h0 rfl rfl
