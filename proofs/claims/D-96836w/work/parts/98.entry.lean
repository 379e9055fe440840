/-! the law's entry: the two constructors -/
def obj0 : va_E := .inr (0, [.null, .null, .null, .null, .int 0, .null, .null, .null])
def obj6 : va_E := .inr (6, [.null, .null, .null, .int 0, .null, .null, .null, .int 0, .int 0, .int 0, .int 0, .null, .int 0, .null, .null, .null, .int 0, .int 0, .int 0, .int 0, .null, .null, .null, .null])
theorem np_eX6_init : zNp yX6_init.desc 0 := by unfold zNp; decide +kernel
theorem xR_len {w : ZW} {B : Nat} : (xR w B).length = 49 := rfl
theorem m_ev2 {w : ZW} {σ0 : ZS} {B c n : Nat} (hc : 100 ≤ c) (hn : 12000 ≤ n) : feX6_init w (mkP σ0 B (xR w B ++ [obj6]) c n) (B + 49) = some ((), mkP σ0 B (xm w B) (mc c) (mn n)) := by
  unfold xm
  rw [← mkP_re (c' := 0) (n' := 0) xR_len, ← mkP_re (c' := 0) (n' := 0) xR_len]
  exact m_ev hc hn
set_option maxHeartbeats 4000000 in
set_option maxRecDepth 100000 in
theorem teX6_new (l : Launch) (w : ZW) {σ0 : ZS} {B c0 n0 : Nat} (hc : 100 ≤ c0) (hn : 12000 ≤ n0) {r : Int32} {σm' : ZS} (hf : fX6_flat (bm (s0m w) (B + 64)) 8 = some (r, σm')) (h2 : σm'.2 = (bm (s0m w) (B + 64)).2) : zC l w zL0 yX6_init (ws_ yX6_init cX6_init 1 none) 2 40 [.ref (B + 49)] (mkP σ0 B (xR w B ++ [obj6]) c0 n0) (.returned none) (out w B (s0x B) σm' (mc c0) (mn n0)) := by
  refine zC.of (plainFor_of_name (by decide)) (Nat.le_of_ble_eq_true rfl) ?_
  intro p e s m args below meth c C hnm
  show Z p l e _ s m args below meth c _ w _ _ 1 _ 0 [(0, .ref (B + 49))] []
  refine teX6_init C hnm (Nat.le_of_ble_eq_true rfl) (Nat.le_of_ble_eq_true rfl) (m_ev2 hc hn) ?_
  refine z_aload_n C 0 dX6_init_145 rfl rfl ?_
  refine z_bipush C 8 dX6_init_146 (by decide) ?_
  have hP : (mkP σ0 B (xm w B) (mc c0) (mn n0)).2.2.1 (B + 49) = some (zCellOf (wmOf w B) (s0m w) 0 (.inr (6, [some (some 1), some (some 2), some (some 3), none, some (some 5), some (some 6), some (some 7), none, none, none, none, some (some 12), none, some (some 14), some (some 15), some (some 16), none, none, none, none, some (some 21), some (some 22), some (some 23), some (some 24)]))) := by
    rw [mkP_at]
    exact xm_m 0 _ ly_m0
  refine z_callSj C (σ' := bm (s0m w) (B + 64)) (w' := wmOf w B) (L' := zLm) (rest := []) (av := (.ref ((wmOf w B).2.2 0) :: [.int 8])) (zPay.of q1392 q83) (fun H ls hH _ => zInv_V C (As := [.int 8]) (rest := []) (ci := 6) (T := TX6) (N := 24) rfl (zSee.pool hP) hH q1389 q1391 qs29 (Or.inl rfl) q1392 mh_X6 np_X6_flat dX6_init_148) sub_m0 (tX6_flat l (wmOf w B) hf) (Nat.zero_le _) (Nat.zero_le _) (Nat.le_of_ble_eq_true rfl) (Nat.le_of_ble_eq_true rfl) (fun g1 g2 g3 => ⟨out w B (s0x B) σm' (mc c0) (mn n0), bk_m0 h2, Nat.le_add_right _ _, Nat.le_add_right _ _, ?_⟩)
  refine z_pop C dX6_init_151 rfl ?_
  exact z_vret C dX6_init_152
theorem mkP_0 {X : Nat → Nat → Int32} {G : Nat → Nat → Option Nat} {B c n : Nat} : ((X, G, fun _ => none, B, c, n) : ZS) = mkP (X, G, fun _ => none, B, c, n) B [] c n := by
  unfold mkP
  congr 3
  funext a
  by_cases h : a < B
  · rw [if_pos h]
  · rw [if_neg h]; rfl
set_option maxHeartbeats 4000000 in
set_option maxRecDepth 100000 in
theorem law_Z {p : Program} {l : Launch} {e : Env} {s : State} {m : MethodId} {args : Array Value} {below : List Frame} {meth : Method} {c : Code} {Q : State → Prop} {w : ZW} {A : Nat → Prop} {b L B : Nat} {xs : Nat → Int32} (hC : LC p s m args meth c w A b L xs) (hend : ∀ (σ : ZS) (lv : List (Nat × Value)), Z p l e room_1 s m args below meth c Q w zL0 A 4 σ 1475 lv [.int 1]) : Z p l e room_1 s m args below meth c Q w zL0 A 4 (fun _ _ => 0, fun _ _ => none, fun _ => none, B, 20000, 1000000) 0 [(0, .ref b)] [] := by
  obtain ⟨C, hX, hbl, hbA, hL⟩ := id hC
  obtain ⟨r, σm', f1, f2, f3, f4, f5⟩ := flat0 (w := w) (S := B + 64)
  rw [mkP_0]
  generalize hσ0 : ((fun _ _ => 0, fun _ _ => none, fun _ => none, B, 20000, 1000000) : ZS) = σ0
  refine z_new C (ci := 0) (Cn := RX0) (T := TX0) (N := 8) rfl in_X0 tyX0 tyX0_ok q110 q111 q74 [.null, .null, .null, .null, .int 0, .null, .null, .null] (fun j hj => by rcases (show j = 0 ∨ j = 1 ∨ j = 2 ∨ j = 3 ∨ j = 4 ∨ j = 5 ∨ j = 6 ∨ j = 7 by omega) with rfl | rfl | rfl | rfl | rfl | rfl | rfl | rfl <;> rfl) (Nat.le_of_ble_eq_true rfl) (Nat.le_of_ble_eq_true rfl) dL_law_0 ?_
  refine z_w (mkP_N (rows' := [.inr (0, [.null, .null, .null, .null, .int 0, .null, .null, .null])]) rfl) ?_
  refine z_eq (v' := .ref (B + 0)) rfl ?_
  refine z_dup C dL_law_3 rfl ?_
  refine z_callv C (rest := [.ref (B + 0)]) (av := (.ref (B + 0) :: [])) (zPay.of q114 q74) (fun H ls hH h2 => zInv_I C (As := []) (rest := [.ref (B + 0)]) q112 q113 q114 rfl mh_eX0 np_eX0_init dL_law_4) (teX0_init l w (x_ev (by decide) (by decide))) (Nat.le_of_ble_eq_true rfl) (Nat.le_of_ble_eq_true rfl) ?_
  refine z_astore_n C dL_law_7 rfl (by decide) rfl (lv' := [(1, .ref (B + 0)), (0, .ref b)]) ?_
  refine z_new C (ci := 6) (Cn := RX6) (T := TX6) (N := 24) rfl in_X6 tyX6 tyX6_ok q1379 q1380 q83 [.null, .null, .null, .int 0, .null, .null, .null, .int 0, .int 0, .int 0, .int 0, .null, .int 0, .null, .null, .null, .int 0, .int 0, .int 0, .int 0, .null, .null, .null, .null] (fun j hj => by rcases (show j = 0 ∨ j = 1 ∨ j = 2 ∨ j = 3 ∨ j = 4 ∨ j = 5 ∨ j = 6 ∨ j = 7 ∨ j = 8 ∨ j = 9 ∨ j = 10 ∨ j = 11 ∨ j = 12 ∨ j = 13 ∨ j = 14 ∨ j = 15 ∨ j = 16 ∨ j = 17 ∨ j = 18 ∨ j = 19 ∨ j = 20 ∨ j = 21 ∨ j = 22 ∨ j = 23 by omega) with rfl | rfl | rfl | rfl | rfl | rfl | rfl | rfl | rfl | rfl | rfl | rfl | rfl | rfl | rfl | rfl | rfl | rfl | rfl | rfl | rfl | rfl | rfl | rfl <;> rfl) (Nat.le_of_ble_eq_true rfl) (Nat.le_of_ble_eq_true rfl) dL_law_8 ?_
  refine z_w (mkP_N (rows' := xR w B ++ [obj6]) rfl) ?_
  refine z_eq (v' := .ref (B + 49)) rfl ?_
  refine z_dup C dL_law_11 rfl ?_
  refine z_callv C (rest := [.ref (B + 49)]) (av := (.ref (B + 49) :: [])) (zPay.of q1383 q83) (fun H ls hH h2 => zInv_I C (As := []) (rest := [.ref (B + 49)]) q1381 q1382 q1383 rfl mh_X6 np_eX6_init dL_law_12) (teX6_new l w (by decide) (by decide) f1 f2) (Nat.le_of_ble_eq_true rfl) (Nat.le_of_ble_eq_true rfl) ?_
  refine z_astore_n C dL_law_15 rfl (by decide) rfl (lv' := [(2, .ref (B + 49)), (1, .ref (B + 0)), (0, .ref b)]) ?_
  refine z_iconst C 0 dL_law_16 (by decide) ?_
  refine z_istore_n C dL_law_17 rfl (by decide) rfl (lv' := [(3, .int 0), (2, .ref (B + 49)), (1, .ref (B + 0)), (0, .ref b)]) ?_
  refine z_low (c' := 100 * 64) (n' := 5000 * 64) (Nat.le_of_ble_eq_true rfl) (Nat.le_of_ble_eq_true rfl) ?_
  exact z_lv [3, 2, 1, 0] rfl (lw_loop hC hend 64 0 0 (by decide) (by decide) (s0x B) σm' (li0 f2 f3 f4 f5))
