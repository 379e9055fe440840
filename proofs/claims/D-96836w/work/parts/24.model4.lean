/-! the reference, walked (written by gen/main_m.py) -/
def fX6_depthIn (σ : ZS) (p1 : Int32) (p2 : Int32) : Option (Int32 × ZS) := nm (fJ3_max 0 p2) (fun (x3_1 : Int32) => nm ((1000 * p1) + x3_1) (fun (x4_2 : Int32) => gd (¬ (x4_2 < 0 ∨ 8000 ≤ x4_2.toNatClampNeg)) (bd (if (σ.1 6 x4_2.toNatClampNeg) = 0 then (bd (fX6_depthFor σ p1 x3_1) (fun r_7 σ_9 => nm (1 + r_7) (fun (v_10 : Int32) => some ((), sI σ_9 6 (x4_2.toNatClampNeg) v_10)))) else (some ((), σ))) (fun (_ : Unit) σ_4 => some ((σ_4.1 6 x4_2.toNatClampNeg) - 1, σ_4)))))
set_option maxHeartbeats 4000000 in
set_option maxRecDepth 100000 in
theorem tX6_depthIn (l : Launch) (w : ZW) {σ σ' : ZS} {p1 : Int32} {p2 : Int32} {r : Int32} (hf : fX6_depthIn σ p1 p2 = some (r, σ')) : zC l w zLm yX6_depthIn (ws_ yX6_depthIn cX6_depthIn 5 (some .int)) 4 67 [.ref (w.2.2 0), .int p1, .int p2] σ (.returned (some (.int r))) σ' := by
  refine zC.of (plainFor_of_name (by decide)) (Nat.le_of_ble_eq_true rfl) ?_
  intro p e s m args below meth c C hnm
  show Z p l e _ s m args below meth c _ w _ _ 5 σ 0 [(0, .ref (w.2.2 0)), (1, .int p1), (2, .int p2)] []
  unfold fX6_depthIn at hf
  refine z_iconst C 0 dX6_depthIn_0 (by decide) ?_
  refine z_iload_n C 2 dX6_depthIn_1 rfl rfl ?_
  refine z_calli C (rest := []) (av := [.int 0, .int p2]) (zPay.of q390 q84) (fun H ls hH h2 => zInv_S C (As := [.int 0, .int p2]) (rest := []) q1580 q389 q84 (Or.inl rfl) q390 mh_J3 np_J3_max dX6_depthIn_2) (tJ3_max l w zLm σ 0 p2) (Nat.le_of_ble_eq_true rfl) (Nat.le_of_ble_eq_true rfl) ?_
  obtain ⟨x3_1, ex3_1, hf⟩ := nmo_ hf
  refine z_top ex3_1 ?_
  refine z_istore_n C dX6_depthIn_5 rfl (by decide) rfl (lv' := [(3, .int x3_1), (0, .ref (w.2.2 0)), (1, .int p1), (2, .int p2)]) ?_
  refine z_sipush C 1000 dX6_depthIn_6 (by decide) ?_
  refine z_iload_n C 2 dX6_depthIn_9 rfl rfl ?_
  refine z_imul C dX6_depthIn_10 ?_
  refine z_iload_n C 0 dX6_depthIn_11 rfl rfl ?_
  refine z_iadd C dX6_depthIn_12 ?_
  obtain ⟨x4_2, ex4_2, hf⟩ := nmo_ hf
  refine z_top ex4_2 ?_
  refine z_istore C dX6_depthIn_13 (by decide) rfl (lv' := [(4, .int x4_2), (3, .int x3_1), (0, .ref (w.2.2 0)), (1, .int p1), (2, .int p2)]) ?_
  refine z_aload_n C 2 dX6_depthIn_15 rfl rfl ?_
  refine z_getR C ly_m0 (Cn := RX6) (T := TX6) (N := 24) rfl in_X6 5 (by decide) q1409 (Or.inl rfl) rfl dX6_depthIn_16 ?_
  refine z_iload C 0 dX6_depthIn_19 rfl ?_
  obtain ⟨g_3, hf⟩ := gd_ hf
  refine z_ialoadF C ly_m6 g_3 dX6_depthIn_21 ?_
  obtain ⟨⟨⟩, σ_4, e_5, hf⟩ := bd_ hf
  have hje_5 : Z p l e (zRm 4 67 σ) s m args below meth c (zQ below w zLm σ (.returned (some (.int r))) σ' args s) w zLm (zA w zLm σ) 5 σ_4 40 [(0, .ref (w.2.2 0)), (1, .int p1), (2, .int p2), (3, .int x3_1), (4, .int x4_2)] [] := by
    refine z_aload_n C 0 dX6_depthIn_40 rfl rfl ?_
    refine z_getR C ly_m0 (Cn := RX6) (T := TX6) (N := 24) rfl in_X6 5 (by decide) q1409 (Or.inl rfl) rfl dX6_depthIn_41 ?_
    refine z_iload C 4 dX6_depthIn_44 rfl ?_
    refine z_ialoadF C ly_m6 g_3 dX6_depthIn_46 ?_
    refine z_iconst C 1 dX6_depthIn_47 (by decide) ?_
    refine z_isub C dX6_depthIn_48 ?_
    obtain ⟨rfl, rfl⟩ := fin_ hf
    exact z_iret C rfl dX6_depthIn_49
  replace hf := e_5
  refine z_if_ne C 40 dX6_depthIn_22 (by decide) (fun c_6 => ?_) (fun c_6 => ?_)
  · replace hf := if_f c_6 hf
    obtain ⟨-, rfl⟩ := fin_ hf
    exact z_lv [2, 3, 4, 1, 0] rfl hje_5
  · replace hf := if_t c_6 hf
    refine z_aload_n C 2 dX6_depthIn_25 rfl rfl ?_
    refine z_getR C ly_m0 (Cn := RX6) (T := TX6) (N := 24) rfl in_X6 5 (by decide) q1409 (Or.inl rfl) rfl dX6_depthIn_26 ?_
    refine z_iload C 0 dX6_depthIn_29 rfl ?_
    refine z_iconst C 1 dX6_depthIn_31 (by decide) ?_
    refine z_aload_n C 2 dX6_depthIn_32 rfl rfl ?_
    refine z_iload_n C 3 dX6_depthIn_33 rfl rfl ?_
    refine z_iload_n C 1 dX6_depthIn_34 rfl rfl ?_
    obtain ⟨r_7, σ_9, e_8, hf⟩ := bd_ hf
    refine z_calli C (rest := [.int 1, .int x4_2, .ref (w.2.2 6)]) (av := (.ref (w.2.2 0) :: [.int p1, .int x3_1])) (zPay.of q1613 q83) (fun H ls hH h2 => zInv_V C (As := [.int p1, .int x3_1]) (rest := [.int 1, .int x4_2, .ref (w.2.2 6)]) (ci := 6) (T := TX6) (N := 24) rfl (zSee.fix ly_m0) hH q1610 q1612 qs50 (Or.inl rfl) q1613 mh_X6 np_X6_depthFor dX6_depthIn_35) (tX6_depthFor l w e_8) (Nat.le_of_ble_eq_true rfl) (Nat.le_of_ble_eq_true rfl) ?_
    refine z_iadd C dX6_depthIn_38 ?_
    obtain ⟨v_10, ev_10, hf⟩ := nmo_ hf
    refine z_top ev_10 ?_
    refine z_iastore C ly_m6 g_3 dX6_depthIn_39 ?_
    obtain ⟨-, rfl⟩ := fin_ hf
    exact z_lv [2, 3, 4, 1, 0] rfl hje_5
def fX6_shown (σ : ZS) (p1 : Int32) (p2 : Int32) : Option (Int32 × ZS) := nm (if (fX6_hasBit (σ.1 1 (5 : Int32).toNatClampNeg) p1) = 0 then (σ.1 1 (3 : Int32).toNatClampNeg) else ((σ.1 1 (3 : Int32).toNatClampNeg) - p2)) (fun (j_1 : Int32) => bd (fX6_depthIn σ p1 j_1) (fun r_2 σ_4 => some (r_2, σ_4)))
set_option maxHeartbeats 4000000 in
set_option maxRecDepth 100000 in
theorem tX6_shown (l : Launch) (w : ZW) {σ σ' : ZS} {p1 : Int32} {p2 : Int32} {r : Int32} (hf : fX6_shown σ p1 p2 = some (r, σ')) : zC l w zLm yX6_shown (ws_ yX6_shown cX6_shown 3 (some .int)) 5 83 [.ref (w.2.2 0), .int p1, .int p2] σ (.returned (some (.int r))) σ' := by
  refine zC.of (plainFor_of_name (by decide)) (Nat.le_of_ble_eq_true rfl) ?_
  intro p e s m args below meth c C hnm
  show Z p l e _ s m args below meth c _ w _ _ 3 σ 0 [(0, .ref (w.2.2 0)), (1, .int p1), (2, .int p2)] []
  unfold fX6_shown at hf
  refine z_aload_n C 0 dX6_shown_0 rfl rfl ?_
  refine z_iload_n C 1 dX6_shown_1 rfl rfl ?_
  refine z_aload_n C 0 dX6_shown_2 rfl rfl ?_
  refine z_getR C ly_m0 (Cn := RX6) (T := TX6) (N := 24) rfl in_X6 0 (by decide) q1404 (Or.inl rfl) rfl dX6_shown_3 ?_
  refine z_iconst C 5 dX6_shown_6 (by decide) ?_
  refine z_ialoadF C ly_m1 (by decide) dX6_shown_7 ?_
  refine z_iload_n C 1 dX6_shown_8 rfl rfl ?_
  refine z_calli C (rest := [.int p1, .ref (w.2.2 0)]) (av := [.int (σ.1 1 (5 : Int32).toNatClampNeg), .int p1]) (zPay.of q1620 q83) (fun H ls hH h2 => zInv_S C (As := [.int (σ.1 1 (5 : Int32).toNatClampNeg), .int p1]) (rest := [.int p1, .ref (w.2.2 0)]) q1618 q1619 q83 (Or.inl rfl) q1620 mh_X6 np_X6_hasBit dX6_shown_9) (tX6_hasBit l w zLm σ (σ.1 1 (5 : Int32).toNatClampNeg) p1) (Nat.le_of_ble_eq_true rfl) (Nat.le_of_ble_eq_true rfl) ?_
  obtain ⟨j_1, ej_1, hf⟩ := nmo_ hf
  have hjj_1 : Z p l e (zRm 5 83 σ) s m args below meth c (zQ below w zLm σ (.returned (some (.int r))) σ' args s) w zLm (zA w zLm σ) 3 σ 32 [(0, .ref (w.2.2 0)), (1, .int p1), (2, .int p2)] [.int j_1, .int p1, .ref (w.2.2 0)] := by
    obtain ⟨r_2, σ_4, e_3, hf⟩ := bd_ hf
    refine z_calli C (rest := []) (av := (.ref (w.2.2 0) :: [.int p1, .int j_1])) (zPay.of q1609 q83) (fun H ls hH h2 => zInv_V C (As := [.int p1, .int j_1]) (rest := []) (ci := 6) (T := TX6) (N := 24) rfl (zSee.fix ly_m0) hH q1606 q1608 qs49 (Or.inl rfl) q1609 mh_X6 np_X6_depthIn dX6_shown_32) (tX6_depthIn l w e_3) (Nat.le_of_ble_eq_true rfl) (Nat.le_of_ble_eq_true rfl) ?_
    obtain ⟨rfl, rfl⟩ := fin_ hf
    exact z_iret C rfl dX6_shown_35
  replace hf := ej_1
  refine z_if_eq C 26 dX6_shown_12 (by decide) (fun c_5 => ?_) (fun c_5 => ?_)
  · replace hf := ifp_t c_5 hf
    refine z_aload_n C 0 dX6_shown_26 rfl rfl ?_
    refine z_getR C ly_m0 (Cn := RX6) (T := TX6) (N := 24) rfl in_X6 0 (by decide) q1404 (Or.inl rfl) rfl dX6_shown_27 ?_
    refine z_iconst C 3 dX6_shown_30 (by decide) ?_
    refine z_ialoadF C ly_m1 (by decide) dX6_shown_31 ?_
    subst hf
    exact hjj_1
  · replace hf := ifp_f c_5 hf
    refine z_aload_n C 0 dX6_shown_15 rfl rfl ?_
    refine z_getR C ly_m0 (Cn := RX6) (T := TX6) (N := 24) rfl in_X6 0 (by decide) q1404 (Or.inl rfl) rfl dX6_shown_16 ?_
    refine z_iconst C 3 dX6_shown_19 (by decide) ?_
    refine z_ialoadF C ly_m1 (by decide) dX6_shown_20 ?_
    refine z_iload_n C 2 dX6_shown_21 rfl rfl ?_
    refine z_isub C dX6_shown_22 ?_
    refine z_goto C 32 dX6_shown_23 (by decide) ?_
    subst hf
    exact hjj_1
def fX6_depth (σ : ZS) (p1 : Int32) (p2 : Int32) : Option (Int32 × ZS) := bd (if (fX6_isCell σ p1) = 0 then (bd (fX6_finding σ (-1000000001)) (fun r_5 σ_7 => some (r_5, σ_7))) else (if (fX6_within p2 (-99) 999) = 0 then (bd (fX6_finding σ (-1000000001)) (fun r_9 σ_11 => some (r_9, σ_11))) else (bd (fX6_depthIn σ p1 p2) (fun r_12 σ_14 => some (r_12, σ_14))))) (fun (j_1 : Int32) σ_2 => some (j_1, σ_2))
set_option maxHeartbeats 4000000 in
set_option maxRecDepth 100000 in
theorem tX6_depth (l : Launch) (w : ZW) {σ σ' : ZS} {p1 : Int32} {p2 : Int32} {r : Int32} (hf : fX6_depth σ p1 p2 = some (r, σ')) : zC l w zLm yX6_depth (ws_ yX6_depth cX6_depth 3 (some .int)) 5 83 [.ref (w.2.2 0), .int p1, .int p2] σ (.returned (some (.int r))) σ' := by
  refine zC.of (plainFor_of_name (by decide)) (Nat.le_of_ble_eq_true rfl) ?_
  intro p e s m args below meth c C hnm
  show Z p l e _ s m args below meth c _ w _ _ 3 σ 0 [(0, .ref (w.2.2 0)), (1, .int p1), (2, .int p2)] []
  unfold fX6_depth at hf
  refine z_aload_n C 0 dX6_depth_0 rfl rfl ?_
  refine z_iload_n C 1 dX6_depth_1 rfl rfl ?_
  refine z_calli C (rest := []) (av := (.ref (w.2.2 0) :: [.int p1])) (zPay.of q1593 q83) (fun H ls hH h2 => zInv_V C (As := [.int p1]) (rest := []) (ci := 6) (T := TX6) (N := 24) rfl (zSee.fix ly_m0) hH q1590 q1592 qs46 (Or.inl rfl) q1593 mh_X6 np_X6_isCell dX6_depth_2) (tX6_isCell l w σ p1) (Nat.le_of_ble_eq_true rfl) (Nat.le_of_ble_eq_true rfl) ?_
  obtain ⟨j_1, σ_2, e_3, hf⟩ := bd_ hf
  have hje_3 : Z p l e (zRm 5 83 σ) s m args below meth c (zQ below w zLm σ (.returned (some (.int r))) σ' args s) w zLm (zA w zLm σ) 3 σ_2 35 [(0, .ref (w.2.2 0)), (1, .int p1), (2, .int p2)] [.int j_1] := by
    obtain ⟨rfl, rfl⟩ := fin_ hf
    exact z_iret C rfl dX6_depth_35
  replace hf := e_3
  refine z_if_eq C 29 dX6_depth_5 (by decide) (fun c_4 => ?_) (fun c_4 => ?_)
  · replace hf := if_t c_4 hf
    refine z_aload_n C 0 dX6_depth_29 rfl rfl ?_
    refine z_ldc C dX6_depth_30 q1484 ?_
    obtain ⟨r_5, σ_7, e_6, hf⟩ := bd_ hf
    refine z_calli C (rest := []) (av := (.ref (w.2.2 0) :: [.int (-1000000001)])) (zPay.of q1488 q83) (fun H ls hH h2 => zInv_V C (As := [.int (-1000000001)]) (rest := []) (ci := 6) (T := TX6) (N := 24) rfl (zSee.fix ly_m0) hH q1485 q1487 qs32 (Or.inl rfl) q1488 mh_X6 np_X6_finding dX6_depth_32) (tX6_finding l w e_6) (Nat.le_of_ble_eq_true rfl) (Nat.le_of_ble_eq_true rfl) ?_
    obtain ⟨rfl, rfl⟩ := fin_ hf
    exact hje_3
  · replace hf := if_f c_4 hf
    refine z_iload_n C 2 dX6_depth_8 rfl rfl ?_
    refine z_bipush C (-99) dX6_depth_9 (by decide) ?_
    refine z_sipush C 999 dX6_depth_11 (by decide) ?_
    refine z_calli C (rest := []) (av := [.int p2, .int (-99), .int 999]) (zPay.of q1483 q83) (fun H ls hH h2 => zInv_S C (As := [.int p2, .int (-99), .int 999]) (rest := []) q1481 q1482 q83 (Or.inl rfl) q1483 mh_X6 np_X6_within dX6_depth_14) (tX6_within l w zLm σ p2 (-99) 999) (Nat.le_of_ble_eq_true rfl) (Nat.le_of_ble_eq_true rfl) ?_
    refine z_if_eq C 29 dX6_depth_17 (by decide) (fun c_8 => ?_) (fun c_8 => ?_)
    · replace hf := if_t c_8 hf
      refine z_aload_n C 0 dX6_depth_29 rfl rfl ?_
      refine z_ldc C dX6_depth_30 q1484 ?_
      obtain ⟨r_9, σ_11, e_10, hf⟩ := bd_ hf
      refine z_calli C (rest := []) (av := (.ref (w.2.2 0) :: [.int (-1000000001)])) (zPay.of q1488 q83) (fun H ls hH h2 => zInv_V C (As := [.int (-1000000001)]) (rest := []) (ci := 6) (T := TX6) (N := 24) rfl (zSee.fix ly_m0) hH q1485 q1487 qs32 (Or.inl rfl) q1488 mh_X6 np_X6_finding dX6_depth_32) (tX6_finding l w e_10) (Nat.le_of_ble_eq_true rfl) (Nat.le_of_ble_eq_true rfl) ?_
      obtain ⟨rfl, rfl⟩ := fin_ hf
      exact hje_3
    · replace hf := if_f c_8 hf
      refine z_aload_n C 0 dX6_depth_20 rfl rfl ?_
      refine z_iload_n C 1 dX6_depth_21 rfl rfl ?_
      refine z_iload_n C 2 dX6_depth_22 rfl rfl ?_
      obtain ⟨r_12, σ_14, e_13, hf⟩ := bd_ hf
      refine z_calli C (rest := []) (av := (.ref (w.2.2 0) :: [.int p1, .int p2])) (zPay.of q1609 q83) (fun H ls hH h2 => zInv_V C (As := [.int p1, .int p2]) (rest := []) (ci := 6) (T := TX6) (N := 24) rfl (zSee.fix ly_m0) hH q1606 q1608 qs49 (Or.inl rfl) q1609 mh_X6 np_X6_depthIn dX6_depth_23) (tX6_depthIn l w e_13) (Nat.le_of_ble_eq_true rfl) (Nat.le_of_ble_eq_true rfl) ?_
      refine z_goto C 35 dX6_depth_26 (by decide) ?_
      obtain ⟨rfl, rfl⟩ := fin_ hf
      exact hje_3
def fX6_isShownSo_L5 (y1 : Int32) (y2 : Int32) : Nat → Int32 → Int32 → ZS → Option ((Int32 × Int32) × ZS)
  | 0, _, _, _ => none
  | n + 1, y3, y4, σ => if (σ.1 1 (1 : Int32).toNatClampNeg) ≤ y4 then (some ((y3, y4), σ)) else (gd (¬ (((40 * y1) + y4) < 0 ∨ 160 ≤ ((40 * y1) + y4).toNatClampNeg)) (nm (σ.1 23 ((40 * y1) + y4).toNatClampNeg) (fun (x5_3 : Int32) => bd (if y3 = 0 then (some (0, σ)) else (if x5_3 < 0 then (some (1, σ)) else (bd (fX6_shown σ y4 y2) (fun r_10 σ_12 => if x5_3 = r_10 then (some (1, σ_12)) else (some (0, σ_12)))))) (fun (j_4 : Int32) σ_5 => nm (y4 + 1) (fun (x4_7 : Int32) => fX6_isShownSo_L5 y1 y2 n j_4 x4_7 σ_5)))))
def fX6_isShownSo (σ : ZS) (p1 : Int32) (p2 : Int32) : Option (Int32 × ZS) := bd (fX6_isShownSo_L5 p1 p2 10000 1 0 σ) (fun uu16 σ_16 => gd ((uu16.1) = 0 ∨ (uu16.1) = 1) (some ((uu16.1), σ_16)))
set_option maxHeartbeats 4000000 in
set_option maxRecDepth 100000 in
theorem lfX6_isShownSo_L5 {p : Program} {l : Launch} {e : Env} {R : Room} {s : State} {m : MethodId} {args : Array Value} {below : List Frame} {meth : Method} {c : Code} {Q : State → Prop} {w : ZW} {A : Nat → Prop} {ret : Option FieldType} {hh : List (Nat × Nat × Nat × Nat)} (C : zCx p s m args meth c w zLm A 6 cX6_isShownSo RX6 ret hh) (hfr : 6 ≤ R.frames) (hlo : 98 ≤ R.locals) (y1 : Int32) (y2 : Int32) {z3 : Int32} {z4 : Int32} {σ' : ZS} (hk : Z p l e R s m args below meth c Q w zLm A 6 σ' 63 [(0, .ref (w.2.2 0)), (1, .int y1), (2, .int y2), (3, .int z3), (4, .int z4)] []) : ∀ (n : Nat) (y3 : Int32) (y4 : Int32) (σ : ZS), fX6_isShownSo_L5 y1 y2 n y3 y4 σ = some ((z3, z4), σ') → Z p l e R s m args below meth c Q w zLm A 6 σ 5 [(0, .ref (w.2.2 0)), (1, .int y1), (2, .int y2), (3, .int y3), (4, .int y4)] [] := by
  intro n
  induction n with
  | zero => intro y3 y4 σ hf; exact none_ hf
  | succ n ih =>
    intro y3 y4 σ hf
    rw [fX6_isShownSo_L5] at hf
    refine z_iload C 4 dX6_isShownSo_5 rfl ?_
    refine z_aload_n C 0 dX6_isShownSo_7 rfl rfl ?_
    refine z_getR C ly_m0 (Cn := RX6) (T := TX6) (N := 24) rfl in_X6 0 (by decide) q1404 (Or.inl rfl) rfl dX6_isShownSo_8 ?_
    refine z_iconst C 1 dX6_isShownSo_11 (by decide) ?_
    refine z_ialoadF C ly_m1 (by decide) dX6_isShownSo_12 ?_
    refine z_icmp_ge C 63 dX6_isShownSo_13 (by decide) (fun c_1 => ?_) (fun c_1 => ?_)
    · replace hf := if_t c_1 hf
      obtain ⟨hf1, rfl⟩ := fin_ hf
      simp only [Prod.mk.injEq] at hf1
      obtain ⟨rfl, rfl⟩ := hf1
      exact hk
    · replace hf := if_f c_1 hf
      refine z_aload_n C 0 dX6_isShownSo_16 rfl rfl ?_
      refine z_getR C ly_m0 (Cn := RX6) (T := TX6) (N := 24) rfl in_X6 22 (by decide) q1426 (Or.inl rfl) rfl dX6_isShownSo_17 ?_
      refine z_bipush C 40 dX6_isShownSo_20 (by decide) ?_
      refine z_iload_n C 1 dX6_isShownSo_22 rfl rfl ?_
      refine z_imul C dX6_isShownSo_23 ?_
      refine z_iload C 4 dX6_isShownSo_24 rfl ?_
      refine z_iadd C dX6_isShownSo_26 ?_
      obtain ⟨g_2, hf⟩ := gd_ hf
      refine z_ialoadF C ly_m23 g_2 dX6_isShownSo_27 ?_
      obtain ⟨x5_3, ex5_3, hf⟩ := nmo_ hf
      refine z_top ex5_3 ?_
      refine z_istore C dX6_isShownSo_28 (by decide) rfl (lv' := [(5, .int x5_3), (0, .ref (w.2.2 0)), (1, .int y1), (2, .int y2), (3, .int y3), (4, .int y4)]) ?_
      refine z_iload_n C 4 dX6_isShownSo_30 rfl rfl ?_
      obtain ⟨j_4, σ_5, e_6, hf⟩ := bd_ hf
      have hje_6 : Z p l e R s m args below meth c Q w zLm A 6 σ_5 56 [(0, .ref (w.2.2 0)), (1, .int y1), (2, .int y2), (3, .int y3), (4, .int y4), (5, .int x5_3)] [.int j_4] := by
        refine z_istore_n C dX6_isShownSo_56 rfl (by decide) rfl (lv' := [(3, .int j_4), (0, .ref (w.2.2 0)), (1, .int y1), (2, .int y2), (4, .int y4), (5, .int x5_3)]) ?_
        obtain ⟨x4_7, ex4_7, hf⟩ := nmo_ hf
        refine z_iinc C x4_7 4 dX6_isShownSo_57 rfl (by rw [ex4_7]; rfl) (by decide) rfl (lv' := [(4, .int x4_7), (3, .int j_4), (0, .ref (w.2.2 0)), (1, .int y1), (2, .int y2), (5, .int x5_3)]) ?_
        refine z_goto C 5 dX6_isShownSo_60 (by decide) ?_
        exact z_lv [2, 3, 4, 1, 0] rfl (ih _ _ _ hf)
      replace hf := e_6
      refine z_if_eq C 55 dX6_isShownSo_31 (by decide) (fun c_8 => ?_) (fun c_8 => ?_)
      · replace hf := if_t c_8 hf
        refine z_iconst C 0 dX6_isShownSo_55 (by decide) ?_
        obtain ⟨rfl, rfl⟩ := fin_ hf
        exact z_lv [1, 2, 3, 4, 5, 0] rfl hje_6
      · replace hf := if_f c_8 hf
        refine z_iload C 0 dX6_isShownSo_34 rfl ?_
        refine z_if_lt C 51 dX6_isShownSo_36 (by decide) (fun c_9 => ?_) (fun c_9 => ?_)
        · replace hf := if_t c_9 hf
          refine z_iconst C 1 dX6_isShownSo_51 (by decide) ?_
          refine z_goto C 56 dX6_isShownSo_52 (by decide) ?_
          obtain ⟨rfl, rfl⟩ := fin_ hf
          exact z_lv [1, 2, 3, 4, 5, 0] rfl hje_6
        · replace hf := if_f c_9 hf
          refine z_iload C 0 dX6_isShownSo_39 rfl ?_
          refine z_aload_n C 1 dX6_isShownSo_41 rfl rfl ?_
          refine z_iload C 5 dX6_isShownSo_42 rfl ?_
          refine z_iload_n C 3 dX6_isShownSo_44 rfl rfl ?_
          obtain ⟨r_10, σ_12, e_11, hf⟩ := bd_ hf
          refine z_calli C (rest := [.int x5_3]) (av := (.ref (w.2.2 0) :: [.int y4, .int y2])) (zPay.of q1617 q83) (fun H ls hH h2 => zInv_V C (As := [.int y4, .int y2]) (rest := [.int x5_3]) (ci := 6) (T := TX6) (N := 24) rfl (zSee.fix ly_m0) hH q1614 q1616 qs51 (Or.inl rfl) q1617 mh_X6 np_X6_shown dX6_isShownSo_45) (tX6_shown l w e_11) (Nat.le_trans (Nat.le_of_ble_eq_true rfl) hfr) (Nat.le_trans (Nat.le_of_ble_eq_true rfl) hlo) ?_
          refine z_icmp_ne C 55 dX6_isShownSo_48 (by decide) (fun c_13 => ?_) (fun c_13 => ?_)
          · replace hf := if_f c_13 hf
            refine z_iconst C 0 dX6_isShownSo_55 (by decide) ?_
            obtain ⟨rfl, rfl⟩ := fin_ hf
            exact z_lv [1, 2, 3, 4, 5, 0] rfl hje_6
          · replace hf := if_t c_13 hf
            refine z_iconst C 1 dX6_isShownSo_51 (by decide) ?_
            refine z_goto C 56 dX6_isShownSo_52 (by decide) ?_
            obtain ⟨rfl, rfl⟩ := fin_ hf
            exact z_lv [1, 2, 3, 4, 5, 0] rfl hje_6
set_option maxHeartbeats 4000000 in
set_option maxRecDepth 100000 in
theorem tX6_isShownSo (l : Launch) (w : ZW) {σ σ' : ZS} {p1 : Int32} {p2 : Int32} {r : Int32} (hf : fX6_isShownSo σ p1 p2 = some (r, σ')) : zC l w zLm yX6_isShownSo (ws_ yX6_isShownSo cX6_isShownSo 6 (some .boolean)) 6 98 [.ref (w.2.2 0), .int p1, .int p2] σ (.returned (some (.int r))) σ' := by
  refine zC.of (plainFor_of_name (by decide)) (Nat.le_of_ble_eq_true rfl) ?_
  intro p e s m args below meth c C hnm
  show Z p l e _ s m args below meth c _ w _ _ 6 σ 0 [(0, .ref (w.2.2 0)), (1, .int p1), (2, .int p2)] []
  unfold fX6_isShownSo at hf
  refine z_iconst C 1 dX6_isShownSo_0 (by decide) ?_
  refine z_istore_n C dX6_isShownSo_1 rfl (by decide) rfl (lv' := [(3, .int 1), (0, .ref (w.2.2 0)), (1, .int p1), (2, .int p2)]) ?_
  refine z_iconst C 0 dX6_isShownSo_2 (by decide) ?_
  refine z_istore C dX6_isShownSo_3 (by decide) rfl (lv' := [(4, .int 0), (3, .int 1), (0, .ref (w.2.2 0)), (1, .int p1), (2, .int p2)]) ?_
  obtain ⟨⟨x3_14, x4_15⟩, σ_16, e_17, hf⟩ := bd_ hf
  try dsimp only at hf
  refine z_lv (lv' := [(0, .ref (w.2.2 0)), (1, .int p1), (2, .int p2), (3, .int 1), (4, .int 0)]) [2, 3, 4, 1, 0] rfl ?_
  refine lfX6_isShownSo_L5 C (Nat.le_of_ble_eq_true rfl) (Nat.le_of_ble_eq_true rfl) p1 p2 ?_ _ _ _ _ e_17
  refine z_iload_n C 3 dX6_isShownSo_63 rfl rfl ?_
  obtain ⟨g_18, hf⟩ := gd_ hf
  obtain ⟨rfl, rfl⟩ := fin_ hf
  exact z_iret C (b01 g_18) dX6_isShownSo_64
def fX6_deep_L27 (y1 : Int32) (y2 : Int32) : Nat → Int32 → ZS → Option ((Int32) × ZS)
  | 0, _, _ => none
  | n + 1, y3, σ => if 99 < y3 then (some (y3, σ)) else (bd (fX6_depthIn σ y1 ((σ.1 1 (3 : Int32).toNatClampNeg) - y3)) (fun r_7 σ_9 => if y2 ≤ r_7 then (some (y3, σ_9)) else (nm (y3 + 1) (fun (x3_11 : Int32) => fX6_deep_L27 y1 y2 n x3_11 σ_9))))
def fX6_deep (σ : ZS) (p1 : Int32) (p2 : Int32) : Option (Int32 × ZS) := if (fX6_isCell σ p1) = 0 then (bd (fX6_finding σ (-1000000001)) (fun r_2 σ_4 => some (r_2, σ_4))) else (if (fX6_within p2 0 19) = 0 then (bd (fX6_finding σ (-1000000001)) (fun r_22 σ_24 => some (r_22, σ_24))) else (bd (fX6_deep_L27 p1 p2 10000 0 σ) (fun x3_12 σ_13 => bd (if x3_12 ≤ 99 then (some (x3_12, σ_13)) else (bd (fX6_finding σ_13 (-1000000002)) (fun r_19 σ_21 => some (r_19, σ_21)))) (fun (j_15 : Int32) σ_16 => some (j_15, σ_16)))))
set_option maxHeartbeats 4000000 in
set_option maxRecDepth 100000 in
theorem lfX6_deep_L27 {p : Program} {l : Launch} {e : Env} {R : Room} {s : State} {m : MethodId} {args : Array Value} {below : List Frame} {meth : Method} {c : Code} {Q : State → Prop} {w : ZW} {A : Nat → Prop} {ret : Option FieldType} {hh : List (Nat × Nat × Nat × Nat)} (C : zCx p s m args meth c w zLm A 4 cX6_deep RX6 ret hh) (hfr : 5 ≤ R.frames) (hlo : 83 ≤ R.locals) (y1 : Int32) (y2 : Int32) {z3 : Int32} {σ' : ZS} (hk : Z p l e R s m args below meth c Q w zLm A 4 σ' 56 [(0, .ref (w.2.2 0)), (1, .int y1), (2, .int y2), (3, .int z3)] []) : ∀ (n : Nat) (y3 : Int32) (σ : ZS), fX6_deep_L27 y1 y2 n y3 σ = some (z3, σ') → Z p l e R s m args below meth c Q w zLm A 4 σ 27 [(0, .ref (w.2.2 0)), (1, .int y1), (2, .int y2), (3, .int y3)] [] := by
  intro n
  induction n with
  | zero => intro y3 σ hf; exact none_ hf
  | succ n ih =>
    intro y3 σ hf
    rw [fX6_deep_L27] at hf
    refine z_iload_n C 3 dX6_deep_27 rfl rfl ?_
    refine z_bipush C 99 dX6_deep_28 (by decide) ?_
    refine z_icmp_gt C 56 dX6_deep_30 (by decide) (fun c_6 => ?_) (fun c_6 => ?_)
    · replace hf := if_t c_6 hf
      obtain ⟨rfl, rfl⟩ := fin_ hf
      exact hk
    · replace hf := if_f c_6 hf
      refine z_aload_n C 0 dX6_deep_33 rfl rfl ?_
      refine z_iload_n C 1 dX6_deep_34 rfl rfl ?_
      refine z_aload_n C 0 dX6_deep_35 rfl rfl ?_
      refine z_getR C ly_m0 (Cn := RX6) (T := TX6) (N := 24) rfl in_X6 0 (by decide) q1404 (Or.inl rfl) rfl dX6_deep_36 ?_
      refine z_iconst C 3 dX6_deep_39 (by decide) ?_
      refine z_ialoadF C ly_m1 (by decide) dX6_deep_40 ?_
      refine z_iload_n C 3 dX6_deep_41 rfl rfl ?_
      refine z_isub C dX6_deep_42 ?_
      obtain ⟨r_7, σ_9, e_8, hf⟩ := bd_ hf
      refine z_calli C (rest := []) (av := (.ref (w.2.2 0) :: [.int y1, .int ((σ.1 1 (3 : Int32).toNatClampNeg) - y3)])) (zPay.of q1609 q83) (fun H ls hH h2 => zInv_V C (As := [.int y1, .int ((σ.1 1 (3 : Int32).toNatClampNeg) - y3)]) (rest := []) (ci := 6) (T := TX6) (N := 24) rfl (zSee.fix ly_m0) hH q1606 q1608 qs49 (Or.inl rfl) q1609 mh_X6 np_X6_depthIn dX6_deep_43) (tX6_depthIn l w e_8) (Nat.le_trans (Nat.le_of_ble_eq_true rfl) hfr) (Nat.le_trans (Nat.le_of_ble_eq_true rfl) hlo) ?_
      refine z_iload_n C 2 dX6_deep_46 rfl rfl ?_
      refine z_icmp_ge C 56 dX6_deep_47 (by decide) (fun c_10 => ?_) (fun c_10 => ?_)
      · replace hf := if_t c_10 hf
        obtain ⟨rfl, rfl⟩ := fin_ hf
        exact hk
      · replace hf := if_f c_10 hf
        obtain ⟨x3_11, ex3_11, hf⟩ := nmo_ hf
        refine z_iinc C x3_11 3 dX6_deep_50 rfl (by rw [ex3_11]; rfl) (by decide) rfl (lv' := [(3, .int x3_11), (0, .ref (w.2.2 0)), (1, .int y1), (2, .int y2)]) ?_
        refine z_goto C 27 dX6_deep_53 (by decide) ?_
        exact z_lv [1, 2, 3, 0] rfl (ih _ _ hf)
set_option maxHeartbeats 4000000 in
set_option maxRecDepth 100000 in
theorem tX6_deep (l : Launch) (w : ZW) {σ σ' : ZS} {p1 : Int32} {p2 : Int32} {r : Int32} (hf : fX6_deep σ p1 p2 = some (r, σ')) : zC l w zLm yX6_deep (ws_ yX6_deep cX6_deep 4 (some .int)) 5 83 [.ref (w.2.2 0), .int p1, .int p2] σ (.returned (some (.int r))) σ' := by
  refine zC.of (plainFor_of_name (by decide)) (Nat.le_of_ble_eq_true rfl) ?_
  intro p e s m args below meth c C hnm
  show Z p l e _ s m args below meth c _ w _ _ 4 σ 0 [(0, .ref (w.2.2 0)), (1, .int p1), (2, .int p2)] []
  unfold fX6_deep at hf
  refine z_aload_n C 0 dX6_deep_0 rfl rfl ?_
  refine z_iload_n C 1 dX6_deep_1 rfl rfl ?_
  refine z_calli C (rest := []) (av := (.ref (w.2.2 0) :: [.int p1])) (zPay.of q1593 q83) (fun H ls hH h2 => zInv_V C (As := [.int p1]) (rest := []) (ci := 6) (T := TX6) (N := 24) rfl (zSee.fix ly_m0) hH q1590 q1592 qs46 (Or.inl rfl) q1593 mh_X6 np_X6_isCell dX6_deep_2) (tX6_isCell l w σ p1) (Nat.le_of_ble_eq_true rfl) (Nat.le_of_ble_eq_true rfl) ?_
  refine z_if_eq C 18 dX6_deep_5 (by decide) (fun c_1 => ?_) (fun c_1 => ?_)
  · replace hf := if_t c_1 hf
    refine z_aload_n C 0 dX6_deep_18 rfl rfl ?_
    refine z_ldc C dX6_deep_19 q1484 ?_
    obtain ⟨r_2, σ_4, e_3, hf⟩ := bd_ hf
    refine z_calli C (rest := []) (av := (.ref (w.2.2 0) :: [.int (-1000000001)])) (zPay.of q1488 q83) (fun H ls hH h2 => zInv_V C (As := [.int (-1000000001)]) (rest := []) (ci := 6) (T := TX6) (N := 24) rfl (zSee.fix ly_m0) hH q1485 q1487 qs32 (Or.inl rfl) q1488 mh_X6 np_X6_finding dX6_deep_21) (tX6_finding l w e_3) (Nat.le_of_ble_eq_true rfl) (Nat.le_of_ble_eq_true rfl) ?_
    obtain ⟨rfl, rfl⟩ := fin_ hf
    exact z_iret C rfl dX6_deep_24
  · replace hf := if_f c_1 hf
    refine z_iload_n C 2 dX6_deep_8 rfl rfl ?_
    refine z_iconst C 0 dX6_deep_9 (by decide) ?_
    refine z_bipush C 19 dX6_deep_10 (by decide) ?_
    refine z_calli C (rest := []) (av := [.int p2, .int 0, .int 19]) (zPay.of q1483 q83) (fun H ls hH h2 => zInv_S C (As := [.int p2, .int 0, .int 19]) (rest := []) q1481 q1482 q83 (Or.inl rfl) q1483 mh_X6 np_X6_within dX6_deep_12) (tX6_within l w zLm σ p2 0 19) (Nat.le_of_ble_eq_true rfl) (Nat.le_of_ble_eq_true rfl) ?_
    refine z_if_ne C 25 dX6_deep_15 (by decide) (fun c_5 => ?_) (fun c_5 => ?_)
    · replace hf := if_f c_5 hf
      refine z_iconst C 0 dX6_deep_25 (by decide) ?_
      refine z_istore_n C dX6_deep_26 rfl (by decide) rfl (lv' := [(3, .int 0), (0, .ref (w.2.2 0)), (1, .int p1), (2, .int p2)]) ?_
      obtain ⟨x3_12, σ_13, e_14, hf⟩ := bd_ hf
      refine z_lv (lv' := [(0, .ref (w.2.2 0)), (1, .int p1), (2, .int p2), (3, .int 0)]) [1, 2, 3, 0] rfl ?_
      refine lfX6_deep_L27 C (Nat.le_of_ble_eq_true rfl) (Nat.le_of_ble_eq_true rfl) p1 p2 ?_ _ _ _ e_14
      refine z_iload_n C 3 dX6_deep_56 rfl rfl ?_
      refine z_bipush C 99 dX6_deep_57 (by decide) ?_
      obtain ⟨j_15, σ_16, e_17, hf⟩ := bd_ hf
      have hje_17 : Z p l e (zRm 5 83 σ) s m args below meth c (zQ below w zLm σ (.returned (some (.int r))) σ' args s) w zLm (zA w zLm σ) 4 σ_16 73 [(0, .ref (w.2.2 0)), (1, .int p1), (2, .int p2), (3, .int x3_12)] [.int j_15] := by
        obtain ⟨rfl, rfl⟩ := fin_ hf
        exact z_iret C rfl dX6_deep_73
      replace hf := e_17
      refine z_icmp_le C 72 dX6_deep_59 (by decide) (fun c_18 => ?_) (fun c_18 => ?_)
      · replace hf := if_t c_18 hf
        refine z_iload_n C 3 dX6_deep_72 rfl rfl ?_
        obtain ⟨rfl, rfl⟩ := fin_ hf
        exact hje_17
      · replace hf := if_f c_18 hf
        refine z_aload_n C 0 dX6_deep_62 rfl rfl ?_
        refine z_ldc_w C dX6_deep_63 q1742 ?_
        obtain ⟨r_19, σ_21, e_20, hf⟩ := bd_ hf
        refine z_calli C (rest := []) (av := (.ref (w.2.2 0) :: [.int (-1000000002)])) (zPay.of q1488 q83) (fun H ls hH h2 => zInv_V C (As := [.int (-1000000002)]) (rest := []) (ci := 6) (T := TX6) (N := 24) rfl (zSee.fix ly_m0) hH q1485 q1487 qs32 (Or.inl rfl) q1488 mh_X6 np_X6_finding dX6_deep_66) (tX6_finding l w e_20) (Nat.le_of_ble_eq_true rfl) (Nat.le_of_ble_eq_true rfl) ?_
        refine z_goto C 73 dX6_deep_69 (by decide) ?_
        obtain ⟨rfl, rfl⟩ := fin_ hf
        exact hje_17
    · replace hf := if_t c_5 hf
      refine z_aload_n C 0 dX6_deep_18 rfl rfl ?_
      refine z_ldc C dX6_deep_19 q1484 ?_
      obtain ⟨r_22, σ_24, e_23, hf⟩ := bd_ hf
      refine z_calli C (rest := []) (av := (.ref (w.2.2 0) :: [.int (-1000000001)])) (zPay.of q1488 q83) (fun H ls hH h2 => zInv_V C (As := [.int (-1000000001)]) (rest := []) (ci := 6) (T := TX6) (N := 24) rfl (zSee.fix ly_m0) hH q1485 q1487 qs32 (Or.inl rfl) q1488 mh_X6 np_X6_finding dX6_deep_21) (tX6_finding l w e_23) (Nat.le_of_ble_eq_true rfl) (Nat.le_of_ble_eq_true rfl) ?_
      obtain ⟨rfl, rfl⟩ := fin_ hf
      exact z_iret C rfl dX6_deep_24
def fX6_logsOf (σ : ZS) (p1 : Int32) : Option (Int32 × ZS) := if (σ.1 0 17) = 6 then (bd (fX6_ran σ 71) (fun _ σ_17 => bd (fX6_steersOf σ_17 p1) (fun r_18 σ_20 => bd (fX6_plainLogs σ_20 p1) (fun r_21 σ_23 => some (r_18 - r_21, σ_23))))) else (if (σ.1 0 17) = 4 then (bd (fX6_ran σ 50) (fun _ σ_8 => bd (fX6_plainLogs σ_8 p1) (fun r_9 σ_11 => bd (fX6_sailsOf σ_11 2) (fun r_12 σ_14 => some (r_9 - r_12, σ_14))))) else (bd (fX6_plainLogs σ p1) (fun r_3 σ_5 => some (r_3, σ_5))))
set_option maxHeartbeats 4000000 in
set_option maxRecDepth 100000 in
theorem tX6_logsOf (l : Launch) (w : ZW) {σ σ' : ZS} {p1 : Int32} {r : Int32} (hf : fX6_logsOf σ p1 = some (r, σ')) : zC l w zLm yX6_logsOf (ws_ yX6_logsOf cX6_logsOf 3 (some .int)) 5 73 [.ref (w.2.2 0), .int p1] σ (.returned (some (.int r))) σ' := by
  refine zC.of (plainFor_of_name (by decide)) (Nat.le_of_ble_eq_true rfl) ?_
  intro p e s m args below meth c C hnm
  show Z p l e _ s m args below meth c _ w _ _ 3 σ 0 [(0, .ref (w.2.2 0)), (1, .int p1)] []
  unfold fX6_logsOf at hf
  refine z_aload_n C 0 dX6_logsOf_0 rfl rfl ?_
  refine z_getI C ly_m0 (Cn := RX6) (T := TX6) (N := 24) rfl in_X6 17 (by decide) q1421 (Or.inl rfl) rfl dX6_logsOf_1 ?_
  refine z_bipush C 6 dX6_logsOf_4 (by decide) ?_
  refine z_icmp_ne C 29 dX6_logsOf_6 (by decide) (fun c_1 => ?_) (fun c_1 => ?_)
  · replace hf := if_f c_1 hf
    refine z_aload_n C 0 dX6_logsOf_29 rfl rfl ?_
    refine z_getI C ly_m0 (Cn := RX6) (T := TX6) (N := 24) rfl in_X6 17 (by decide) q1421 (Or.inl rfl) rfl dX6_logsOf_30 ?_
    refine z_iconst C 4 dX6_logsOf_33 (by decide) ?_
    refine z_icmp_ne C 57 dX6_logsOf_34 (by decide) (fun c_2 => ?_) (fun c_2 => ?_)
    · replace hf := if_f c_2 hf
      refine z_aload_n C 0 dX6_logsOf_57 rfl rfl ?_
      refine z_iload_n C 1 dX6_logsOf_58 rfl rfl ?_
      obtain ⟨r_3, σ_5, e_4, hf⟩ := bd_ hf
      refine z_calli C (rest := []) (av := (.ref (w.2.2 0) :: [.int p1])) (zPay.of q1825 q83) (fun H ls hH h2 => zInv_V C (As := [.int p1]) (rest := []) (ci := 6) (T := TX6) (N := 24) rfl (zSee.fix ly_m0) hH q1822 q1824 qs72 (Or.inl rfl) q1825 mh_X6 np_X6_plainLogs dX6_logsOf_59) (tX6_plainLogs l w e_4) (Nat.le_of_ble_eq_true rfl) (Nat.le_of_ble_eq_true rfl) ?_
      obtain ⟨rfl, rfl⟩ := fin_ hf
      exact z_iret C rfl dX6_logsOf_62
    · replace hf := if_t c_2 hf
      refine z_aload_n C 0 dX6_logsOf_37 rfl rfl ?_
      refine z_bipush C 50 dX6_logsOf_38 (by decide) ?_
      obtain ⟨⟨⟩, σ_8, e_7, hf⟩ := bd_ hf
      refine z_callv C (rest := []) (av := (.ref (w.2.2 0) :: [.int 50])) (zPay.of q1809 q83) (fun H ls hH h2 => zInv_V C (As := [.int 50]) (rest := []) (ci := 6) (T := TX6) (N := 24) rfl (zSee.fix ly_m0) hH q1806 q1808 qs68 (Or.inl rfl) q1809 mh_X6 np_X6_ran dX6_logsOf_40) (tX6_ran l w e_7) (Nat.le_of_ble_eq_true rfl) (Nat.le_of_ble_eq_true rfl) ?_
      refine z_aload_n C 0 dX6_logsOf_43 rfl rfl ?_
      refine z_iload_n C 1 dX6_logsOf_44 rfl rfl ?_
      obtain ⟨r_9, σ_11, e_10, hf⟩ := bd_ hf
      refine z_calli C (rest := []) (av := (.ref (w.2.2 0) :: [.int p1])) (zPay.of q1825 q83) (fun H ls hH h2 => zInv_V C (As := [.int p1]) (rest := []) (ci := 6) (T := TX6) (N := 24) rfl (zSee.fix ly_m0) hH q1822 q1824 qs72 (Or.inl rfl) q1825 mh_X6 np_X6_plainLogs dX6_logsOf_45) (tX6_plainLogs l w e_10) (Nat.le_of_ble_eq_true rfl) (Nat.le_of_ble_eq_true rfl) ?_
      refine z_istore_n C dX6_logsOf_48 rfl (by decide) rfl (lv' := [(2, .int r_9), (0, .ref (w.2.2 0)), (1, .int p1)]) ?_
      refine z_iload_n C 0 dX6_logsOf_49 rfl rfl ?_
      refine z_aload_n C 1 dX6_logsOf_50 rfl rfl ?_
      refine z_iconst C 2 dX6_logsOf_51 (by decide) ?_
      obtain ⟨r_12, σ_14, e_13, hf⟩ := bd_ hf
      refine z_calli C (rest := [.int r_9]) (av := (.ref (w.2.2 0) :: [.int 2])) (zPay.of q1805 q83) (fun H ls hH h2 => zInv_V C (As := [.int 2]) (rest := [.int r_9]) (ci := 6) (T := TX6) (N := 24) rfl (zSee.fix ly_m0) hH q1802 q1804 qs67 (Or.inl rfl) q1805 mh_X6 np_X6_sailsOf dX6_logsOf_52) (tX6_sailsOf l w e_13) (Nat.le_of_ble_eq_true rfl) (Nat.le_of_ble_eq_true rfl) ?_
      refine z_isub C dX6_logsOf_55 ?_
      obtain ⟨rfl, rfl⟩ := fin_ hf
      exact z_iret C rfl dX6_logsOf_56
  · replace hf := if_t c_1 hf
    refine z_aload_n C 0 dX6_logsOf_9 rfl rfl ?_
    refine z_bipush C 71 dX6_logsOf_10 (by decide) ?_
    obtain ⟨⟨⟩, σ_17, e_16, hf⟩ := bd_ hf
    refine z_callv C (rest := []) (av := (.ref (w.2.2 0) :: [.int 71])) (zPay.of q1809 q83) (fun H ls hH h2 => zInv_V C (As := [.int 71]) (rest := []) (ci := 6) (T := TX6) (N := 24) rfl (zSee.fix ly_m0) hH q1806 q1808 qs68 (Or.inl rfl) q1809 mh_X6 np_X6_ran dX6_logsOf_12) (tX6_ran l w e_16) (Nat.le_of_ble_eq_true rfl) (Nat.le_of_ble_eq_true rfl) ?_
    refine z_aload_n C 0 dX6_logsOf_15 rfl rfl ?_
    refine z_iload_n C 1 dX6_logsOf_16 rfl rfl ?_
    obtain ⟨r_18, σ_20, e_19, hf⟩ := bd_ hf
    refine z_calli C (rest := []) (av := (.ref (w.2.2 0) :: [.int p1])) (zPay.of q1813 q83) (fun H ls hH h2 => zInv_V C (As := [.int p1]) (rest := []) (ci := 6) (T := TX6) (N := 24) rfl (zSee.fix ly_m0) hH q1810 q1812 qs69 (Or.inl rfl) q1813 mh_X6 np_X6_steersOf dX6_logsOf_17) (tX6_steersOf l w e_19) (Nat.le_of_ble_eq_true rfl) (Nat.le_of_ble_eq_true rfl) ?_
    refine z_istore_n C dX6_logsOf_20 rfl (by decide) rfl (lv' := [(2, .int r_18), (0, .ref (w.2.2 0)), (1, .int p1)]) ?_
    refine z_iload_n C 0 dX6_logsOf_21 rfl rfl ?_
    refine z_aload_n C 1 dX6_logsOf_22 rfl rfl ?_
    refine z_iload_n C 2 dX6_logsOf_23 rfl rfl ?_
    obtain ⟨r_21, σ_23, e_22, hf⟩ := bd_ hf
    refine z_calli C (rest := [.int r_18]) (av := (.ref (w.2.2 0) :: [.int p1])) (zPay.of q1825 q83) (fun H ls hH h2 => zInv_V C (As := [.int p1]) (rest := [.int r_18]) (ci := 6) (T := TX6) (N := 24) rfl (zSee.fix ly_m0) hH q1822 q1824 qs72 (Or.inl rfl) q1825 mh_X6 np_X6_plainLogs dX6_logsOf_24) (tX6_plainLogs l w e_22) (Nat.le_of_ble_eq_true rfl) (Nat.le_of_ble_eq_true rfl) ?_
    refine z_isub C dX6_logsOf_27 ?_
    obtain ⟨rfl, rfl⟩ := fin_ hf
    exact z_iret C rfl dX6_logsOf_28
def fX6_trueDepth (σ : ZS) (p1 : Int32) : Option (Int32 × ZS) := bd (fX6_depthIn σ p1 (σ.1 1 (3 : Int32).toNatClampNeg)) (fun r_1 σ_3 => some (r_1, σ_3))
set_option maxHeartbeats 4000000 in
set_option maxRecDepth 100000 in
theorem tX6_trueDepth (l : Launch) (w : ZW) {σ σ' : ZS} {p1 : Int32} {r : Int32} (hf : fX6_trueDepth σ p1 = some (r, σ')) : zC l w zLm yX6_trueDepth (ws_ yX6_trueDepth cX6_trueDepth 2 (some .int)) 5 83 [.ref (w.2.2 0), .int p1] σ (.returned (some (.int r))) σ' := by
  refine zC.of (plainFor_of_name (by decide)) (Nat.le_of_ble_eq_true rfl) ?_
  intro p e s m args below meth c C hnm
  show Z p l e _ s m args below meth c _ w _ _ 2 σ 0 [(0, .ref (w.2.2 0)), (1, .int p1)] []
  unfold fX6_trueDepth at hf
  refine z_aload_n C 0 dX6_trueDepth_0 rfl rfl ?_
  refine z_iload_n C 1 dX6_trueDepth_1 rfl rfl ?_
  refine z_aload_n C 0 dX6_trueDepth_2 rfl rfl ?_
  refine z_getR C ly_m0 (Cn := RX6) (T := TX6) (N := 24) rfl in_X6 0 (by decide) q1404 (Or.inl rfl) rfl dX6_trueDepth_3 ?_
  refine z_iconst C 3 dX6_trueDepth_6 (by decide) ?_
  refine z_ialoadF C ly_m1 (by decide) dX6_trueDepth_7 ?_
  obtain ⟨r_1, σ_3, e_2, hf⟩ := bd_ hf
  refine z_calli C (rest := []) (av := (.ref (w.2.2 0) :: [.int p1, .int (σ.1 1 (3 : Int32).toNatClampNeg)])) (zPay.of q1609 q83) (fun H ls hH h2 => zInv_V C (As := [.int p1, .int (σ.1 1 (3 : Int32).toNatClampNeg)]) (rest := []) (ci := 6) (T := TX6) (N := 24) rfl (zSee.fix ly_m0) hH q1606 q1608 qs49 (Or.inl rfl) q1609 mh_X6 np_X6_depthIn dX6_trueDepth_8) (tX6_depthIn l w e_2) (Nat.le_of_ble_eq_true rfl) (Nat.le_of_ble_eq_true rfl) ?_
  obtain ⟨rfl, rfl⟩ := fin_ hf
  exact z_iret C rfl dX6_trueDepth_11
def fX6_believes (σ : ZS) (p1 : Int32) (p2 : Int32) : Option (Int32 × ZS) := bd (fX6_shown σ p2 (σ.1 1 (4 : Int32).toNatClampNeg)) (fun r_1 σ_3 => bo (fX6_shipIs σ_3 p1 1) (fun r_4 => bo (fX6_shipIs σ_3 p1 0) (fun r_6 => if r_6 = 1 then (some (r_1 + (r_4 - r_4 / 3 * 3), σ_3)) else (if r_6 = 2 then (bd (fX6_trueDepth σ_3 p2) (fun r_10 σ_12 => some (r_10, σ_12))) else (if r_6 = 3 then (bd (fX6_trueDepth σ_3 p2) (fun r_14 σ_16 => some (fJ3_min r_1 r_14, σ_16))) else (if r_6 = 4 then (some ((r_1 + (r_4 - r_4 / 3 * 3)) - 1, σ_3)) else (if r_6 = 5 then (bd (fX6_trueDepth σ_3 p2) (fun r_19 σ_21 => some (fJ3_max r_19 r_1, σ_21))) else (if r_6 = 6 then (bd (fX6_shown σ_3 p2 (2 * (σ_3.1 1 (4 : Int32).toNatClampNeg))) (fun r_23 σ_25 => bd (fX6_trueDepth σ_25 p2) (fun r_26 σ_28 => some (fJ3_min r_23 r_26, σ_28)))) else (gd (r_6.toInt < 1 ∨ 6 < r_6.toInt) (some (r_1, σ_3)))))))))))
set_option maxHeartbeats 4000000 in
set_option maxRecDepth 100000 in
theorem tX6_believes (l : Launch) (w : ZW) {σ σ' : ZS} {p1 : Int32} {p2 : Int32} {r : Int32} (hf : fX6_believes σ p1 p2 = some (r, σ')) : zC l w zLm yX6_believes (ws_ yX6_believes cX6_believes 5 (some .int)) 6 97 [.ref (w.2.2 0), .int p1, .int p2] σ (.returned (some (.int r))) σ' := by
  refine zC.of (plainFor_of_name (by decide)) (Nat.le_of_ble_eq_true rfl) ?_
  intro p e s m args below meth c C hnm
  show Z p l e _ s m args below meth c _ w _ _ 5 σ 0 [(0, .ref (w.2.2 0)), (1, .int p1), (2, .int p2)] []
  unfold fX6_believes at hf
  refine z_aload_n C 0 dX6_believes_0 rfl rfl ?_
  refine z_iload_n C 2 dX6_believes_1 rfl rfl ?_
  refine z_aload_n C 0 dX6_believes_2 rfl rfl ?_
  refine z_getR C ly_m0 (Cn := RX6) (T := TX6) (N := 24) rfl in_X6 0 (by decide) q1404 (Or.inl rfl) rfl dX6_believes_3 ?_
  refine z_iconst C 4 dX6_believes_6 (by decide) ?_
  refine z_ialoadF C ly_m1 (by decide) dX6_believes_7 ?_
  obtain ⟨r_1, σ_3, e_2, hf⟩ := bd_ hf
  refine z_calli C (rest := []) (av := (.ref (w.2.2 0) :: [.int p2, .int (σ.1 1 (4 : Int32).toNatClampNeg)])) (zPay.of q1617 q83) (fun H ls hH h2 => zInv_V C (As := [.int p2, .int (σ.1 1 (4 : Int32).toNatClampNeg)]) (rest := []) (ci := 6) (T := TX6) (N := 24) rfl (zSee.fix ly_m0) hH q1614 q1616 qs51 (Or.inl rfl) q1617 mh_X6 np_X6_shown dX6_believes_8) (tX6_shown l w e_2) (Nat.le_of_ble_eq_true rfl) (Nat.le_of_ble_eq_true rfl) ?_
  refine z_istore_n C dX6_believes_11 rfl (by decide) rfl (lv' := [(3, .int r_1), (0, .ref (w.2.2 0)), (1, .int p1), (2, .int p2)]) ?_
  refine z_aload_n C 1 dX6_believes_12 rfl rfl ?_
  refine z_iload_n C 2 dX6_believes_13 rfl rfl ?_
  refine z_iconst C 1 dX6_believes_14 (by decide) ?_
  obtain ⟨r_4, e_5, hf⟩ := bo_ hf
  refine z_calli C (rest := []) (av := (.ref (w.2.2 0) :: [.int p1, .int 1])) (zPay.of q1628 q83) (fun H ls hH h2 => zInv_V C (As := [.int p1, .int 1]) (rest := []) (ci := 6) (T := TX6) (N := 24) rfl (zSee.fix ly_m0) hH q1625 q1627 qs53 (Or.inl rfl) q1628 mh_X6 np_X6_shipIs dX6_believes_15) (tX6_shipIs l w e_5) (Nat.le_of_ble_eq_true rfl) (Nat.le_of_ble_eq_true rfl) ?_
  refine z_istore C dX6_believes_18 (by decide) rfl (lv' := [(4, .int r_4), (3, .int r_1), (0, .ref (w.2.2 0)), (1, .int p1), (2, .int p2)]) ?_
  refine z_aload_n C 2 dX6_believes_20 rfl rfl ?_
  refine z_iload_n C 3 dX6_believes_21 rfl rfl ?_
  refine z_iconst C 0 dX6_believes_22 (by decide) ?_
  obtain ⟨r_6, e_7, hf⟩ := bo_ hf
  refine z_calli C (rest := []) (av := (.ref (w.2.2 0) :: [.int p1, .int 0])) (zPay.of q1628 q83) (fun H ls hH h2 => zInv_V C (As := [.int p1, .int 0]) (rest := []) (ci := 6) (T := TX6) (N := 24) rfl (zSee.fix ly_m0) hH q1625 q1627 qs53 (Or.inl rfl) q1628 mh_X6 np_X6_shipIs dX6_believes_23) (tX6_shipIs l w e_7) (Nat.le_of_ble_eq_true rfl) (Nat.le_of_ble_eq_true rfl) ?_
  by_cases c_8 : r_6 = 1
  · replace hf := if_t c_8 hf
    refine z_top c_8.symm ?_
    refine z_tableIn (off := 38) C 64 dX6_believes_26 (by decide) (by decide) (by decide) (by decide) ?_
    refine z_iload_n C 1 dX6_believes_64 rfl rfl ?_
    refine z_iload C 0 dX6_believes_65 rfl ?_
    refine z_iconst C 3 dX6_believes_67 (by decide) ?_
    refine z_irem C dX6_believes_68 (by decide) ?_
    refine z_iadd C dX6_believes_69 ?_
    obtain ⟨rfl, rfl⟩ := fin_ hf
    exact z_iret C rfl dX6_believes_70
  replace hf := if_f c_8 hf
  by_cases c_9 : r_6 = 2
  · replace hf := if_t c_9 hf
    refine z_top c_9.symm ?_
    refine z_tableIn (off := 54) C 80 dX6_believes_26 (by decide) (by decide) (by decide) (by decide) ?_
    refine z_aload_n C 2 dX6_believes_80 rfl rfl ?_
    refine z_iload_n C 4 dX6_believes_81 rfl rfl ?_
    obtain ⟨r_10, σ_12, e_11, hf⟩ := bd_ hf
    refine z_calli C (rest := []) (av := (.ref (w.2.2 0) :: [.int p2])) (zPay.of q1605 q83) (fun H ls hH h2 => zInv_V C (As := [.int p2]) (rest := []) (ci := 6) (T := TX6) (N := 24) rfl (zSee.fix ly_m0) hH q1602 q1604 qs48 (Or.inl rfl) q1605 mh_X6 np_X6_trueDepth dX6_believes_82) (tX6_trueDepth l w e_11) (Nat.le_of_ble_eq_true rfl) (Nat.le_of_ble_eq_true rfl) ?_
    obtain ⟨rfl, rfl⟩ := fin_ hf
    exact z_iret C rfl dX6_believes_85
  replace hf := if_f c_9 hf
  by_cases c_13 : r_6 = 3
  · replace hf := if_t c_13 hf
    refine z_top c_13.symm ?_
    refine z_tableIn (off := 70) C 96 dX6_believes_26 (by decide) (by decide) (by decide) (by decide) ?_
    refine z_iload_n C 1 dX6_believes_96 rfl rfl ?_
    refine z_aload_n C 2 dX6_believes_97 rfl rfl ?_
    refine z_iload_n C 4 dX6_believes_98 rfl rfl ?_
    obtain ⟨r_14, σ_16, e_15, hf⟩ := bd_ hf
    refine z_calli C (rest := [.int r_1]) (av := (.ref (w.2.2 0) :: [.int p2])) (zPay.of q1605 q83) (fun H ls hH h2 => zInv_V C (As := [.int p2]) (rest := [.int r_1]) (ci := 6) (T := TX6) (N := 24) rfl (zSee.fix ly_m0) hH q1602 q1604 qs48 (Or.inl rfl) q1605 mh_X6 np_X6_trueDepth dX6_believes_99) (tX6_trueDepth l w e_15) (Nat.le_of_ble_eq_true rfl) (Nat.le_of_ble_eq_true rfl) ?_
    refine z_calli C (rest := []) (av := [.int r_1, .int r_14]) (zPay.of q424 q84) (fun H ls hH h2 => zInv_S C (As := [.int r_1, .int r_14]) (rest := []) q1579 q423 q84 (Or.inl rfl) q424 mh_J3 np_J3_min dX6_believes_102) (tJ3_min l w zLm σ_16 r_1 r_14) (Nat.le_of_ble_eq_true rfl) (Nat.le_of_ble_eq_true rfl) ?_
    obtain ⟨rfl, rfl⟩ := fin_ hf
    exact z_iret C rfl dX6_believes_105
  replace hf := if_f c_13 hf
  by_cases c_17 : r_6 = 4
  · replace hf := if_t c_17 hf
    refine z_top c_17.symm ?_
    refine z_tableIn (off := 45) C 71 dX6_believes_26 (by decide) (by decide) (by decide) (by decide) ?_
    refine z_iload_n C 1 dX6_believes_71 rfl rfl ?_
    refine z_iload C 0 dX6_believes_72 rfl ?_
    refine z_iconst C 3 dX6_believes_74 (by decide) ?_
    refine z_irem C dX6_believes_75 (by decide) ?_
    refine z_iadd C dX6_believes_76 ?_
    refine z_iconst C 1 dX6_believes_77 (by decide) ?_
    refine z_isub C dX6_believes_78 ?_
    obtain ⟨rfl, rfl⟩ := fin_ hf
    exact z_iret C rfl dX6_believes_79
  replace hf := if_f c_17 hf
  by_cases c_18 : r_6 = 5
  · replace hf := if_t c_18 hf
    refine z_top c_18.symm ?_
    refine z_tableIn (off := 60) C 86 dX6_believes_26 (by decide) (by decide) (by decide) (by decide) ?_
    refine z_aload_n C 2 dX6_believes_86 rfl rfl ?_
    refine z_iload_n C 4 dX6_believes_87 rfl rfl ?_
    obtain ⟨r_19, σ_21, e_20, hf⟩ := bd_ hf
    refine z_calli C (rest := []) (av := (.ref (w.2.2 0) :: [.int p2])) (zPay.of q1605 q83) (fun H ls hH h2 => zInv_V C (As := [.int p2]) (rest := []) (ci := 6) (T := TX6) (N := 24) rfl (zSee.fix ly_m0) hH q1602 q1604 qs48 (Or.inl rfl) q1605 mh_X6 np_X6_trueDepth dX6_believes_88) (tX6_trueDepth l w e_20) (Nat.le_of_ble_eq_true rfl) (Nat.le_of_ble_eq_true rfl) ?_
    refine z_iload_n C 1 dX6_believes_91 rfl rfl ?_
    refine z_calli C (rest := []) (av := [.int r_19, .int r_1]) (zPay.of q390 q84) (fun H ls hH h2 => zInv_S C (As := [.int r_19, .int r_1]) (rest := []) q1580 q389 q84 (Or.inl rfl) q390 mh_J3 np_J3_max dX6_believes_92) (tJ3_max l w zLm σ_21 r_19 r_1) (Nat.le_of_ble_eq_true rfl) (Nat.le_of_ble_eq_true rfl) ?_
    obtain ⟨rfl, rfl⟩ := fin_ hf
    exact z_iret C rfl dX6_believes_95
  replace hf := if_f c_18 hf
  by_cases c_22 : r_6 = 6
  · replace hf := if_t c_22 hf
    refine z_top c_22.symm ?_
    refine z_tableIn (off := 80) C 106 dX6_believes_26 (by decide) (by decide) (by decide) (by decide) ?_
    refine z_aload_n C 2 dX6_believes_106 rfl rfl ?_
    refine z_iload_n C 4 dX6_believes_107 rfl rfl ?_
    refine z_iconst C 2 dX6_believes_108 (by decide) ?_
    refine z_aload_n C 2 dX6_believes_109 rfl rfl ?_
    refine z_getR C ly_m0 (Cn := RX6) (T := TX6) (N := 24) rfl in_X6 0 (by decide) q1404 (Or.inl rfl) rfl dX6_believes_110 ?_
    refine z_iconst C 4 dX6_believes_113 (by decide) ?_
    refine z_ialoadF C ly_m1 (by decide) dX6_believes_114 ?_
    refine z_imul C dX6_believes_115 ?_
    obtain ⟨r_23, σ_25, e_24, hf⟩ := bd_ hf
    refine z_calli C (rest := []) (av := (.ref (w.2.2 0) :: [.int p2, .int (2 * (σ_3.1 1 (4 : Int32).toNatClampNeg))])) (zPay.of q1617 q83) (fun H ls hH h2 => zInv_V C (As := [.int p2, .int (2 * (σ_3.1 1 (4 : Int32).toNatClampNeg))]) (rest := []) (ci := 6) (T := TX6) (N := 24) rfl (zSee.fix ly_m0) hH q1614 q1616 qs51 (Or.inl rfl) q1617 mh_X6 np_X6_shown dX6_believes_116) (tX6_shown l w e_24) (Nat.le_of_ble_eq_true rfl) (Nat.le_of_ble_eq_true rfl) ?_
    refine z_aload_n C 2 dX6_believes_119 rfl rfl ?_
    refine z_iload_n C 4 dX6_believes_120 rfl rfl ?_
    obtain ⟨r_26, σ_28, e_27, hf⟩ := bd_ hf
    refine z_calli C (rest := [.int r_23]) (av := (.ref (w.2.2 0) :: [.int p2])) (zPay.of q1605 q83) (fun H ls hH h2 => zInv_V C (As := [.int p2]) (rest := [.int r_23]) (ci := 6) (T := TX6) (N := 24) rfl (zSee.fix ly_m0) hH q1602 q1604 qs48 (Or.inl rfl) q1605 mh_X6 np_X6_trueDepth dX6_believes_121) (tX6_trueDepth l w e_27) (Nat.le_of_ble_eq_true rfl) (Nat.le_of_ble_eq_true rfl) ?_
    refine z_calli C (rest := []) (av := [.int r_23, .int r_26]) (zPay.of q424 q84) (fun H ls hH h2 => zInv_S C (As := [.int r_23, .int r_26]) (rest := []) q1579 q423 q84 (Or.inl rfl) q424 mh_J3 np_J3_min dX6_believes_124) (tJ3_min l w zLm σ_28 r_23 r_26) (Nat.le_of_ble_eq_true rfl) (Nat.le_of_ble_eq_true rfl) ?_
    obtain ⟨rfl, rfl⟩ := fin_ hf
    exact z_iret C rfl dX6_believes_127
  replace hf := if_f c_22 hf
  obtain ⟨g_29, hf⟩ := gd_ hf
  refine z_tableOut C 128 dX6_believes_26 g_29 (by decide) ?_
  refine z_iload_n C 1 dX6_believes_128 rfl rfl ?_
  obtain ⟨rfl, rfl⟩ := fin_ hf
  exact z_iret C rfl dX6_believes_129
def fX6_sails (σ : ZS) (p1 : Int32) : Option (Unit × ZS) := bo (fX6_shipIs σ p1 3) (fun r_1 => bd (fX6_believes σ p1 (r_1 - 1)) (fun r_3 σ_5 => bo (fX6_shipIs σ_5 p1 2) (fun r_6 => bd (if r_3 < r_6 then (bo (fX6_shipIs σ_5 p1 2) (fun r_11 => bo (fX6_shipIs σ_5 p1 1) (fun r_13 => bd (fX6_given σ_5 1 r_11 r_13 (σ_5.1 1 (0 : Int32).toNatClampNeg)) (fun r_15 σ_17 => if r_15 = 1 then (if (fX6_isCell σ_17 (r_1 + 1)) = 0 then (some ((), σ_17)) else (nm (r_1 + 1) (fun (v_20 : Int32) => gd (¬ ((fX6_shipAt p1 3) < 0 ∨ 242 ≤ (fX6_shipAt p1 3).toNatClampNeg)) (some ((), sI σ_17 1 ((fX6_shipAt p1 3).toNatClampNeg) v_20))))) else (some ((), σ_17)))))) else (nm (r_1 - 1) (fun (v_22 : Int32) => gd (¬ ((fX6_shipAt p1 3) < 0 ∨ 242 ≤ (fX6_shipAt p1 3).toNatClampNeg)) (bd (fX6_trueDepth (sI σ_5 1 ((fX6_shipAt p1 3).toNatClampNeg) v_22) (r_1 - 1)) (fun r_24 σ_26 => bo (fX6_shipIs σ_26 p1 2) (fun r_27 => nm (if r_27 ≤ r_24 then 0 else 1) (fun (j_29 : Int32) => gd (¬ ((fX6_shipAt p1 4) < 0 ∨ 242 ≤ (fX6_shipAt p1 4).toNatClampNeg)) (some ((), sI σ_26 1 ((fX6_shipAt p1 4).toNatClampNeg) j_29))))))))) (fun (_ : Unit) σ_8 => some ((), σ_8)))))
set_option maxHeartbeats 4000000 in
set_option maxRecDepth 100000 in
theorem tX6_sails (l : Launch) (w : ZW) {σ σ' : ZS} {p1 : Int32} (hf : fX6_sails σ p1 = some ((), σ')) : zC l w zLm yX6_sails (ws_ yX6_sails cX6_sails 3 none) 7 113 [.ref (w.2.2 0), .int p1] σ (.returned none) σ' := by
  refine zC.of (plainFor_of_name (by decide)) (Nat.le_of_ble_eq_true rfl) ?_
  intro p e s m args below meth c C hnm
  show Z p l e _ s m args below meth c _ w _ _ 3 σ 0 [(0, .ref (w.2.2 0)), (1, .int p1)] []
  unfold fX6_sails at hf
  refine z_aload_n C 0 dX6_sails_0 rfl rfl ?_
  refine z_iload_n C 1 dX6_sails_1 rfl rfl ?_
  refine z_iconst C 3 dX6_sails_2 (by decide) ?_
  obtain ⟨r_1, e_2, hf⟩ := bo_ hf
  refine z_calli C (rest := []) (av := (.ref (w.2.2 0) :: [.int p1, .int 3])) (zPay.of q1628 q83) (fun H ls hH h2 => zInv_V C (As := [.int p1, .int 3]) (rest := []) (ci := 6) (T := TX6) (N := 24) rfl (zSee.fix ly_m0) hH q1625 q1627 qs53 (Or.inl rfl) q1628 mh_X6 np_X6_shipIs dX6_sails_3) (tX6_shipIs l w e_2) (Nat.le_of_ble_eq_true rfl) (Nat.le_of_ble_eq_true rfl) ?_
  refine z_istore_n C dX6_sails_6 rfl (by decide) rfl (lv' := [(2, .int r_1), (0, .ref (w.2.2 0)), (1, .int p1)]) ?_
  refine z_aload_n C 1 dX6_sails_7 rfl rfl ?_
  refine z_iload_n C 2 dX6_sails_8 rfl rfl ?_
  refine z_iload_n C 0 dX6_sails_9 rfl rfl ?_
  refine z_iconst C 1 dX6_sails_10 (by decide) ?_
  refine z_isub C dX6_sails_11 ?_
  obtain ⟨r_3, σ_5, e_4, hf⟩ := bd_ hf
  refine z_calli C (rest := []) (av := (.ref (w.2.2 0) :: [.int p1, .int (r_1 - 1)])) (zPay.of q1668 q83) (fun H ls hH h2 => zInv_V C (As := [.int p1, .int (r_1 - 1)]) (rest := []) (ci := 6) (T := TX6) (N := 24) rfl (zSee.fix ly_m0) hH q1665 q1667 qs56 (Or.inl rfl) q1668 mh_X6 np_X6_believes dX6_sails_12) (tX6_believes l w e_4) (Nat.le_of_ble_eq_true rfl) (Nat.le_of_ble_eq_true rfl) ?_
  refine z_aload_n C 1 dX6_sails_15 rfl rfl ?_
  refine z_iload_n C 2 dX6_sails_16 rfl rfl ?_
  refine z_iconst C 2 dX6_sails_17 (by decide) ?_
  obtain ⟨r_6, e_7, hf⟩ := bo_ hf
  refine z_calli C (rest := [.int r_3]) (av := (.ref (w.2.2 0) :: [.int p1, .int 2])) (zPay.of q1628 q83) (fun H ls hH h2 => zInv_V C (As := [.int p1, .int 2]) (rest := [.int r_3]) (ci := 6) (T := TX6) (N := 24) rfl (zSee.fix ly_m0) hH q1625 q1627 qs53 (Or.inl rfl) q1628 mh_X6 np_X6_shipIs dX6_sails_18) (tX6_shipIs l w e_7) (Nat.le_of_ble_eq_true rfl) (Nat.le_of_ble_eq_true rfl) ?_
  obtain ⟨⟨⟩, σ_8, e_9, hf⟩ := bd_ hf
  have hje_9 : Z p l e (zRm 7 113 σ) s m args below meth c (zQ below w zLm σ (.returned none) σ' args s) w zLm (zA w zLm σ) 3 σ_8 121 [(0, .ref (w.2.2 0)), (1, .int p1), (2, .int r_1)] [] := by
    obtain ⟨-, rfl⟩ := fin_ hf
    exact z_vret C dX6_sails_121
  replace hf := e_9
  refine z_icmp_lt C 71 dX6_sails_21 (by decide) (fun c_10 => ?_) (fun c_10 => ?_)
  · replace hf := if_t c_10 hf
    refine z_aload_n C 1 dX6_sails_71 rfl rfl ?_
    refine z_iconst C 1 dX6_sails_72 (by decide) ?_
    refine z_aload_n C 1 dX6_sails_73 rfl rfl ?_
    refine z_iload_n C 2 dX6_sails_74 rfl rfl ?_
    refine z_iconst C 2 dX6_sails_75 (by decide) ?_
    obtain ⟨r_11, e_12, hf⟩ := bo_ hf
    refine z_calli C (rest := [.int 1, .ref (w.2.2 0)]) (av := (.ref (w.2.2 0) :: [.int p1, .int 2])) (zPay.of q1628 q83) (fun H ls hH h2 => zInv_V C (As := [.int p1, .int 2]) (rest := [.int 1, .ref (w.2.2 0)]) (ci := 6) (T := TX6) (N := 24) rfl (zSee.fix ly_m0) hH q1625 q1627 qs53 (Or.inl rfl) q1628 mh_X6 np_X6_shipIs dX6_sails_76) (tX6_shipIs l w e_12) (Nat.le_of_ble_eq_true rfl) (Nat.le_of_ble_eq_true rfl) ?_
    refine z_aload_n C 1 dX6_sails_79 rfl rfl ?_
    refine z_iload_n C 2 dX6_sails_80 rfl rfl ?_
    refine z_iconst C 1 dX6_sails_81 (by decide) ?_
    obtain ⟨r_13, e_14, hf⟩ := bo_ hf
    refine z_calli C (rest := [.int r_11, .int 1, .ref (w.2.2 0)]) (av := (.ref (w.2.2 0) :: [.int p1, .int 1])) (zPay.of q1628 q83) (fun H ls hH h2 => zInv_V C (As := [.int p1, .int 1]) (rest := [.int r_11, .int 1, .ref (w.2.2 0)]) (ci := 6) (T := TX6) (N := 24) rfl (zSee.fix ly_m0) hH q1625 q1627 qs53 (Or.inl rfl) q1628 mh_X6 np_X6_shipIs dX6_sails_82) (tX6_shipIs l w e_14) (Nat.le_of_ble_eq_true rfl) (Nat.le_of_ble_eq_true rfl) ?_
    refine z_aload_n C 1 dX6_sails_85 rfl rfl ?_
    refine z_getR C ly_m0 (Cn := RX6) (T := TX6) (N := 24) rfl in_X6 0 (by decide) q1404 (Or.inl rfl) rfl dX6_sails_86 ?_
    refine z_iconst C 0 dX6_sails_89 (by decide) ?_
    refine z_ialoadF C ly_m1 (by decide) dX6_sails_90 ?_
    obtain ⟨r_15, σ_17, e_16, hf⟩ := bd_ hf
    refine z_calli C (rest := []) (av := (.ref (w.2.2 0) :: [.int 1, .int r_11, .int r_13, .int (σ_5.1 1 (0 : Int32).toNatClampNeg)])) (zPay.of q1564 q83) (fun H ls hH h2 => zInv_V C (As := [.int 1, .int r_11, .int r_13, .int (σ_5.1 1 (0 : Int32).toNatClampNeg)]) (rest := []) (ci := 6) (T := TX6) (N := 24) rfl (zSee.fix ly_m0) hH q1561 q1563 qs43 (Or.inl rfl) q1564 mh_X6 np_X6_given dX6_sails_91) (tX6_given l w e_16) (Nat.le_of_ble_eq_true rfl) (Nat.le_of_ble_eq_true rfl) ?_
    refine z_iconst C 1 dX6_sails_94 (by decide) ?_
    refine z_icmp_ne C 121 dX6_sails_95 (by decide) (fun c_18 => ?_) (fun c_18 => ?_)
    · replace hf := if_f c_18 hf
      obtain ⟨-, rfl⟩ := fin_ hf
      exact z_lv [1, 2, 0] rfl hje_9
    · replace hf := if_t c_18 hf
      refine z_aload_n C 1 dX6_sails_98 rfl rfl ?_
      refine z_iload_n C 0 dX6_sails_99 rfl rfl ?_
      refine z_iconst C 1 dX6_sails_100 (by decide) ?_
      refine z_iadd C dX6_sails_101 ?_
      refine z_calli C (rest := []) (av := (.ref (w.2.2 0) :: [.int (r_1 + 1)])) (zPay.of q1593 q83) (fun H ls hH h2 => zInv_V C (As := [.int (r_1 + 1)]) (rest := []) (ci := 6) (T := TX6) (N := 24) rfl (zSee.fix ly_m0) hH q1590 q1592 qs46 (Or.inl rfl) q1593 mh_X6 np_X6_isCell dX6_sails_102) (tX6_isCell l w σ_17 (r_1 + 1)) (Nat.le_of_ble_eq_true rfl) (Nat.le_of_ble_eq_true rfl) ?_
      refine z_if_eq C 121 dX6_sails_105 (by decide) (fun c_19 => ?_) (fun c_19 => ?_)
      · replace hf := if_t c_19 hf
        obtain ⟨-, rfl⟩ := fin_ hf
        exact z_lv [1, 2, 0] rfl hje_9
      · replace hf := if_f c_19 hf
        refine z_aload_n C 1 dX6_sails_108 rfl rfl ?_
        refine z_getR C ly_m0 (Cn := RX6) (T := TX6) (N := 24) rfl in_X6 0 (by decide) q1404 (Or.inl rfl) rfl dX6_sails_109 ?_
        refine z_iload_n C 2 dX6_sails_112 rfl rfl ?_
        refine z_iconst C 3 dX6_sails_113 (by decide) ?_
        refine z_calli C (rest := [.ref (w.2.2 1)]) (av := [.int p1, .int 3]) (zPay.of q1631 q83) (fun H ls hH h2 => zInv_S C (As := [.int p1, .int 3]) (rest := [.ref (w.2.2 1)]) q1629 q1630 q83 (Or.inl rfl) q1631 mh_X6 np_X6_shipAt dX6_sails_114) (tX6_shipAt l w zLm σ_17 p1 3) (Nat.le_of_ble_eq_true rfl) (Nat.le_of_ble_eq_true rfl) ?_
        refine z_iload_n C 0 dX6_sails_117 rfl rfl ?_
        refine z_iconst C 1 dX6_sails_118 (by decide) ?_
        refine z_iadd C dX6_sails_119 ?_
        obtain ⟨v_20, ev_20, hf⟩ := nmo_ hf
        refine z_top ev_20 ?_
        obtain ⟨g_21, hf⟩ := gd_ hf
        refine z_iastore C ly_m1 g_21 dX6_sails_120 ?_
        obtain ⟨-, rfl⟩ := fin_ hf
        exact z_lv [1, 2, 0] rfl hje_9
  · replace hf := if_f c_10 hf
    refine z_aload_n C 1 dX6_sails_24 rfl rfl ?_
    refine z_getR C ly_m0 (Cn := RX6) (T := TX6) (N := 24) rfl in_X6 0 (by decide) q1404 (Or.inl rfl) rfl dX6_sails_25 ?_
    refine z_iload_n C 2 dX6_sails_28 rfl rfl ?_
    refine z_iconst C 3 dX6_sails_29 (by decide) ?_
    refine z_calli C (rest := [.ref (w.2.2 1)]) (av := [.int p1, .int 3]) (zPay.of q1631 q83) (fun H ls hH h2 => zInv_S C (As := [.int p1, .int 3]) (rest := [.ref (w.2.2 1)]) q1629 q1630 q83 (Or.inl rfl) q1631 mh_X6 np_X6_shipAt dX6_sails_30) (tX6_shipAt l w zLm σ_5 p1 3) (Nat.le_of_ble_eq_true rfl) (Nat.le_of_ble_eq_true rfl) ?_
    refine z_iload_n C 0 dX6_sails_33 rfl rfl ?_
    refine z_iconst C 1 dX6_sails_34 (by decide) ?_
    refine z_isub C dX6_sails_35 ?_
    obtain ⟨v_22, ev_22, hf⟩ := nmo_ hf
    refine z_top ev_22 ?_
    obtain ⟨g_23, hf⟩ := gd_ hf
    refine z_iastore C ly_m1 g_23 dX6_sails_36 ?_
    refine z_aload_n C 1 dX6_sails_37 rfl rfl ?_
    refine z_getR C ly_m0 (Cn := RX6) (T := TX6) (N := 24) rfl in_X6 0 (by decide) q1404 (Or.inl rfl) rfl dX6_sails_38 ?_
    refine z_iload_n C 2 dX6_sails_41 rfl rfl ?_
    refine z_iconst C 4 dX6_sails_42 (by decide) ?_
    refine z_calli C (rest := [.ref (w.2.2 1)]) (av := [.int p1, .int 4]) (zPay.of q1631 q83) (fun H ls hH h2 => zInv_S C (As := [.int p1, .int 4]) (rest := [.ref (w.2.2 1)]) q1629 q1630 q83 (Or.inl rfl) q1631 mh_X6 np_X6_shipAt dX6_sails_43) (tX6_shipAt l w zLm (sI σ_5 1 ((fX6_shipAt p1 3).toNatClampNeg) v_22) p1 4) (Nat.le_of_ble_eq_true rfl) (Nat.le_of_ble_eq_true rfl) ?_
    refine z_aload_n C 1 dX6_sails_46 rfl rfl ?_
    refine z_iload_n C 0 dX6_sails_47 rfl rfl ?_
    refine z_iconst C 1 dX6_sails_48 (by decide) ?_
    refine z_isub C dX6_sails_49 ?_
    obtain ⟨r_24, σ_26, e_25, hf⟩ := bd_ hf
    refine z_calli C (rest := [.int (fX6_shipAt p1 4), .ref (w.2.2 1)]) (av := (.ref (w.2.2 0) :: [.int (r_1 - 1)])) (zPay.of q1605 q83) (fun H ls hH h2 => zInv_V C (As := [.int (r_1 - 1)]) (rest := [.int (fX6_shipAt p1 4), .ref (w.2.2 1)]) (ci := 6) (T := TX6) (N := 24) rfl (zSee.fix ly_m0) hH q1602 q1604 qs48 (Or.inl rfl) q1605 mh_X6 np_X6_trueDepth dX6_sails_50) (tX6_trueDepth l w e_25) (Nat.le_of_ble_eq_true rfl) (Nat.le_of_ble_eq_true rfl) ?_
    refine z_aload_n C 1 dX6_sails_53 rfl rfl ?_
    refine z_iload_n C 2 dX6_sails_54 rfl rfl ?_
    refine z_iconst C 2 dX6_sails_55 (by decide) ?_
    obtain ⟨r_27, e_28, hf⟩ := bo_ hf
    refine z_calli C (rest := [.int r_24, .int (fX6_shipAt p1 4), .ref (w.2.2 1)]) (av := (.ref (w.2.2 0) :: [.int p1, .int 2])) (zPay.of q1628 q83) (fun H ls hH h2 => zInv_V C (As := [.int p1, .int 2]) (rest := [.int r_24, .int (fX6_shipAt p1 4), .ref (w.2.2 1)]) (ci := 6) (T := TX6) (N := 24) rfl (zSee.fix ly_m0) hH q1625 q1627 qs53 (Or.inl rfl) q1628 mh_X6 np_X6_shipIs dX6_sails_56) (tX6_shipIs l w e_28) (Nat.le_of_ble_eq_true rfl) (Nat.le_of_ble_eq_true rfl) ?_
    obtain ⟨j_29, ej_29, hf⟩ := nmo_ hf
    have hj_29 : j_29 = 0 ∨ j_29 = 1 := by rw [ej_29]; (repeat' split) <;> first | exact Or.inl rfl | exact Or.inr rfl
    have hjj_29 : Z p l e (zRm 7 113 σ) s m args below meth c (zQ below w zLm σ (.returned none) σ' args s) w zLm (zA w zLm σ) 3 σ_26 67 [(0, .ref (w.2.2 0)), (1, .int p1), (2, .int r_1)] [.int j_29, .int (fX6_shipAt p1 4), .ref (w.2.2 1)] := by
      obtain ⟨g_30, hf⟩ := gd_ hf
      refine z_iastore C ly_m1 g_30 dX6_sails_67 ?_
      refine z_goto C 121 dX6_sails_68 (by decide) ?_
      obtain ⟨-, rfl⟩ := fin_ hf
      exact hje_9
    replace hf := ej_29
    refine z_icmp_ge C 66 dX6_sails_59 (by decide) (fun c_31 => ?_) (fun c_31 => ?_)
    · replace hf := ifp_t c_31 hf
      refine z_iconst C 0 dX6_sails_66 (by decide) ?_
      subst hf
      exact z_lv [1, 2, 0] rfl hjj_29
    · replace hf := ifp_f c_31 hf
      refine z_iconst C 1 dX6_sails_62 (by decide) ?_
      refine z_goto C 67 dX6_sails_63 (by decide) ?_
      subst hf
      exact z_lv [1, 2, 0] rfl hjj_29
def fX6_falseBy_L4 (y1 : Int32) : Nat → Int32 → Int32 → ZS → Option ((Int32 × Int32) × ZS)
  | 0, _, _, _ => none
  | n + 1, y2, y3, σ => if (σ.1 1 (1 : Int32).toNatClampNeg) ≤ y3 then (some ((y2, y3), σ)) else (bd (fX6_depthIn σ y3 ((σ.1 1 (3 : Int32).toNatClampNeg) - y1)) (fun r_2 σ_4 => bd (fX6_trueDepth σ_4 y3) (fun r_5 σ_7 => nm (if r_2 = r_5 then 0 else 1) (fun (j_8 : Int32) => nm (y2 + j_8) (fun (x2_9 : Int32) => nm (y3 + 1) (fun (x3_10 : Int32) => fX6_falseBy_L4 y1 n x2_9 x3_10 σ_7))))))
def fX6_falseBy (σ : ZS) (p1 : Int32) : Option (Int32 × ZS) := bd (fX6_falseBy_L4 p1 10000 0 0 σ) (fun uu14 σ_14 => some ((uu14.1), σ_14))
set_option maxHeartbeats 4000000 in
set_option maxRecDepth 100000 in
theorem lfX6_falseBy_L4 {p : Program} {l : Launch} {e : Env} {R : Room} {s : State} {m : MethodId} {args : Array Value} {below : List Frame} {meth : Method} {c : Code} {Q : State → Prop} {w : ZW} {A : Nat → Prop} {ret : Option FieldType} {hh : List (Nat × Nat × Nat × Nat)} (C : zCx p s m args meth c w zLm A 4 cX6_falseBy RX6 ret hh) (hfr : 6 ≤ R.frames) (hlo : 98 ≤ R.locals) (y1 : Int32) {z2 : Int32} {z3 : Int32} {σ' : ZS} (hk : Z p l e R s m args below meth c Q w zLm A 4 σ' 49 [(0, .ref (w.2.2 0)), (1, .int y1), (2, .int z2), (3, .int z3)] []) : ∀ (n : Nat) (y2 : Int32) (y3 : Int32) (σ : ZS), fX6_falseBy_L4 y1 n y2 y3 σ = some ((z2, z3), σ') → Z p l e R s m args below meth c Q w zLm A 4 σ 4 [(0, .ref (w.2.2 0)), (1, .int y1), (2, .int y2), (3, .int y3)] [] := by
  intro n
  induction n with
  | zero => intro y2 y3 σ hf; exact none_ hf
  | succ n ih =>
    intro y2 y3 σ hf
    rw [fX6_falseBy_L4] at hf
    refine z_iload_n C 3 dX6_falseBy_4 rfl rfl ?_
    refine z_aload_n C 0 dX6_falseBy_5 rfl rfl ?_
    refine z_getR C ly_m0 (Cn := RX6) (T := TX6) (N := 24) rfl in_X6 0 (by decide) q1404 (Or.inl rfl) rfl dX6_falseBy_6 ?_
    refine z_iconst C 1 dX6_falseBy_9 (by decide) ?_
    refine z_ialoadF C ly_m1 (by decide) dX6_falseBy_10 ?_
    refine z_icmp_ge C 49 dX6_falseBy_11 (by decide) (fun c_1 => ?_) (fun c_1 => ?_)
    · replace hf := if_t c_1 hf
      obtain ⟨hf1, rfl⟩ := fin_ hf
      simp only [Prod.mk.injEq] at hf1
      obtain ⟨rfl, rfl⟩ := hf1
      exact hk
    · replace hf := if_f c_1 hf
      refine z_iload_n C 2 dX6_falseBy_14 rfl rfl ?_
      refine z_aload_n C 0 dX6_falseBy_15 rfl rfl ?_
      refine z_iload_n C 3 dX6_falseBy_16 rfl rfl ?_
      refine z_aload_n C 0 dX6_falseBy_17 rfl rfl ?_
      refine z_getR C ly_m0 (Cn := RX6) (T := TX6) (N := 24) rfl in_X6 0 (by decide) q1404 (Or.inl rfl) rfl dX6_falseBy_18 ?_
      refine z_iconst C 3 dX6_falseBy_21 (by decide) ?_
      refine z_ialoadF C ly_m1 (by decide) dX6_falseBy_22 ?_
      refine z_iload_n C 1 dX6_falseBy_23 rfl rfl ?_
      refine z_isub C dX6_falseBy_24 ?_
      obtain ⟨r_2, σ_4, e_3, hf⟩ := bd_ hf
      refine z_calli C (rest := [.int y2]) (av := (.ref (w.2.2 0) :: [.int y3, .int ((σ.1 1 (3 : Int32).toNatClampNeg) - y1)])) (zPay.of q1609 q83) (fun H ls hH h2 => zInv_V C (As := [.int y3, .int ((σ.1 1 (3 : Int32).toNatClampNeg) - y1)]) (rest := [.int y2]) (ci := 6) (T := TX6) (N := 24) rfl (zSee.fix ly_m0) hH q1606 q1608 qs49 (Or.inl rfl) q1609 mh_X6 np_X6_depthIn dX6_falseBy_25) (tX6_depthIn l w e_3) (Nat.le_trans (Nat.le_of_ble_eq_true rfl) hfr) (Nat.le_trans (Nat.le_of_ble_eq_true rfl) hlo) ?_
      refine z_aload_n C 0 dX6_falseBy_28 rfl rfl ?_
      refine z_iload_n C 3 dX6_falseBy_29 rfl rfl ?_
      obtain ⟨r_5, σ_7, e_6, hf⟩ := bd_ hf
      refine z_calli C (rest := [.int r_2, .int y2]) (av := (.ref (w.2.2 0) :: [.int y3])) (zPay.of q1605 q83) (fun H ls hH h2 => zInv_V C (As := [.int y3]) (rest := [.int r_2, .int y2]) (ci := 6) (T := TX6) (N := 24) rfl (zSee.fix ly_m0) hH q1602 q1604 qs48 (Or.inl rfl) q1605 mh_X6 np_X6_trueDepth dX6_falseBy_30) (tX6_trueDepth l w e_6) (Nat.le_trans (Nat.le_of_ble_eq_true rfl) hfr) (Nat.le_trans (Nat.le_of_ble_eq_true rfl) hlo) ?_
      obtain ⟨j_8, ej_8, hf⟩ := nmo_ hf
      have hj_8 : j_8 = 0 ∨ j_8 = 1 := by rw [ej_8]; (repeat' split) <;> first | exact Or.inl rfl | exact Or.inr rfl
      have hjj_8 : Z p l e R s m args below meth c Q w zLm A 4 σ_7 41 [(0, .ref (w.2.2 0)), (1, .int y1), (2, .int y2), (3, .int y3)] [.int j_8, .int y2] := by
        refine z_iadd C dX6_falseBy_41 ?_
        obtain ⟨x2_9, ex2_9, hf⟩ := nmo_ hf
        refine z_top ex2_9 ?_
        refine z_istore_n C dX6_falseBy_42 rfl (by decide) rfl (lv' := [(2, .int x2_9), (0, .ref (w.2.2 0)), (1, .int y1), (3, .int y3)]) ?_
        obtain ⟨x3_10, ex3_10, hf⟩ := nmo_ hf
        refine z_iinc C x3_10 3 dX6_falseBy_43 rfl (by rw [ex3_10]; rfl) (by decide) rfl (lv' := [(3, .int x3_10), (2, .int x2_9), (0, .ref (w.2.2 0)), (1, .int y1)]) ?_
        refine z_goto C 4 dX6_falseBy_46 (by decide) ?_
        exact z_lv [2, 3, 1, 0] rfl (ih _ _ _ hf)
      replace hf := ej_8
      refine z_icmp_ne C 40 dX6_falseBy_33 (by decide) (fun c_11 => ?_) (fun c_11 => ?_)
      · replace hf := ifp_f c_11 hf
        refine z_iconst C 1 dX6_falseBy_40 (by decide) ?_
        subst hf
        exact hjj_8
      · replace hf := ifp_t c_11 hf
        refine z_iconst C 0 dX6_falseBy_36 (by decide) ?_
        refine z_goto C 41 dX6_falseBy_37 (by decide) ?_
        subst hf
        exact hjj_8
set_option maxHeartbeats 4000000 in
set_option maxRecDepth 100000 in
theorem tX6_falseBy (l : Launch) (w : ZW) {σ σ' : ZS} {p1 : Int32} {r : Int32} (hf : fX6_falseBy σ p1 = some (r, σ')) : zC l w zLm yX6_falseBy (ws_ yX6_falseBy cX6_falseBy 4 (some .int)) 6 98 [.ref (w.2.2 0), .int p1] σ (.returned (some (.int r))) σ' := by
  refine zC.of (plainFor_of_name (by decide)) (Nat.le_of_ble_eq_true rfl) ?_
  intro p e s m args below meth c C hnm
  show Z p l e _ s m args below meth c _ w _ _ 4 σ 0 [(0, .ref (w.2.2 0)), (1, .int p1)] []
  unfold fX6_falseBy at hf
  refine z_iconst C 0 dX6_falseBy_0 (by decide) ?_
  refine z_istore_n C dX6_falseBy_1 rfl (by decide) rfl (lv' := [(2, .int 0), (0, .ref (w.2.2 0)), (1, .int p1)]) ?_
  refine z_iconst C 0 dX6_falseBy_2 (by decide) ?_
  refine z_istore_n C dX6_falseBy_3 rfl (by decide) rfl (lv' := [(3, .int 0), (2, .int 0), (0, .ref (w.2.2 0)), (1, .int p1)]) ?_
  obtain ⟨⟨x2_12, x3_13⟩, σ_14, e_15, hf⟩ := bd_ hf
  try dsimp only at hf
  refine z_lv (lv' := [(0, .ref (w.2.2 0)), (1, .int p1), (2, .int 0), (3, .int 0)]) [2, 3, 1, 0] rfl ?_
  refine lfX6_falseBy_L4 C (Nat.le_of_ble_eq_true rfl) (Nat.le_of_ble_eq_true rfl) p1 ?_ _ _ _ _ e_15
  refine z_iload_n C 2 dX6_falseBy_49 rfl rfl ?_
  obtain ⟨rfl, rfl⟩ := fin_ hf
  exact z_iret C rfl dX6_falseBy_50
def fX6_which_L64 (y1 : Int32) (y2 : Int32) : Nat → Int32 → Int32 → Int32 → ZS → Option ((Int32 × Int32 × Int32) × ZS)
  | 0, _, _, _, _ => none
  | n + 1, y3, y4, y5, σ => if y5 < 0 then (some ((y3, y4, y5), σ)) else (bd (fX6_isShownSo σ y1 y5) (fun r_13 σ_15 => nm (if r_13 = 0 then 0 else 1) (fun (j_16 : Int32) => nm (y3 + j_16) (fun (x3_17 : Int32) => nm (if r_13 = 0 then y4 else y5) (fun (j_18 : Int32) => nm (y5 + (-1)) (fun (x5_19 : Int32) => fX6_which_L64 y1 y2 n x3_17 j_18 x5_19 σ_15))))))
def fX6_which (σ : ZS) (p1 : Int32) (p2 : Int32) : Option (Int32 × ZS) := if (fX6_isSheet p1) = 0 then (bd (fX6_finding σ (-1000000001)) (fun r_2 σ_4 => some (r_2, σ_4))) else (if (fX6_within p2 0 1) = 0 then (bd (fX6_finding σ (-1000000001)) (fun r_38 σ_40 => some (r_38, σ_40))) else (gd (¬ (p1 < 0 ∨ 4 ≤ p1.toNatClampNeg)) (if (σ.1 21 p1.toNatClampNeg) = 0 then (bd (fX6_finding σ (-1000000002)) (fun r_8 σ_10 => some (r_8, σ_10))) else (if (σ.1 22 p1.toNatClampNeg) = (σ.1 1 (1 : Int32).toNatClampNeg) then (bd (fX6_which_L64 p1 p2 10000 0 (-1) 99 σ) (fun uu25 σ_25 => bd (if p2 = 0 then (some ((uu25.1), σ_25)) else (if 0 ≤ (uu25.2.1) then (some ((uu25.2.1), σ_25)) else (bd (fX6_finding σ_25 (-1000000002)) (fun r_32 σ_34 => some (r_32, σ_34))))) (fun (j_27 : Int32) σ_28 => some (j_27, σ_28)))) else (bd (fX6_finding σ (-1000000002)) (fun r_35 σ_37 => some (r_35, σ_37)))))))
set_option maxHeartbeats 4000000 in
set_option maxRecDepth 100000 in
theorem lfX6_which_L64 {p : Program} {l : Launch} {e : Env} {R : Room} {s : State} {m : MethodId} {args : Array Value} {below : List Frame} {meth : Method} {c : Code} {Q : State → Prop} {w : ZW} {A : Nat → Prop} {ret : Option FieldType} {hh : List (Nat × Nat × Nat × Nat)} (C : zCx p s m args meth c w zLm A 7 cX6_which RX6 ret hh) (hfr : 7 ≤ R.frames) (hlo : 115 ≤ R.locals) (y1 : Int32) (y2 : Int32) {z3 : Int32} {z4 : Int32} {z5 : Int32} {σ' : ZS} (hk : Z p l e R s m args below meth c Q w zLm A 7 σ' 111 [(0, .ref (w.2.2 0)), (1, .int y1), (2, .int y2), (3, .int z3), (4, .int z4), (5, .int z5)] []) : ∀ (n : Nat) (y3 : Int32) (y4 : Int32) (y5 : Int32) (σ : ZS), fX6_which_L64 y1 y2 n y3 y4 y5 σ = some ((z3, z4, z5), σ') → Z p l e R s m args below meth c Q w zLm A 7 σ 64 [(0, .ref (w.2.2 0)), (1, .int y1), (2, .int y2), (3, .int y3), (4, .int y4), (5, .int y5)] [] := by
  intro n
  induction n with
  | zero => intro y3 y4 y5 σ hf; exact none_ hf
  | succ n ih =>
    intro y3 y4 y5 σ hf
    rw [fX6_which_L64] at hf
    refine z_iload C 5 dX6_which_64 rfl ?_
    refine z_if_lt C 111 dX6_which_66 (by decide) (fun c_12 => ?_) (fun c_12 => ?_)
    · replace hf := if_t c_12 hf
      obtain ⟨hf1, rfl⟩ := fin_ hf
      simp only [Prod.mk.injEq] at hf1
      obtain ⟨rfl, rfl, rfl⟩ := hf1
      exact hk
    · replace hf := if_f c_12 hf
      refine z_aload_n C 0 dX6_which_69 rfl rfl ?_
      refine z_iload_n C 1 dX6_which_70 rfl rfl ?_
      refine z_iload C 5 dX6_which_71 rfl ?_
      obtain ⟨r_13, σ_15, e_14, hf⟩ := bd_ hf
      refine z_calli C (rest := []) (av := (.ref (w.2.2 0) :: [.int y1, .int y5])) (zPay.of q1769 q83) (fun H ls hH h2 => zInv_V C (As := [.int y1, .int y5]) (rest := []) (ci := 6) (T := TX6) (N := 24) rfl (zSee.fix ly_m0) hH q1766 q1768 qs66 (Or.inl rfl) q1769 mh_X6 np_X6_isShownSo dX6_which_73) (tX6_isShownSo l w e_14) (Nat.le_trans (Nat.le_of_ble_eq_true rfl) hfr) (Nat.le_trans (Nat.le_of_ble_eq_true rfl) hlo) ?_
      refine z_istore C dX6_which_76 (by decide) rfl (lv' := [(6, .int r_13), (0, .ref (w.2.2 0)), (1, .int y1), (2, .int y2), (3, .int y3), (4, .int y4), (5, .int y5)]) ?_
      refine z_iload_n C 4 dX6_which_78 rfl rfl ?_
      refine z_iload C 0 dX6_which_79 rfl ?_
      obtain ⟨j_16, ej_16, hf⟩ := nmo_ hf
      have hj_16 : j_16 = 0 ∨ j_16 = 1 := by rw [ej_16]; (repeat' split) <;> first | exact Or.inl rfl | exact Or.inr rfl
      have hjj_16 : Z p l e R s m args below meth c Q w zLm A 7 σ_15 89 [(0, .ref (w.2.2 0)), (1, .int y1), (2, .int y2), (3, .int y3), (4, .int y4), (5, .int y5), (6, .int r_13)] [.int j_16, .int y3] := by
        refine z_iadd C dX6_which_89 ?_
        obtain ⟨x3_17, ex3_17, hf⟩ := nmo_ hf
        refine z_top ex3_17 ?_
        refine z_istore_n C dX6_which_90 rfl (by decide) rfl (lv' := [(3, .int x3_17), (0, .ref (w.2.2 0)), (1, .int y1), (2, .int y2), (4, .int y4), (5, .int y5), (6, .int r_13)]) ?_
        refine z_iload C 6 dX6_which_91 rfl ?_
        obtain ⟨j_18, ej_18, hf⟩ := nmo_ hf
        have hjj_18 : Z p l e R s m args below meth c Q w zLm A 7 σ_15 103 [(0, .ref (w.2.2 0)), (1, .int y1), (2, .int y2), (3, .int x3_17), (4, .int y4), (5, .int y5), (6, .int r_13)] [.int j_18] := by
          refine z_istore C dX6_which_103 (by decide) rfl (lv' := [(4, .int j_18), (0, .ref (w.2.2 0)), (1, .int y1), (2, .int y2), (3, .int x3_17), (5, .int y5), (6, .int r_13)]) ?_
          obtain ⟨x5_19, ex5_19, hf⟩ := nmo_ hf
          refine z_iinc C x5_19 5 dX6_which_105 rfl (by rw [ex5_19]; rfl) (by decide) rfl (lv' := [(5, .int x5_19), (4, .int j_18), (0, .ref (w.2.2 0)), (1, .int y1), (2, .int y2), (3, .int x3_17), (6, .int r_13)]) ?_
          refine z_goto C 64 dX6_which_108 (by decide) ?_
          exact z_lv [2, 3, 4, 5, 1, 0] rfl (ih _ _ _ _ hf)
        replace hf := ej_18
        refine z_if_eq C 101 dX6_which_93 (by decide) (fun c_20 => ?_) (fun c_20 => ?_)
        · replace hf := ifp_t c_20 hf
          refine z_iload C 4 dX6_which_101 rfl ?_
          subst hf
          exact z_lv [1, 2, 3, 0, 4, 5, 6] rfl hjj_18
        · replace hf := ifp_f c_20 hf
          refine z_iload C 5 dX6_which_96 rfl ?_
          refine z_goto C 103 dX6_which_98 (by decide) ?_
          subst hf
          exact z_lv [1, 2, 3, 0, 4, 5, 6] rfl hjj_18
      replace hf := ej_16
      refine z_if_eq C 88 dX6_which_81 (by decide) (fun c_21 => ?_) (fun c_21 => ?_)
      · replace hf := ifp_t c_21 hf
        refine z_iconst C 0 dX6_which_88 (by decide) ?_
        subst hf
        exact z_lv [1, 2, 3, 4, 5, 6, 0] rfl hjj_16
      · replace hf := ifp_f c_21 hf
        refine z_iconst C 1 dX6_which_84 (by decide) ?_
        refine z_goto C 89 dX6_which_85 (by decide) ?_
        subst hf
        exact z_lv [1, 2, 3, 4, 5, 6, 0] rfl hjj_16
set_option maxHeartbeats 4000000 in
set_option maxRecDepth 100000 in
theorem tX6_which (l : Launch) (w : ZW) {σ σ' : ZS} {p1 : Int32} {p2 : Int32} {r : Int32} (hf : fX6_which σ p1 p2 = some (r, σ')) : zC l w zLm yX6_which (ws_ yX6_which cX6_which 7 (some .int)) 7 115 [.ref (w.2.2 0), .int p1, .int p2] σ (.returned (some (.int r))) σ' := by
  refine zC.of (plainFor_of_name (by decide)) (Nat.le_of_ble_eq_true rfl) ?_
  intro p e s m args below meth c C hnm
  show Z p l e _ s m args below meth c _ w _ _ 7 σ 0 [(0, .ref (w.2.2 0)), (1, .int p1), (2, .int p2)] []
  unfold fX6_which at hf
  refine z_iload_n C 1 dX6_which_0 rfl rfl ?_
  refine z_calli C (rest := []) (av := [.int p1]) (zPay.of q1765 q83) (fun H ls hH h2 => zInv_S C (As := [.int p1]) (rest := []) q1763 q1764 q83 (Or.inl rfl) q1765 mh_X6 np_X6_isSheet dX6_which_1) (tX6_isSheet l w zLm σ p1) (Nat.le_of_ble_eq_true rfl) (Nat.le_of_ble_eq_true rfl) ?_
  refine z_if_eq C 16 dX6_which_4 (by decide) (fun c_1 => ?_) (fun c_1 => ?_)
  · replace hf := if_t c_1 hf
    refine z_aload_n C 0 dX6_which_16 rfl rfl ?_
    refine z_ldc C dX6_which_17 q1484 ?_
    obtain ⟨r_2, σ_4, e_3, hf⟩ := bd_ hf
    refine z_calli C (rest := []) (av := (.ref (w.2.2 0) :: [.int (-1000000001)])) (zPay.of q1488 q83) (fun H ls hH h2 => zInv_V C (As := [.int (-1000000001)]) (rest := []) (ci := 6) (T := TX6) (N := 24) rfl (zSee.fix ly_m0) hH q1485 q1487 qs32 (Or.inl rfl) q1488 mh_X6 np_X6_finding dX6_which_19) (tX6_finding l w e_3) (Nat.le_of_ble_eq_true rfl) (Nat.le_of_ble_eq_true rfl) ?_
    obtain ⟨rfl, rfl⟩ := fin_ hf
    exact z_iret C rfl dX6_which_22
  · replace hf := if_f c_1 hf
    refine z_iload_n C 2 dX6_which_7 rfl rfl ?_
    refine z_iconst C 0 dX6_which_8 (by decide) ?_
    refine z_iconst C 1 dX6_which_9 (by decide) ?_
    refine z_calli C (rest := []) (av := [.int p2, .int 0, .int 1]) (zPay.of q1483 q83) (fun H ls hH h2 => zInv_S C (As := [.int p2, .int 0, .int 1]) (rest := []) q1481 q1482 q83 (Or.inl rfl) q1483 mh_X6 np_X6_within dX6_which_10) (tX6_within l w zLm σ p2 0 1) (Nat.le_of_ble_eq_true rfl) (Nat.le_of_ble_eq_true rfl) ?_
    refine z_if_ne C 23 dX6_which_13 (by decide) (fun c_5 => ?_) (fun c_5 => ?_)
    · replace hf := if_f c_5 hf
      refine z_aload_n C 0 dX6_which_23 rfl rfl ?_
      refine z_getR C ly_m0 (Cn := RX6) (T := TX6) (N := 24) rfl in_X6 20 (by decide) q1424 (Or.inl rfl) rfl dX6_which_24 ?_
      refine z_iload_n C 1 dX6_which_27 rfl rfl ?_
      obtain ⟨g_6, hf⟩ := gd_ hf
      refine z_ialoadF C ly_m21 g_6 dX6_which_28 ?_
      refine z_if_eq C 47 dX6_which_29 (by decide) (fun c_7 => ?_) (fun c_7 => ?_)
      · replace hf := if_t c_7 hf
        refine z_aload_n C 0 dX6_which_47 rfl rfl ?_
        refine z_ldc_w C dX6_which_48 q1742 ?_
        obtain ⟨r_8, σ_10, e_9, hf⟩ := bd_ hf
        refine z_calli C (rest := []) (av := (.ref (w.2.2 0) :: [.int (-1000000002)])) (zPay.of q1488 q83) (fun H ls hH h2 => zInv_V C (As := [.int (-1000000002)]) (rest := []) (ci := 6) (T := TX6) (N := 24) rfl (zSee.fix ly_m0) hH q1485 q1487 qs32 (Or.inl rfl) q1488 mh_X6 np_X6_finding dX6_which_51) (tX6_finding l w e_9) (Nat.le_of_ble_eq_true rfl) (Nat.le_of_ble_eq_true rfl) ?_
        obtain ⟨rfl, rfl⟩ := fin_ hf
        exact z_iret C rfl dX6_which_54
      · replace hf := if_f c_7 hf
        refine z_aload_n C 0 dX6_which_32 rfl rfl ?_
        refine z_getR C ly_m0 (Cn := RX6) (T := TX6) (N := 24) rfl in_X6 21 (by decide) q1425 (Or.inl rfl) rfl dX6_which_33 ?_
        refine z_iload_n C 1 dX6_which_36 rfl rfl ?_
        refine z_ialoadF C ly_m22 g_6 dX6_which_37 ?_
        refine z_aload_n C 0 dX6_which_38 rfl rfl ?_
        refine z_getR C ly_m0 (Cn := RX6) (T := TX6) (N := 24) rfl in_X6 0 (by decide) q1404 (Or.inl rfl) rfl dX6_which_39 ?_
        refine z_iconst C 1 dX6_which_42 (by decide) ?_
        refine z_ialoadF C ly_m1 (by decide) dX6_which_43 ?_
        refine z_icmp_eq C 55 dX6_which_44 (by decide) (fun c_11 => ?_) (fun c_11 => ?_)
        · replace hf := if_t c_11 hf
          refine z_iconst C 0 dX6_which_55 (by decide) ?_
          refine z_istore_n C dX6_which_56 rfl (by decide) rfl (lv' := [(3, .int 0), (0, .ref (w.2.2 0)), (1, .int p1), (2, .int p2)]) ?_
          refine z_iconst C (-1) dX6_which_57 (by decide) ?_
          refine z_istore C dX6_which_58 (by decide) rfl (lv' := [(4, .int (-1)), (3, .int 0), (0, .ref (w.2.2 0)), (1, .int p1), (2, .int p2)]) ?_
          refine z_bipush C 99 dX6_which_60 (by decide) ?_
          refine z_istore C dX6_which_62 (by decide) rfl (lv' := [(5, .int 99), (4, .int (-1)), (3, .int 0), (0, .ref (w.2.2 0)), (1, .int p1), (2, .int p2)]) ?_
          obtain ⟨⟨x3_22, x4_23, x5_24⟩, σ_25, e_26, hf⟩ := bd_ hf
          try dsimp only at hf
          refine z_lv (lv' := [(0, .ref (w.2.2 0)), (1, .int p1), (2, .int p2), (3, .int 0), (4, .int (-1)), (5, .int 99)]) [3, 4, 5, 2, 1, 0] rfl ?_
          refine lfX6_which_L64 C (Nat.le_of_ble_eq_true rfl) (Nat.le_of_ble_eq_true rfl) p1 p2 ?_ _ _ _ _ _ e_26
          refine z_iload_n C 2 dX6_which_111 rfl rfl ?_
          obtain ⟨j_27, σ_28, e_29, hf⟩ := bd_ hf
          have hje_29 : Z p l e (zRm 7 115 σ) s m args below meth c (zQ below w zLm σ (.returned (some (.int r))) σ' args s) w zLm (zA w zLm σ) 7 σ_28 136 [(0, .ref (w.2.2 0)), (1, .int p1), (2, .int p2), (3, .int x3_22), (4, .int x4_23), (5, .int x5_24)] [.int j_27] := by
            obtain ⟨rfl, rfl⟩ := fin_ hf
            exact z_iret C rfl dX6_which_136
          replace hf := e_29
          refine z_if_ne C 119 dX6_which_112 (by decide) (fun c_30 => ?_) (fun c_30 => ?_)
          · replace hf := if_f c_30 hf
            refine z_iload C 4 dX6_which_119 rfl ?_
            refine z_if_ge C 134 dX6_which_121 (by decide) (fun c_31 => ?_) (fun c_31 => ?_)
            · replace hf := if_t c_31 hf
              refine z_iload C 4 dX6_which_134 rfl ?_
              obtain ⟨rfl, rfl⟩ := fin_ hf
              exact hje_29
            · replace hf := if_f c_31 hf
              refine z_aload_n C 0 dX6_which_124 rfl rfl ?_
              refine z_ldc_w C dX6_which_125 q1742 ?_
              obtain ⟨r_32, σ_34, e_33, hf⟩ := bd_ hf
              refine z_calli C (rest := []) (av := (.ref (w.2.2 0) :: [.int (-1000000002)])) (zPay.of q1488 q83) (fun H ls hH h2 => zInv_V C (As := [.int (-1000000002)]) (rest := []) (ci := 6) (T := TX6) (N := 24) rfl (zSee.fix ly_m0) hH q1485 q1487 qs32 (Or.inl rfl) q1488 mh_X6 np_X6_finding dX6_which_128) (tX6_finding l w e_33) (Nat.le_of_ble_eq_true rfl) (Nat.le_of_ble_eq_true rfl) ?_
              refine z_goto C 136 dX6_which_131 (by decide) ?_
              obtain ⟨rfl, rfl⟩ := fin_ hf
              exact hje_29
          · replace hf := if_t c_30 hf
            refine z_iload_n C 3 dX6_which_115 rfl rfl ?_
            refine z_goto C 136 dX6_which_116 (by decide) ?_
            obtain ⟨rfl, rfl⟩ := fin_ hf
            exact hje_29
        · replace hf := if_f c_11 hf
          refine z_aload_n C 0 dX6_which_47 rfl rfl ?_
          refine z_ldc_w C dX6_which_48 q1742 ?_
          obtain ⟨r_35, σ_37, e_36, hf⟩ := bd_ hf
          refine z_calli C (rest := []) (av := (.ref (w.2.2 0) :: [.int (-1000000002)])) (zPay.of q1488 q83) (fun H ls hH h2 => zInv_V C (As := [.int (-1000000002)]) (rest := []) (ci := 6) (T := TX6) (N := 24) rfl (zSee.fix ly_m0) hH q1485 q1487 qs32 (Or.inl rfl) q1488 mh_X6 np_X6_finding dX6_which_51) (tX6_finding l w e_36) (Nat.le_of_ble_eq_true rfl) (Nat.le_of_ble_eq_true rfl) ?_
          obtain ⟨rfl, rfl⟩ := fin_ hf
          exact z_iret C rfl dX6_which_54
    · replace hf := if_t c_5 hf
      refine z_aload_n C 0 dX6_which_16 rfl rfl ?_
      refine z_ldc C dX6_which_17 q1484 ?_
      obtain ⟨r_38, σ_40, e_39, hf⟩ := bd_ hf
      refine z_calli C (rest := []) (av := (.ref (w.2.2 0) :: [.int (-1000000001)])) (zPay.of q1488 q83) (fun H ls hH h2 => zInv_V C (As := [.int (-1000000001)]) (rest := []) (ci := 6) (T := TX6) (N := 24) rfl (zSee.fix ly_m0) hH q1485 q1487 qs32 (Or.inl rfl) q1488 mh_X6 np_X6_finding dX6_which_19) (tX6_finding l w e_39) (Nat.le_of_ble_eq_true rfl) (Nat.le_of_ble_eq_true rfl) ?_
      obtain ⟨rfl, rfl⟩ := fin_ hf
      exact z_iret C rfl dX6_which_22
def fX6_voice (σ : ZS) (p1 : Int32) (p2 : Int32) (p3 : Int32) : Option (Int32 × ZS) := if (fX6_isShip σ p1) = 0 then (bd (fX6_finding σ (-1000000001)) (fun r_2 σ_4 => some (r_2, σ_4))) else (if (fX6_within p2 0 3) = 0 then (bd (fX6_finding σ (-1000000001)) (fun r_28 σ_30 => some (r_28, σ_30))) else (bo (fX6_shipIs (sI σ 0 16 0) p1 0) (fun r_6 => bo (fX6_shipIs (sI (sI (sI σ 0 16 0) 0 17 r_6) 0 18 p1) p1 1) (fun r_8 => bd (if p2 = 0 then (bd (fX6_sailsOf (sI (sI (sI (sI σ 0 16 0) 0 17 r_6) 0 18 p1) 0 19 r_8) p3) (fun r_25 σ_27 => some (r_25, σ_27))) else (if p2 = 1 then (bd (fX6_steersOf (sI (sI (sI (sI σ 0 16 0) 0 17 r_6) 0 18 p1) 0 19 r_8) p3) (fun r_22 σ_24 => some (r_22, σ_24))) else (if p2 = 2 then (bd (fX6_soundsOf (sI (sI (sI (sI σ 0 16 0) 0 17 r_6) 0 18 p1) 0 19 r_8) p3) (fun r_19 σ_21 => some (r_19, σ_21))) else (bd (fX6_logsOf (sI (sI (sI (sI σ 0 16 0) 0 17 r_6) 0 18 p1) 0 19 r_8) p3) (fun r_16 σ_18 => some (r_16, σ_18)))))) (fun (j_10 : Int32) σ_11 => some (j_10, σ_11))))))
set_option maxHeartbeats 4000000 in
set_option maxRecDepth 100000 in
theorem tX6_voice (l : Launch) (w : ZW) {σ σ' : ZS} {p1 : Int32} {p2 : Int32} {p3 : Int32} {r : Int32} (hf : fX6_voice σ p1 p2 p3 = some (r, σ')) : zC l w zLm yX6_voice (ws_ yX6_voice cX6_voice 4 (some .int)) 6 87 [.ref (w.2.2 0), .int p1, .int p2, .int p3] σ (.returned (some (.int r))) σ' := by
  refine zC.of (plainFor_of_name (by decide)) (Nat.le_of_ble_eq_true rfl) ?_
  intro p e s m args below meth c C hnm
  show Z p l e _ s m args below meth c _ w _ _ 4 σ 0 [(0, .ref (w.2.2 0)), (1, .int p1), (2, .int p2), (3, .int p3)] []
  unfold fX6_voice at hf
  refine z_aload_n C 0 dX6_voice_0 rfl rfl ?_
  refine z_iload_n C 1 dX6_voice_1 rfl rfl ?_
  refine z_calli C (rest := []) (av := (.ref (w.2.2 0) :: [.int p1])) (zPay.of q1664 q83) (fun H ls hH h2 => zInv_V C (As := [.int p1]) (rest := []) (ci := 6) (T := TX6) (N := 24) rfl (zSee.fix ly_m0) hH q1661 q1663 qs55 (Or.inl rfl) q1664 mh_X6 np_X6_isShip dX6_voice_2) (tX6_isShip l w σ p1) (Nat.le_of_ble_eq_true rfl) (Nat.le_of_ble_eq_true rfl) ?_
  refine z_if_eq C 17 dX6_voice_5 (by decide) (fun c_1 => ?_) (fun c_1 => ?_)
  · replace hf := if_t c_1 hf
    refine z_aload_n C 0 dX6_voice_17 rfl rfl ?_
    refine z_ldc C dX6_voice_18 q1484 ?_
    obtain ⟨r_2, σ_4, e_3, hf⟩ := bd_ hf
    refine z_calli C (rest := []) (av := (.ref (w.2.2 0) :: [.int (-1000000001)])) (zPay.of q1488 q83) (fun H ls hH h2 => zInv_V C (As := [.int (-1000000001)]) (rest := []) (ci := 6) (T := TX6) (N := 24) rfl (zSee.fix ly_m0) hH q1485 q1487 qs32 (Or.inl rfl) q1488 mh_X6 np_X6_finding dX6_voice_20) (tX6_finding l w e_3) (Nat.le_of_ble_eq_true rfl) (Nat.le_of_ble_eq_true rfl) ?_
    obtain ⟨rfl, rfl⟩ := fin_ hf
    exact z_iret C rfl dX6_voice_23
  · replace hf := if_f c_1 hf
    refine z_iload_n C 2 dX6_voice_8 rfl rfl ?_
    refine z_iconst C 0 dX6_voice_9 (by decide) ?_
    refine z_iconst C 3 dX6_voice_10 (by decide) ?_
    refine z_calli C (rest := []) (av := [.int p2, .int 0, .int 3]) (zPay.of q1483 q83) (fun H ls hH h2 => zInv_S C (As := [.int p2, .int 0, .int 3]) (rest := []) q1481 q1482 q83 (Or.inl rfl) q1483 mh_X6 np_X6_within dX6_voice_11) (tX6_within l w zLm σ p2 0 3) (Nat.le_of_ble_eq_true rfl) (Nat.le_of_ble_eq_true rfl) ?_
    refine z_if_ne C 24 dX6_voice_14 (by decide) (fun c_5 => ?_) (fun c_5 => ?_)
    · replace hf := if_f c_5 hf
      refine z_aload_n C 0 dX6_voice_24 rfl rfl ?_
      refine z_iconst C 0 dX6_voice_25 (by decide) ?_
      refine z_putI C ly_m0 (k := 16) rfl (zPut C (Cn := RX6) (T := TX6) (N := 24) rfl in_X6 tyX6 tyX6_ok nmX6 16 (by decide) q1420 (Or.inl rfl) rfl rfl rfl (zFs_lt (Nat.le_of_ble_eq_true rfl)) dX6_voice_26) ?_
      refine z_aload_n C 0 dX6_voice_29 rfl rfl ?_
      refine z_aload_n C 0 dX6_voice_30 rfl rfl ?_
      refine z_iload_n C 1 dX6_voice_31 rfl rfl ?_
      refine z_iconst C 0 dX6_voice_32 (by decide) ?_
      obtain ⟨r_6, e_7, hf⟩ := bo_ hf
      refine z_calli C (rest := [.ref (w.2.2 0)]) (av := (.ref (w.2.2 0) :: [.int p1, .int 0])) (zPay.of q1628 q83) (fun H ls hH h2 => zInv_V C (As := [.int p1, .int 0]) (rest := [.ref (w.2.2 0)]) (ci := 6) (T := TX6) (N := 24) rfl (zSee.fix ly_m0) hH q1625 q1627 qs53 (Or.inl rfl) q1628 mh_X6 np_X6_shipIs dX6_voice_33) (tX6_shipIs l w e_7) (Nat.le_of_ble_eq_true rfl) (Nat.le_of_ble_eq_true rfl) ?_
      refine z_putI C ly_m0 (k := 17) rfl (zPut C (Cn := RX6) (T := TX6) (N := 24) rfl in_X6 tyX6 tyX6_ok nmX6 17 (by decide) q1421 (Or.inl rfl) rfl rfl rfl (zFs_lt (Nat.le_of_ble_eq_true rfl)) dX6_voice_36) ?_
      refine z_aload_n C 0 dX6_voice_39 rfl rfl ?_
      refine z_iload_n C 1 dX6_voice_40 rfl rfl ?_
      refine z_putI C ly_m0 (k := 18) rfl (zPut C (Cn := RX6) (T := TX6) (N := 24) rfl in_X6 tyX6 tyX6_ok nmX6 18 (by decide) q1422 (Or.inl rfl) rfl rfl rfl (zFs_lt (Nat.le_of_ble_eq_true rfl)) dX6_voice_41) ?_
      refine z_aload_n C 0 dX6_voice_44 rfl rfl ?_
      refine z_aload_n C 0 dX6_voice_45 rfl rfl ?_
      refine z_iload_n C 1 dX6_voice_46 rfl rfl ?_
      refine z_iconst C 1 dX6_voice_47 (by decide) ?_
      obtain ⟨r_8, e_9, hf⟩ := bo_ hf
      refine z_calli C (rest := [.ref (w.2.2 0)]) (av := (.ref (w.2.2 0) :: [.int p1, .int 1])) (zPay.of q1628 q83) (fun H ls hH h2 => zInv_V C (As := [.int p1, .int 1]) (rest := [.ref (w.2.2 0)]) (ci := 6) (T := TX6) (N := 24) rfl (zSee.fix ly_m0) hH q1625 q1627 qs53 (Or.inl rfl) q1628 mh_X6 np_X6_shipIs dX6_voice_48) (tX6_shipIs l w e_9) (Nat.le_of_ble_eq_true rfl) (Nat.le_of_ble_eq_true rfl) ?_
      refine z_putI C ly_m0 (k := 19) rfl (zPut C (Cn := RX6) (T := TX6) (N := 24) rfl in_X6 tyX6 tyX6_ok nmX6 19 (by decide) q1423 (Or.inl rfl) rfl rfl rfl (zFs_lt (Nat.le_of_ble_eq_true rfl)) dX6_voice_51) ?_
      refine z_iload_n C 2 dX6_voice_54 rfl rfl ?_
      obtain ⟨j_10, σ_11, e_12, hf⟩ := bd_ hf
      have hje_12 : Z p l e (zRm 6 87 σ) s m args below meth c (zQ below w zLm σ (.returned (some (.int r))) σ' args s) w zLm (zA w zLm σ) 4 σ_11 97 [(0, .ref (w.2.2 0)), (1, .int p1), (2, .int p2), (3, .int p3)] [.int j_10] := by
        obtain ⟨rfl, rfl⟩ := fin_ hf
        exact z_iret C rfl dX6_voice_97
      replace hf := e_12
      refine z_if_ne C 66 dX6_voice_55 (by decide) (fun c_13 => ?_) (fun c_13 => ?_)
      · replace hf := if_f c_13 hf
        refine z_iload_n C 2 dX6_voice_66 rfl rfl ?_
        refine z_iconst C 1 dX6_voice_67 (by decide) ?_
        refine z_icmp_ne C 79 dX6_voice_68 (by decide) (fun c_14 => ?_) (fun c_14 => ?_)
        · replace hf := if_f c_14 hf
          refine z_iload_n C 2 dX6_voice_79 rfl rfl ?_
          refine z_iconst C 2 dX6_voice_80 (by decide) ?_
          refine z_icmp_ne C 92 dX6_voice_81 (by decide) (fun c_15 => ?_) (fun c_15 => ?_)
          · replace hf := if_f c_15 hf
            refine z_aload_n C 0 dX6_voice_92 rfl rfl ?_
            refine z_iload_n C 3 dX6_voice_93 rfl rfl ?_
            obtain ⟨r_16, σ_18, e_17, hf⟩ := bd_ hf
            refine z_calli C (rest := []) (av := (.ref (w.2.2 0) :: [.int p3])) (zPay.of q1821 q83) (fun H ls hH h2 => zInv_V C (As := [.int p3]) (rest := []) (ci := 6) (T := TX6) (N := 24) rfl (zSee.fix ly_m0) hH q1818 q1820 qs71 (Or.inl rfl) q1821 mh_X6 np_X6_logsOf dX6_voice_94) (tX6_logsOf l w e_17) (Nat.le_of_ble_eq_true rfl) (Nat.le_of_ble_eq_true rfl) ?_
            obtain ⟨rfl, rfl⟩ := fin_ hf
            exact hje_12
          · replace hf := if_t c_15 hf
            refine z_aload_n C 0 dX6_voice_84 rfl rfl ?_
            refine z_iload_n C 3 dX6_voice_85 rfl rfl ?_
            obtain ⟨r_19, σ_21, e_20, hf⟩ := bd_ hf
            refine z_calli C (rest := []) (av := (.ref (w.2.2 0) :: [.int p3])) (zPay.of q1817 q83) (fun H ls hH h2 => zInv_V C (As := [.int p3]) (rest := []) (ci := 6) (T := TX6) (N := 24) rfl (zSee.fix ly_m0) hH q1814 q1816 qs70 (Or.inl rfl) q1817 mh_X6 np_X6_soundsOf dX6_voice_86) (tX6_soundsOf l w e_20) (Nat.le_of_ble_eq_true rfl) (Nat.le_of_ble_eq_true rfl) ?_
            refine z_goto C 97 dX6_voice_89 (by decide) ?_
            obtain ⟨rfl, rfl⟩ := fin_ hf
            exact hje_12
        · replace hf := if_t c_14 hf
          refine z_aload_n C 0 dX6_voice_71 rfl rfl ?_
          refine z_iload_n C 3 dX6_voice_72 rfl rfl ?_
          obtain ⟨r_22, σ_24, e_23, hf⟩ := bd_ hf
          refine z_calli C (rest := []) (av := (.ref (w.2.2 0) :: [.int p3])) (zPay.of q1813 q83) (fun H ls hH h2 => zInv_V C (As := [.int p3]) (rest := []) (ci := 6) (T := TX6) (N := 24) rfl (zSee.fix ly_m0) hH q1810 q1812 qs69 (Or.inl rfl) q1813 mh_X6 np_X6_steersOf dX6_voice_73) (tX6_steersOf l w e_23) (Nat.le_of_ble_eq_true rfl) (Nat.le_of_ble_eq_true rfl) ?_
          refine z_goto C 97 dX6_voice_76 (by decide) ?_
          obtain ⟨rfl, rfl⟩ := fin_ hf
          exact hje_12
      · replace hf := if_t c_13 hf
        refine z_aload_n C 0 dX6_voice_58 rfl rfl ?_
        refine z_iload_n C 3 dX6_voice_59 rfl rfl ?_
        obtain ⟨r_25, σ_27, e_26, hf⟩ := bd_ hf
        refine z_calli C (rest := []) (av := (.ref (w.2.2 0) :: [.int p3])) (zPay.of q1805 q83) (fun H ls hH h2 => zInv_V C (As := [.int p3]) (rest := []) (ci := 6) (T := TX6) (N := 24) rfl (zSee.fix ly_m0) hH q1802 q1804 qs67 (Or.inl rfl) q1805 mh_X6 np_X6_sailsOf dX6_voice_60) (tX6_sailsOf l w e_26) (Nat.le_of_ble_eq_true rfl) (Nat.le_of_ble_eq_true rfl) ?_
        refine z_goto C 97 dX6_voice_63 (by decide) ?_
        obtain ⟨rfl, rfl⟩ := fin_ hf
        exact hje_12
    · replace hf := if_t c_5 hf
      refine z_aload_n C 0 dX6_voice_17 rfl rfl ?_
      refine z_ldc C dX6_voice_18 q1484 ?_
      obtain ⟨r_28, σ_30, e_29, hf⟩ := bd_ hf
      refine z_calli C (rest := []) (av := (.ref (w.2.2 0) :: [.int (-1000000001)])) (zPay.of q1488 q83) (fun H ls hH h2 => zInv_V C (As := [.int (-1000000001)]) (rest := []) (ci := 6) (T := TX6) (N := 24) rfl (zSee.fix ly_m0) hH q1485 q1487 qs32 (Or.inl rfl) q1488 mh_X6 np_X6_finding dX6_voice_20) (tX6_finding l w e_29) (Nat.le_of_ble_eq_true rfl) (Nat.le_of_ble_eq_true rfl) ?_
      obtain ⟨rfl, rfl⟩ := fin_ hf
      exact z_iret C rfl dX6_voice_23
def fX6_ofCell (σ : ZS) (p1 : Int32) (p2 : Int32) : Option (Int32 × ZS) := if (fX6_isCell σ p1) = 0 then (bd (fX6_finding σ (-1000000001)) (fun r_2 σ_4 => some (r_2, σ_4))) else (if (fX6_within p2 0 5) = 0 then (bd (fX6_finding σ (-1000000001)) (fun r_22 σ_24 => some (r_22, σ_24))) else (bd (if 3 ≤ p2 then (if p2 = 3 then (bd (fX6_trueDepth σ p1) (fun r_17 σ_19 => some (r_17, σ_19))) else (if p2 = 4 then (bd (fX6_shown σ p1 (σ.1 1 (4 : Int32).toNatClampNeg)) (fun r_14 σ_16 => some (r_14, σ_16))) else (bo (fX6_shipsAt σ p1) (fun r_12 => some (r_12, σ))))) else (bo (fX6_cellIs σ p1 p2) (fun r_20 => some (r_20, σ)))) (fun (j_6 : Int32) σ_7 => some (j_6, σ_7))))
set_option maxHeartbeats 4000000 in
set_option maxRecDepth 100000 in
theorem tX6_ofCell (l : Launch) (w : ZW) {σ σ' : ZS} {p1 : Int32} {p2 : Int32} {r : Int32} (hf : fX6_ofCell σ p1 p2 = some (r, σ')) : zC l w zLm yX6_ofCell (ws_ yX6_ofCell cX6_ofCell 3 (some .int)) 6 97 [.ref (w.2.2 0), .int p1, .int p2] σ (.returned (some (.int r))) σ' := by
  refine zC.of (plainFor_of_name (by decide)) (Nat.le_of_ble_eq_true rfl) ?_
  intro p e s m args below meth c C hnm
  show Z p l e _ s m args below meth c _ w _ _ 3 σ 0 [(0, .ref (w.2.2 0)), (1, .int p1), (2, .int p2)] []
  unfold fX6_ofCell at hf
  refine z_aload_n C 0 dX6_ofCell_0 rfl rfl ?_
  refine z_iload_n C 1 dX6_ofCell_1 rfl rfl ?_
  refine z_calli C (rest := []) (av := (.ref (w.2.2 0) :: [.int p1])) (zPay.of q1593 q83) (fun H ls hH h2 => zInv_V C (As := [.int p1]) (rest := []) (ci := 6) (T := TX6) (N := 24) rfl (zSee.fix ly_m0) hH q1590 q1592 qs46 (Or.inl rfl) q1593 mh_X6 np_X6_isCell dX6_ofCell_2) (tX6_isCell l w σ p1) (Nat.le_of_ble_eq_true rfl) (Nat.le_of_ble_eq_true rfl) ?_
  refine z_if_eq C 17 dX6_ofCell_5 (by decide) (fun c_1 => ?_) (fun c_1 => ?_)
  · replace hf := if_t c_1 hf
    refine z_aload_n C 0 dX6_ofCell_17 rfl rfl ?_
    refine z_ldc C dX6_ofCell_18 q1484 ?_
    obtain ⟨r_2, σ_4, e_3, hf⟩ := bd_ hf
    refine z_calli C (rest := []) (av := (.ref (w.2.2 0) :: [.int (-1000000001)])) (zPay.of q1488 q83) (fun H ls hH h2 => zInv_V C (As := [.int (-1000000001)]) (rest := []) (ci := 6) (T := TX6) (N := 24) rfl (zSee.fix ly_m0) hH q1485 q1487 qs32 (Or.inl rfl) q1488 mh_X6 np_X6_finding dX6_ofCell_20) (tX6_finding l w e_3) (Nat.le_of_ble_eq_true rfl) (Nat.le_of_ble_eq_true rfl) ?_
    obtain ⟨rfl, rfl⟩ := fin_ hf
    exact z_iret C rfl dX6_ofCell_23
  · replace hf := if_f c_1 hf
    refine z_iload_n C 2 dX6_ofCell_8 rfl rfl ?_
    refine z_iconst C 0 dX6_ofCell_9 (by decide) ?_
    refine z_iconst C 5 dX6_ofCell_10 (by decide) ?_
    refine z_calli C (rest := []) (av := [.int p2, .int 0, .int 5]) (zPay.of q1483 q83) (fun H ls hH h2 => zInv_S C (As := [.int p2, .int 0, .int 5]) (rest := []) q1481 q1482 q83 (Or.inl rfl) q1483 mh_X6 np_X6_within dX6_ofCell_11) (tX6_within l w zLm σ p2 0 5) (Nat.le_of_ble_eq_true rfl) (Nat.le_of_ble_eq_true rfl) ?_
    refine z_if_ne C 24 dX6_ofCell_14 (by decide) (fun c_5 => ?_) (fun c_5 => ?_)
    · replace hf := if_f c_5 hf
      refine z_iload_n C 2 dX6_ofCell_24 rfl rfl ?_
      refine z_iconst C 3 dX6_ofCell_25 (by decide) ?_
      obtain ⟨j_6, σ_7, e_8, hf⟩ := bd_ hf
      have hje_8 : Z p l e (zRm 6 97 σ) s m args below meth c (zQ below w zLm σ (.returned (some (.int r))) σ' args s) w zLm (zA w zLm σ) 3 σ_7 75 [(0, .ref (w.2.2 0)), (1, .int p1), (2, .int p2)] [.int j_6] := by
        obtain ⟨rfl, rfl⟩ := fin_ hf
        exact z_iret C rfl dX6_ofCell_75
      replace hf := e_8
      refine z_icmp_ge C 38 dX6_ofCell_26 (by decide) (fun c_9 => ?_) (fun c_9 => ?_)
      · replace hf := if_t c_9 hf
        refine z_iload_n C 2 dX6_ofCell_38 rfl rfl ?_
        refine z_iconst C 3 dX6_ofCell_39 (by decide) ?_
        refine z_icmp_ne C 51 dX6_ofCell_40 (by decide) (fun c_10 => ?_) (fun c_10 => ?_)
        · replace hf := if_f c_10 hf
          refine z_iload_n C 2 dX6_ofCell_51 rfl rfl ?_
          refine z_iconst C 4 dX6_ofCell_52 (by decide) ?_
          refine z_icmp_ne C 70 dX6_ofCell_53 (by decide) (fun c_11 => ?_) (fun c_11 => ?_)
          · replace hf := if_f c_11 hf
            refine z_aload_n C 0 dX6_ofCell_70 rfl rfl ?_
            refine z_iload_n C 1 dX6_ofCell_71 rfl rfl ?_
            obtain ⟨r_12, e_13, hf⟩ := bo_ hf
            refine z_calli C (rest := []) (av := (.ref (w.2.2 0) :: [.int p1])) (zPay.of q1624 q83) (fun H ls hH h2 => zInv_V C (As := [.int p1]) (rest := []) (ci := 6) (T := TX6) (N := 24) rfl (zSee.fix ly_m0) hH q1621 q1623 qs52 (Or.inl rfl) q1624 mh_X6 np_X6_shipsAt dX6_ofCell_72) (tX6_shipsAt l w e_13) (Nat.le_of_ble_eq_true rfl) (Nat.le_of_ble_eq_true rfl) ?_
            obtain ⟨rfl, rfl⟩ := fin_ hf
            exact hje_8
          · replace hf := if_t c_11 hf
            refine z_aload_n C 0 dX6_ofCell_56 rfl rfl ?_
            refine z_iload_n C 1 dX6_ofCell_57 rfl rfl ?_
            refine z_aload_n C 0 dX6_ofCell_58 rfl rfl ?_
            refine z_getR C ly_m0 (Cn := RX6) (T := TX6) (N := 24) rfl in_X6 0 (by decide) q1404 (Or.inl rfl) rfl dX6_ofCell_59 ?_
            refine z_iconst C 4 dX6_ofCell_62 (by decide) ?_
            refine z_ialoadF C ly_m1 (by decide) dX6_ofCell_63 ?_
            obtain ⟨r_14, σ_16, e_15, hf⟩ := bd_ hf
            refine z_calli C (rest := []) (av := (.ref (w.2.2 0) :: [.int p1, .int (σ.1 1 (4 : Int32).toNatClampNeg)])) (zPay.of q1617 q83) (fun H ls hH h2 => zInv_V C (As := [.int p1, .int (σ.1 1 (4 : Int32).toNatClampNeg)]) (rest := []) (ci := 6) (T := TX6) (N := 24) rfl (zSee.fix ly_m0) hH q1614 q1616 qs51 (Or.inl rfl) q1617 mh_X6 np_X6_shown dX6_ofCell_64) (tX6_shown l w e_15) (Nat.le_of_ble_eq_true rfl) (Nat.le_of_ble_eq_true rfl) ?_
            refine z_goto C 75 dX6_ofCell_67 (by decide) ?_
            obtain ⟨rfl, rfl⟩ := fin_ hf
            exact hje_8
        · replace hf := if_t c_10 hf
          refine z_aload_n C 0 dX6_ofCell_43 rfl rfl ?_
          refine z_iload_n C 1 dX6_ofCell_44 rfl rfl ?_
          obtain ⟨r_17, σ_19, e_18, hf⟩ := bd_ hf
          refine z_calli C (rest := []) (av := (.ref (w.2.2 0) :: [.int p1])) (zPay.of q1605 q83) (fun H ls hH h2 => zInv_V C (As := [.int p1]) (rest := []) (ci := 6) (T := TX6) (N := 24) rfl (zSee.fix ly_m0) hH q1602 q1604 qs48 (Or.inl rfl) q1605 mh_X6 np_X6_trueDepth dX6_ofCell_45) (tX6_trueDepth l w e_18) (Nat.le_of_ble_eq_true rfl) (Nat.le_of_ble_eq_true rfl) ?_
          refine z_goto C 75 dX6_ofCell_48 (by decide) ?_
          obtain ⟨rfl, rfl⟩ := fin_ hf
          exact hje_8
      · replace hf := if_f c_9 hf
        refine z_aload_n C 0 dX6_ofCell_29 rfl rfl ?_
        refine z_iload_n C 1 dX6_ofCell_30 rfl rfl ?_
        refine z_iload_n C 2 dX6_ofCell_31 rfl rfl ?_
        obtain ⟨r_20, e_21, hf⟩ := bo_ hf
        refine z_calli C (rest := []) (av := (.ref (w.2.2 0) :: [.int p1, .int p2])) (zPay.of q1601 q83) (fun H ls hH h2 => zInv_V C (As := [.int p1, .int p2]) (rest := []) (ci := 6) (T := TX6) (N := 24) rfl (zSee.fix ly_m0) hH q1598 q1600 qs47 (Or.inl rfl) q1601 mh_X6 np_X6_cellIs dX6_ofCell_32) (tX6_cellIs l w e_21) (Nat.le_of_ble_eq_true rfl) (Nat.le_of_ble_eq_true rfl) ?_
        refine z_goto C 75 dX6_ofCell_35 (by decide) ?_
        obtain ⟨rfl, rfl⟩ := fin_ hf
        exact hje_8
    · replace hf := if_t c_5 hf
      refine z_aload_n C 0 dX6_ofCell_17 rfl rfl ?_
      refine z_ldc C dX6_ofCell_18 q1484 ?_
      obtain ⟨r_22, σ_24, e_23, hf⟩ := bd_ hf
      refine z_calli C (rest := []) (av := (.ref (w.2.2 0) :: [.int (-1000000001)])) (zPay.of q1488 q83) (fun H ls hH h2 => zInv_V C (As := [.int (-1000000001)]) (rest := []) (ci := 6) (T := TX6) (N := 24) rfl (zSee.fix ly_m0) hH q1485 q1487 qs32 (Or.inl rfl) q1488 mh_X6 np_X6_finding dX6_ofCell_20) (tX6_finding l w e_23) (Nat.le_of_ble_eq_true rfl) (Nat.le_of_ble_eq_true rfl) ?_
      obtain ⟨rfl, rfl⟩ := fin_ hf
      exact z_iret C rfl dX6_ofCell_23
